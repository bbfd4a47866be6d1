/-! the twin: process -/
section TW67
variable {K : xk} {M : xm} {d : Nat} {Q : Outcome → xh → Prop} {R : Nat → Int → Value} {g : Nat → Nat × List Value} {t u : Nat}
/-- what process keeps; x: the machine that is made -/
def fPc (A B : Nat → Int → Int) (x : Int) : Prop := (∀ j i, j ≠ 100 → (j < 105 ∨ 131 < j) → B j i = A j i) ∧ B 100 33 = A 100 33 ∧ B 100 12 = A 100 12 ∧ B 100 13 = A 100 13 ∧ B 100 0 = 0 ∧ rga B ∧ ∀ m, 0 ≤ m → m < 8 → m ≠ x → sameM A B m
theorem tM_of {A B : Nat → Int → Int} {m : Int} (h : ∀ j i, (j = 123 ∨ j = 124 ∨ j = 125) → 31 * m ≤ i → i < 31 * m + 31 → B j i = A j i) (h' : ∀ j i, (j = 126 ∨ j = 127 ∨ j = 128) → 186 * m ≤ i → i < 186 * m + 186 → B j i = A j i) : ∀ f s j, f ≤ 5 → 0 ≤ s → s < 31 → 0 ≤ j → j < 6 → tM B m f s j = tM A m f s j := fun f s j hf s0 s1 j0 j1 => by
  unfold tM
  split
  · exact h _ _ (by omega) (by omega) (by omega)
  · exact h' _ _ (by omega) (by omega) (by omega)
theorem cop_r (A : Nat → Int → Int) (f to : Int) (j : Nat) (i : Int) : tCop A f to j i = if (j = 126 ∨ j = 127 ∨ j = 128) ∧ 186 * to ≤ i ∧ i < 186 * to + 186 then A j (i - 186 * to + 186 * f) else if (j = 123 ∨ j = 124 ∨ j = 125) ∧ 31 * to ≤ i ∧ i < 31 * to + 31 then A j (i - 31 * to + 31 * f) else if j = 122 ∧ i = to then A 122 f else A j i := by
  unfold tCop tCopL tCopS
  by_cases h : (j = 126 ∨ j = 127 ∨ j = 128) ∧ 186 * to ≤ i ∧ i < 186 * to + 186
  · rw [if_pos h]
    obtain ⟨h1, h2⟩ := h
    rcases h1 with h1 | h1 | h1 <;> subst h1 <;> simp [cpy, au, h2]
  · rw [if_neg h]
    by_cases h' : (j = 123 ∨ j = 124 ∨ j = 125) ∧ 31 * to ≤ i ∧ i < 31 * to + 31
    · rw [if_pos h']
      obtain ⟨h1, h2⟩ := h'
      rcases h1 with h1 | h1 | h1 <;> subst h1 <;> simp [cpy, au, h2]
    · rw [if_neg h', ← au_ite]
      unfold cpy
      rw [if_neg (by omega), if_neg (by omega), if_neg (by omega), if_neg (by omega), if_neg (by omega), if_neg (by omega)]
theorem c_T_process {A : Nat → Int → Int} {len r : Int} {cx : Int → Int} (hB0 : tB A) (hT : txR A cx len) (hx : ∀ i, len ≤ i → cx i = -1) (hlen : len < 64) (hr : rg r) (hM : ∀ m, 0 ≤ m → m < 8 → mOK (tM A m) (A 122 m) ∧ 0 ≤ A 122 m ∧ A 122 m ≤ 30)
    (hbad : (r < 0 ∨ 3 < r ∨ A 100 13 = 0) → Q (.returned (some (iv (-1)))) (hp K.n A R g t u))
    (herr : ∀ e A', (0 ≤ r ∧ r ≤ 3 ∧ A 100 13 ≠ 0) → rdR cx true len = .inl e → 0 ≤ e → fr A A' → rga A' → Q (.returned (some (iv (-100 - e)))) (hp K.n (au A' 100 0 0) R g t u))
    (hno : ∀ τ B, (0 ≤ r ∧ r ≤ 3 ∧ A 100 13 ≠ 0) → rdR cx true len = .inr (τ, (szT τ : Int)) → fPc A B 8 → B 100 32 = A 100 32 → mch B 8 (some τ) → ¬ (A 122 r ≠ 0 ∧ refP (tM B 8) (tM B r) = true) → Q (.returned (some (iv (-2)))) (hp K.n B R g t u))
    (hok : ∀ τ B, (0 ≤ r ∧ r ≤ 3 ∧ A 100 13 ≠ 0) → rdR cx true len = .inr (τ, (szT τ : Int)) → fPc A B (4 + r) → B 100 32 = 0 → mch B (4 + r) (some τ) → A 122 r ≠ 0 → refP (tM B (4 + r)) (tM B r) = true → Q (.returned (some (iv (nS τ).1))) (hp K.n B R g t u)) :
    mx K M_T_process (d + 5) [.ref (xa K.n 32), iv r] (hp K.n A R g t u) Q := by
  have hA := hB0.1
  have hl := hT.1
  have hl0 : 0 ≤ len := by have := hB0.2.1; omega
  refine mx_in ok_T_process rfl (Nat.le_of_ble_eq_true rfl) ?_
  by_cases ho : r < 0 ∨ 3 < r
  · have fin := hbad (by omega)
    refine r_iload_n 0 rfl rfl ?_
    refine r_iconst 1 rfl ?_
    refine r_out_ne (tt := 15) 2 rfl l_T_117 rfl (by decide) (by first | exact hA _ _ | exact ⟨by decide, by decide⟩ | assumption | exact ⟨by omega, by omega⟩) (by first | exact hA _ _ | exact ⟨by decide, by decide⟩ | assumption | exact ⟨by omega, by omega⟩) (Nat.le_of_ble_eq_true rfl) (fun c_2 => ?_) (fun c_2 => by omega)
    refine r_iconst 7 rfl ?_
    refine r_iret 8 rfl rfl rfl ?_
    exact fin
  by_cases hz : A 100 13 = 0
  · have fin := hbad (Or.inr (Or.inr hz))
    refine r_iload_n 0 rfl rfl ?_
    refine r_iconst 1 rfl ?_
    refine r_out_ne (tt := 15) 2 rfl l_T_117 rfl (by decide) (by first | exact hA _ _ | exact ⟨by decide, by decide⟩ | assumption | exact ⟨by omega, by omega⟩) (by first | exact hA _ _ | exact ⟨by decide, by decide⟩ | assumption | exact ⟨by omega, by omega⟩) (Nat.le_of_ble_eq_true rfl) (fun c_2 => by omega) (fun c_2 => ?_)
    refine r_aload_n 4 rfl rfl ?_
    refine r_get 5 rfl f_T_203 (hp_at rfl) rfl ?_
    refine r_if_ne (t := 17) 6 rfl (by decide) (by first | exact hA _ _ | exact ⟨by decide, by decide⟩ | assumption | exact ⟨by omega, by omega⟩) (fun c_12 => by omega) (fun c_12 => ?_)
    refine r_iconst 7 rfl ?_
    refine r_iret 8 rfl rfl rfl ?_
    exact fin
  have hin : 0 ≤ r ∧ r ≤ 3 ∧ A 100 13 ≠ 0 := ⟨by omega, by omega, hz⟩
  refine r_iload_n 0 rfl rfl ?_
  refine r_iconst 1 rfl ?_
  refine r_out_ne (tt := 15) 2 rfl l_T_117 rfl (by decide) (by first | exact hA _ _ | exact ⟨by decide, by decide⟩ | assumption | exact ⟨by omega, by omega⟩) (by first | exact hA _ _ | exact ⟨by decide, by decide⟩ | assumption | exact ⟨by omega, by omega⟩) (Nat.le_of_ble_eq_true rfl) (fun c_2 => by omega) (fun c_2 => ?_)
  refine r_aload_n 4 rfl rfl ?_
  refine r_get 5 rfl f_T_203 (hp_at rfl) rfl ?_
  refine r_if_ne (t := 17) 6 rfl (by decide) (by first | exact hA _ _ | exact ⟨by decide, by decide⟩ | assumption | exact ⟨by omega, by omega⟩) (fun c_12 => ?_) (fun c_12 => by omega)
  refine r_aload_n 9 rfl rfl ?_
  refine r_bipush 10 rfl rfl ?_
  refine r_iconst 11 rfl ?_
  refine r_callv2 12 rfl l_T_199 (hp_at rfl) (Nat.le_of_ble_eq_true rfl) ?_
  refine c_T_read (md := true) hB0 (by omega) (by omega) hT hx (by omega) (fun e A' h1 h2 h3 h4 => cp1 ?_) (fun τ k A' h1 h2 h3 h4 h5 h6 h7 h8 h9 => cp1 ?_)
  · have fin := herr e A' hin h1 h2 h3 h4
    have he := rdR_er hx hl0 h1
    have hA := h4
    refine r_istore_n 13 rfl (Nat.le_of_ble_eq_true rfl) ?_
    refine r_iload_n 14 rfl rfl ?_
    refine r_if_ge (t := 31) 15 rfl (by decide) (by first | exact hA _ _ | exact ⟨by decide, by decide⟩ | assumption | exact ⟨by omega, by omega⟩) (fun c_26 => by omega) (fun c_26 => ?_)
    refine r_iload_n 16 rfl rfl ?_
    refine r_iret 17 rfl rfl rfl ?_
    exact fin
  obtain ⟨o1, o2, o3, o4, o5, o6, o7⟩ := rdR_ok hx h1
  have szp := szT_pos τ
  subst h6
  have hDA : rga (au A' 100 0 0) := rga_au h3 rg_0
  generalize hD : au A' 100 0 0 = D at hDA ⊢
  have Dr : ∀ (j : Nat) (i : Int), D j i = if j = 100 ∧ i = 0 then 0 else A' j i := fun j i => by rw [← hD, au_ite]
  have hGD : (tG D true τ).1 30 := (tG_frame A' D true τ).1 30 h5 (fun x _ _ => ⟨by rw [Dr, if_neg (by omega)], by rw [Dr, if_neg (by omega)], by rw [Dr, if_neg (by omega)], fun l _ _ => ⟨by rw [Dr, if_neg (by omega)], by rw [Dr, if_neg (by omega)], by rw [Dr, if_neg (by omega)]⟩⟩) h9
  obtain ⟨t1, t2⟩ := (tG_tR D τ).1 30 hGD
  have hgt : gT τ := ⟨h5, o7 rfl, o5, by omega⟩
  have d0 : ∀ (j : Nat) (i : Int), (j < 105 ∨ 110 < j) → j ≠ 115 → j ≠ 116 → (j = 100 → i ≠ 0 ∧ i ≠ 2 ∧ i ≠ 3 ∧ i ≠ 4 ∧ i ≠ 14) → D j i = A j i := fun j i a b c e => by
    rw [Dr, if_neg (by omega)]
    exact h2 j i a b c (fun h => (e h).2)
  have hle := (nS_le τ).1
  refine r_istore_n 13 rfl (Nat.le_of_ble_eq_true rfl) ?_
  refine r_iload_n 14 rfl rfl ?_
  refine r_if_ge (t := 31) 15 rfl (by decide) (by first | exact hA _ _ | exact ⟨by decide, by decide⟩ | assumption | exact ⟨by omega, by omega⟩) (fun c_26 => ?_) (fun c_26 => by omega)
  refine r_aload_n 18 rfl rfl ?_
  refine r_bipush 19 rfl rfl ?_
  refine r_bipush 20 rfl rfl ?_
  refine r_callv2 21 rfl l_T_189 (hp_at rfl) (Nat.le_of_ble_eq_true rfl) ?_
  refine c_T_makeMachine (τ := τ) hDA (by decide) (by decide) t1 h5 hgt.2.1 (fun x hx' => by rw [t2] at hx'; split at hx' <;> omega) (fun x => by rw [t2]; split <;> omega) (by omega) o5 (fun B b1 b2 b3 => cp0 ?_)
  skip
  have hA := b1.2
  have b0 : ∀ (j : Nat) (i : Int), (j < 105 ∨ 131 < j) → (j = 100 → i ≠ 0 ∧ i ≠ 2 ∧ i ≠ 3 ∧ i ≠ 4 ∧ i ≠ 14) → B j i = A j i := fun j i a e => by
    rw [b1.1 j i (by omega) (by omega) (by omega) (by omega) (by omega) (by omega) (by omega)]
    exact d0 j i (by omega) (by omega) (by omega) e
  have b00 : B 100 0 = 0 := by rw [b1.1 100 0 (by decide) (by decide) (by omega) (by omega) (by omega) (by decide) (by decide), Dr, if_pos ⟨rfl, rfl⟩]
  have bM : ∀ m, 0 ≤ m → m < 8 → sameM A B m := fun m m0 m1 => by
    refine ⟨?_, tM_of (fun j i e e0 e1 => ?_) (fun j i e e0 e1 => ?_)⟩
    · rw [b1.1 122 m (by decide) (by decide) (by omega) (by omega) (by omega) (by decide) (by decide)]
      exact d0 122 m (by omega) (by decide) (by decide) (by omega)
    · rw [b1.1 j i (by omega) (by omega) (by omega) (by omega) (by omega) (by omega) (by omega)]
      exact d0 j i (by omega) (by omega) (by omega) (by omega)
    · rw [b1.1 j i (by omega) (by omega) (by omega) (by omega) (by omega) (by omega) (by omega)]
      exact d0 j i (by omega) (by omega) (by omega) (by omega)
  have hmch : mch B 8 (some τ) := ⟨hgt, b2, b3⟩
  obtain ⟨ok8, k80, k81⟩ := mch_ok hmch
  obtain ⟨okA, r80, r81⟩ := hM r (by omega) (by omega)
  have er : B 122 r = A 122 r := (bM r (by omega) (by omega)).1
  have okr : mOK (tM B r) (B 122 r) := by rw [er]; exact mOK_cg (sameM_eq (bM r (by omega) (by omega)).2 (by omega) okA) okA
  refine r_aload_n 22 rfl rfl ?_
  refine r_bipush 23 rfl rfl ?_
  refine r_iload_n 24 rfl rfl ?_
  refine r_callv2 25 rfl l_T_220 (hp_at rfl) (Nat.le_of_ble_eq_true rfl) ?_
  refine c_T_refines (m := 8) (p := r) hA (by decide) (by decide) (by omega) (by omega) ok8 okr k80 k81 (by omega) (by omega) (fun C c1 => cp1 ?_)
  skip
  have hA := c1.2
  have c0 : ∀ (j : Nat) (i : Int), (j < 105 ∨ 131 < j) → (j = 100 → i ≠ 0 ∧ i ≠ 2 ∧ i ≠ 3 ∧ i ≠ 4 ∧ i ≠ 14 ∧ i ≠ 18) → C j i = A j i := fun j i a e => by
    rw [c1.1 j i (by omega) (by omega) (by omega) (by omega)]
    exact b0 j i a (by omega)
  have cM : ∀ m, sameM B C m := fun m => ⟨c1.1 _ _ (by decide) (by decide) (by decide) (by omega), tM_of (fun j i e _ _ => c1.1 j i (by omega) (by omega) (by omega) (by omega)) (fun j i e _ _ => c1.1 j i (by omega) (by omega) (by omega) (by omega))⟩
  have mC : mch C 8 (some τ) := mch_fr (cM 8) hmch
  have eC : refP (tM C 8) (tM C r) = refP (tM B 8) (tM B r) ∨ ¬ (B 122 8 ≠ 0 ∧ B 122 r ≠ 0) := by
    by_cases h : B 122 8 ≠ 0 ∧ B 122 r ≠ 0
    · exact Or.inl (refP_cg (sameM_eq (cM 8).2 (by omega) ok8) (sameM_eq (cM r).2 (by omega) okr) ok8 okr (by omega) (by omega))
    · exact Or.inr h
  have n8 : 1 ≤ (nS τ).1 := by
    refine nS_hd τ ?_ h5
    rcases hdv_rg τ h5 with e | e
    · by_cases e0 : hdv τ = 0
      · exact Or.inl e0
      · have := hd_lo τ (hdv τ - 1) _ o5 (by omega) (by omega)
        rw [o6 _ (by omega)] at this; cases this
    · exact Or.inr e
  by_cases hc : B 122 8 ≠ 0 ∧ B 122 r ≠ 0 ∧ refP (tM B 8) (tM B r) = true
  · rw [if_pos hc]
    have hE : rga (tCop C 8 (4 + r)) := by
      unfold tCop tCopL tCopS
      exact rga_cpy (rga_cpy (rga_cpy (rga_cpy (rga_cpy (rga_cpy (rga_au hA (hA _ _)))))))
    have e122 : tCop C 8 (4 + r) 122 (4 + r) = (nS τ).1 := by rw [cop_r, if_neg (by omega), if_neg (by omega), if_pos ⟨rfl, rfl⟩]; exact mC.2.1
    generalize hF : au (tCop C 8 (4 + r)) 100 32 0 = F
    have Fr : ∀ (j : Nat) (i : Int), F j i = if j = 100 ∧ i = 32 then 0 else tCop C 8 (4 + r) j i := fun j i => by rw [← hF, au_ite]
    have f0 : ∀ (j : Nat) (i : Int), (j < 105 ∨ 131 < j) → (j = 100 → i ≠ 32 ∧ i ≠ 0 ∧ i ≠ 2 ∧ i ≠ 3 ∧ i ≠ 4 ∧ i ≠ 14 ∧ i ≠ 18) → F j i = A j i := fun j i a e => by
      rw [Fr, if_neg (by omega), cop_r, if_neg (by omega), if_neg (by omega), if_neg (by omega)]
      exact c0 j i a (by omega)
    have fM1 : ∀ m, m ≠ 4 + r → sameM C F m := fun m hm => by
      refine ⟨?_, tM_of (fun j i e _ _ => ?_) (fun j i e _ _ => ?_)⟩
      all_goals rw [Fr, if_neg (by omega), cop_r, if_neg (by omega), if_neg (by omega), if_neg (by omega)]
    have f48 : ∀ f s j, f ≤ 5 → 0 ≤ s → s < 31 → 0 ≤ j → j < 6 → tM F (4 + r) f s j = tM C 8 f s j := fun f s j hf s0 s1 j0 j1 => by
      unfold tM
      split
      · rw [Fr, if_neg (by omega), cop_r, if_neg (by omega), if_pos (by omega), show 31 * (4 + r) + s - 31 * (4 + r) + 31 * 8 = 31 * 8 + s by omega]
      · rw [Fr, if_neg (by omega), cop_r, if_pos (by omega), show 6 * (31 * (4 + r) + s) + j - 186 * (4 + r) + 186 * 8 = 6 * (31 * 8 + s) + j by omega]
    obtain ⟨okC, -, -⟩ := mch_ok mC
    have cr : C 122 r = A 122 r := (cM r).1.trans er
    have okCr : mOK (tM C r) (C 122 r) := by rw [cr, ← er]; exact mOK_cg (sameM_eq (cM r).2 (by omega) okr) okr
    have c8 : C 122 8 = (nS τ).1 := mC.2.1
    have e48 : eqM (tM C 8) (tM F (4 + r)) (C 122 8) := fun s s0 s1 => by
      have hcc := (okC s s0 s1).2.2.2.1
      exact ⟨f48 0 s 0 (by decide) s0 (by omega) (by omega) (by omega), f48 1 s 0 (by decide) s0 (by omega) (by omega) (by omega), f48 2 s 0 (by decide) s0 (by omega) (by omega) (by omega), fun j j0 j1 => ⟨f48 3 s j (by decide) s0 (by omega) j0 (by omega), f48 4 s j (by decide) s0 (by omega) j0 (by omega), f48 5 s j (by decide) s0 (by omega) j0 (by omega)⟩⟩
    have f122 : F 122 (4 + r) = (nS τ).1 := by rw [Fr, if_neg (by omega)]; exact e122
    have hFA : rga F := by rw [← hF]; exact rga_au hE rg_0
    have fin := hok τ F hin h1 ⟨fun j i a b => f0 j i b (fun h => absurd h a), f0 100 33 (by decide) (fun _ => ⟨by decide, by decide, by decide, by decide, by decide, by decide, by decide⟩), f0 100 12 (by decide) (fun _ => ⟨by decide, by decide, by decide, by decide, by decide, by decide, by decide⟩), f0 100 13 (by decide) (fun _ => ⟨by decide, by decide, by decide, by decide, by decide, by decide, by decide⟩), by rw [Fr, if_neg (by omega), cop_r, if_neg (by omega), if_neg (by omega), if_neg (by omega), c1.1 100 0 (by decide) (by decide) (by decide) (by omega)]; exact b00, hFA, fun m m0 m1 hm => ((bM m m0 m1).tr (cM m)).tr (fM1 m hm)⟩ (by rw [Fr, if_pos ⟨rfl, rfl⟩]) ⟨hgt, by rw [Fr, if_neg (by omega)]; exact e122, fun env => (mR_cg (N := 31) f48 τ).1 env 0 h5 (by omega) (by omega) (mC.2.2 env)⟩ (by rw [← er]; exact hc.2.1) (by
      rw [refP_cg e48 (sameM_eq (fM1 r (by omega)).2 (by omega) okCr) okC okCr (by omega) (by omega)]
      rcases eC with e | e
      · rw [e]; exact hc.2.2
      · exact absurd ⟨hc.1, hc.2.1⟩ e)
    refine r_if_ne (t := 52) 26 rfl (by decide) (by first | exact hA _ _ | exact ⟨by decide, by decide⟩ | assumption | exact ⟨by omega, by omega⟩) (fun c_46 => ?_) (fun c_46 => by omega)
    refine r_aload_n 29 rfl rfl ?_
    refine r_bipush 30 rfl rfl ?_
    refine r_iconst 31 rfl ?_
    refine r_iload_n 32 rfl rfl ?_
    refine r_iadd 33 rfl ?_
    refine r_callv2 34 rfl l_T_223 (hp_at rfl) (Nat.le_of_ble_eq_true rfl) ?_
    refine c_T_copyMachine hA (by decide) (by decide) (by omega) (by omega) (cp0 ?_)
    refine r_aload_n 35 rfl rfl ?_
    refine r_iconst 36 rfl ?_
    refine r_put 37 rfl f_T_207 (hp_at rfl) rfl rfl ?_
    rw [wT_32]
    rw [hF]
    refine r_aload_n 38 rfl rfl ?_
    refine r_get 39 rfl f_T_53 (hp_at rfl) rfl ?_
    refine r_iconst 40 rfl ?_
    refine r_iload_n 41 rfl rfl ?_
    refine r_iadd 42 rfl ?_
    refine r_iaload 43 rfl (hp_at rfl) (by decide) (by omega) (by omega) ?_
    try simp +decide only [au_ne, au_same, au_ni, fil_ne]
    rw [f122]
    refine r_iret 44 rfl rfl rfl ?_
    exact fin
  · rw [if_neg hc]
    have fin := hno τ C hin h1 ⟨fun j i a b => c0 j i b (fun h => absurd h a), c0 100 33 (by decide) (fun _ => ⟨by decide, by decide, by decide, by decide, by decide, by decide⟩), c0 100 12 (by decide) (fun _ => ⟨by decide, by decide, by decide, by decide, by decide, by decide⟩), c0 100 13 (by decide) (fun _ => ⟨by decide, by decide, by decide, by decide, by decide, by decide⟩), (c1.1 100 0 (by decide) (by decide) (by decide) (by omega)).trans b00, hA, fun m m0 m1 hm => (bM m m0 m1).tr (cM m)⟩ (c0 100 32 (by decide) (fun _ => ⟨by decide, by decide, by decide, by decide, by decide, by decide⟩)) mC (fun h => by
      rcases eC with e | e
      · exact hc ⟨by omega, by rw [er]; exact h.1, by rw [← e]; exact h.2⟩
      · exact e ⟨by omega, by rw [er]; exact h.1⟩)
    refine r_if_ne (t := 52) 26 rfl (by decide) (by first | exact hA _ _ | exact ⟨by decide, by decide⟩ | assumption | exact ⟨by omega, by omega⟩) (fun c_46 => by omega) (fun c_46 => ?_)
    refine r_bipush 27 rfl rfl ?_
    refine r_iret 28 rfl rfl rfl ?_
    exact fin
end TW67


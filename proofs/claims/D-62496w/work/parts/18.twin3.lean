/-! the twin: sessions, what is called by the law -/
section TW3
variable {K : xk} {M : xm} {d : Nat} {Q : Outcome → xh → Prop} {A : Nat → Int → Int} {R : Nat → Int → Value} {g : Nat → Nat × List Value} {t u : Nat}
/-- the queue q moved up by one in its first m places -/
def tSh (A : Nat → Int → Int) (q m : Int) : Nat → Int → Int := fun j => if j = 138 then (fun i => if 4 * q ≤ i ∧ i < 4 * q + m then A 138 (i + 1) else A 138 i) else A j
theorem tSh_step (A : Nat → Int → Int) (q m : Int) (h : 0 ≤ m) : au (tSh A q m) 138 (4 * q + m) (tSh A q m 138 (4 * q + m + 1)) = tSh A q (m + 1) := by
  funext j i
  unfold au tSh fu
  by_cases hj : j = 138
  · subst hj
    simp only [if_true]
    by_cases e : i = 4 * q + m
    · subst e
      rw [if_pos rfl, if_neg (by omega), if_pos (by omega)]
    · rw [if_neg e]
      by_cases e2 : 4 * q ≤ i ∧ i < 4 * q + m
      · rw [if_pos e2, if_pos (by omega)]
      · rw [if_neg e2, if_neg (by omega)]
  · simp only [if_neg hj]
theorem tSh_0 (A : Nat → Int → Int) (q : Int) : tSh A q 0 = A := by
  funext j i
  unfold tSh
  by_cases hj : j = 138
  · subst hj
    simp only [if_true]
    rw [if_neg (by omega)]
  · simp only [if_neg hj]
theorem rga_tSh (hA : rga A) (q m : Int) : rga (tSh A q m) := by
  intro j i
  unfold tSh
  by_cases hj : j = 138
  · subst hj
    simp only [if_true]
    split <;> exact hA _ _
  · simp only [if_neg hj]
    exact hA _ _
/-- a role's state, and the queues, are in their ranges -/
def tS (A : Nat → Int → Int) (r : Int) : Prop := (0 ≤ tso A r ∧ tso A r < 279) ∧ (0 ≤ A 125 (tso A r) ∧ A 125 (tso A r) ≤ 6) ∧ (A 123 (tso A r) ≠ 0 → 0 ≤ A 124 (tso A r) ∧ A 124 (tso A r) < 4) ∧ (∀ q, 0 ≤ q → q < 16 → 0 ≤ A 137 q ∧ A 137 q ≤ 4) ∧ ∀ i, 0 ≤ i → i < 64 → 0 ≤ A 138 i ∧ A 138 i < 18
def tGotQ (A : Nat → Int → Int) (r : Int) : Int := 4 * A 124 (tso A r) + r
def tGot (A : Nat → Int → Int) (r k : Int) : Nat → Int → Int := au (tSh (au A 137 (tGotQ A r) (A 137 (tGotQ A r) - 1)) (tGotQ A r) (A 137 (tGotQ A r) - 1)) 134 r (A 128 (6 * tso A r + k))
theorem c_T_got {r : Int} (hA : rga A) (h0 : 0 ≤ r) (h1 : r < 4) (hS : tS A r) (hk : A 123 (tso A r) ≠ 0)
    (hw : A 137 (tGotQ A r) = 0 → Q (.returned (some (iv (-3)))) (hp K.n A R g t u))
    (hm : ∀ k, A 137 (tGotQ A r) ≠ 0 → tFnd A (tso A r) (A 138 (4 * tGotQ A r) / 3) (A 138 (4 * tGotQ A r) % 3) k → k < 0 → Q (.returned (some (iv (-4)))) (hp K.n A R g t u))
    (hq : ∀ k, A 137 (tGotQ A r) ≠ 0 → tFnd A (tso A r) (A 138 (4 * tGotQ A r) / 3) (A 138 (4 * tGotQ A r) % 3) k → 0 ≤ k → Q (.returned (some (iv (A 128 (6 * tso A r + k))))) (hp K.n (tGot A r k) R g t u)) : mx K M_T_got (d + 3) [.ref (xa K.n 32), iv r] (hp K.n A R g t u) Q := by
  obtain ⟨⟨s0, s1⟩, ⟨c0, c1⟩, hp1, hq1, hl1⟩ := hS
  obtain ⟨p0, p1⟩ := hp1 hk
  unfold tGot tGotQ at hq
  unfold tGotQ at hw hm
  refine mx_in ok_T_got rfl (Nat.le_of_ble_eq_true rfl) ?_
  have hss := c_T_stateOf (K := K) (Q := cpost K M_T_got (d + 3) Q 2 (ent [.ref (xa K.n 32), iv r] 6) []) (R := R) (g := g) (t := t) (u := u) (d := d + 1) hA h0 h1
  have hff := fun l so (hl : rg l) (hso : rg so) L => c_T_found (K := K) (Q := cpost K M_T_got (d + 3) Q 51 L []) (R := R) (g := g) (t := t) (u := u) (d := d) hA h0 h1 hl hso s0 s1 c1
  generalize hs : tso A r = s at *
  generalize hqq : 4 * A 124 s + r = q at *
  have q0 : 0 ≤ q := by omega
  have q16 : q < 16 := by omega
  obtain ⟨w0, w1⟩ := hq1 q q0 q16
  obtain ⟨l0, l1⟩ := hl1 (4 * q) (by omega) (by omega)
  have loop : ∀ (m : Nat) (i k : Int), A 137 q ≠ 0 → tFnd A s (A 138 (4 * q) / 3) (A 138 (4 * q) % 3) k → 0 ≤ k → k < 6 → 0 ≤ i → i ≤ A 137 q - 1 → A 137 q - 1 - i < m → wx K M_T_got (d + 3) Q 77 [some (.ref (xa K.n 32)), some (iv r), some (iv s), some (iv q), some (iv k), some (iv i)] [] (hp K.n (tSh (au A 137 q (A 137 q - 1)) q i) R g t u) := by
    intro m
    induction m with
    | zero => intro i k z1 z2 z3 z4 i0 i1 i2; omega
    | succ m ih =>
      intro i k z1 z2 z3 z4 i0 i1 i2
      have hAm : rga (tSh (au A 137 q (A 137 q - 1)) q i) := rga_tSh (rga_au hA ⟨by omega, by omega⟩) q i
      have e1 : tSh (au A 137 q (A 137 q - 1)) q i 137 q = A 137 q - 1 := by simp [tSh, au, fu]
      have e2 : ∀ x, tSh (au A 137 q (A 137 q - 1)) q i 128 x = A 128 x := fun x => rfl
      refine r_iload 54 rfl rfl ?_
      refine r_aload_n 55 rfl rfl ?_
      refine r_get 56 rfl f_T_93 (hp_at rfl) rfl ?_
      refine r_iload_n 57 rfl rfl ?_
      refine r_iaload 58 rfl (hp_at rfl) (by decide) (by omega) (by omega) ?_
      show wx K M_T_got (d + 3) Q 85 _ (iv (tSh (au A 137 q (A 137 q - 1)) q i 137 q) :: _) _
      rw [e1]
      refine r_icmp_ge (t := 118) 59 rfl (by decide) (by first | exact hA _ _ | exact ⟨by decide, by decide⟩ | assumption | exact ⟨by omega, by omega⟩) (by first | exact hA _ _ | exact ⟨by decide, by decide⟩ | assumption | exact ⟨by omega, by omega⟩) (fun c_85 => ?_) (fun c_85 => ?_)
      · refine r_aload_n 80 rfl rfl ?_
        refine r_get 81 rfl f_T_84 (hp_at rfl) rfl ?_
        refine r_iload_n 82 rfl rfl ?_
        refine r_aload_n 83 rfl rfl ?_
        refine r_get 84 rfl f_T_71 (hp_at rfl) rfl ?_
        refine r_bipush 85 rfl rfl ?_
        refine r_iload_n 86 rfl rfl ?_
        refine r_imul 87 rfl ?_
        refine r_iload 88 rfl rfl ?_
        refine r_iadd 89 rfl ?_
        refine r_iaload 90 rfl (hp_at rfl) (by decide) (by omega) (by omega) ?_
        refine r_iastore 91 rfl (hp_at rfl) (by decide) (by omega) (by omega) ?_
        rw [ws_134]
        refine r_aload_n 92 rfl rfl ?_
        refine r_get 93 rfl f_T_84 (hp_at rfl) rfl ?_
        refine r_iload_n 94 rfl rfl ?_
        refine r_iaload 95 rfl (hp_at rfl) (by decide) (by omega) (by omega) ?_
        refine r_iret 96 rfl rfl rfl ?_
        exact q_v (q_h (hq k z1 z2 z3) (by rw [show i = A 137 q - 1 by omega]; rfl)) (by simp [au, fu]; rfl)
      · refine r_aload_n 60 rfl rfl ?_
        refine r_get 61 rfl f_T_96 (hp_at rfl) rfl ?_
        refine r_iconst 62 rfl ?_
        refine r_iload_n 63 rfl rfl ?_
        refine r_imul 64 rfl ?_
        refine r_iload 65 rfl rfl ?_
        refine r_iadd 66 rfl ?_
        refine r_aload_n 67 rfl rfl ?_
        refine r_get 68 rfl f_T_96 (hp_at rfl) rfl ?_
        refine r_iconst 69 rfl ?_
        refine r_iload_n 70 rfl rfl ?_
        refine r_imul 71 rfl ?_
        refine r_iload 72 rfl rfl ?_
        refine r_iadd 73 rfl ?_
        refine r_iconst 74 rfl ?_
        refine r_iadd 75 rfl ?_
        refine r_iaload 76 rfl (hp_at rfl) (by decide) (by omega) (by omega) ?_
        refine r_iastore 77 rfl (hp_at rfl) (by decide) (by omega) (by omega) ?_
        rw [ws_138]
        rw [tSh_step _ _ _ i0]
        refine r_iinc 78 rfl rfl ?_
        refine r_goto (t := 77) 79 rfl (by decide) ?_
        exact ih _ _ z1 z2 z3 z4 (by omega) (by omega) (by omega)
  refine r_aload_n 0 rfl rfl ?_
  refine r_iload_n 1 rfl rfl ?_
  refine r_callv1 2 rfl l_T_232 (hp_at rfl) (Nat.le_of_ble_eq_true rfl) ?_
  refine hss (cp1 ?_)
  refine r_istore_n 3 rfl (Nat.le_of_ble_eq_true rfl) ?_
  refine r_iconst 4 rfl ?_
  refine r_aload_n 5 rfl rfl ?_
  refine r_get 6 rfl f_T_59 (hp_at rfl) rfl ?_
  refine r_iload_n 7 rfl rfl ?_
  refine r_iaload 8 rfl (hp_at rfl) (by decide) (by omega) (by omega) ?_
  refine r_imul 9 rfl ?_
  refine r_iload_n 10 rfl rfl ?_
  refine r_iadd 11 rfl ?_
  rw [hqq]
  refine r_istore_n 12 rfl (Nat.le_of_ble_eq_true rfl) ?_
  refine r_aload_n 13 rfl rfl ?_
  refine r_get 14 rfl f_T_93 (hp_at rfl) rfl ?_
  refine r_iload_n 15 rfl rfl ?_
  refine r_iaload 16 rfl (hp_at rfl) (by decide) (by omega) (by omega) ?_
  refine r_if_ne (t := 29) 17 rfl (by decide) (by first | exact hA _ _ | exact ⟨by decide, by decide⟩ | assumption | exact ⟨by omega, by omega⟩) (fun c_23 => ?_) (fun c_23 => ?_)
  · refine r_aload_n 20 rfl rfl ?_
    refine r_iload_n 21 rfl rfl ?_
    refine r_aload_n 22 rfl rfl ?_
    refine r_get 23 rfl f_T_96 (hp_at rfl) rfl ?_
    refine r_iconst 24 rfl ?_
    refine r_iload_n 25 rfl rfl ?_
    refine r_imul 26 rfl ?_
    refine r_iaload 27 rfl (hp_at rfl) (by decide) (by omega) (by omega) ?_
    refine r_iconst 28 rfl ?_
    refine r_idiv 29 rfl (by omega) (by omega) (by omega) (by omega) ?_
    refine r_aload_n 30 rfl rfl ?_
    refine r_get 31 rfl f_T_96 (hp_at rfl) rfl ?_
    refine r_iconst 32 rfl ?_
    refine r_iload_n 33 rfl rfl ?_
    refine r_imul 34 rfl ?_
    refine r_iaload 35 rfl (hp_at rfl) (by decide) (by omega) (by omega) ?_
    refine r_iconst 36 rfl ?_
    refine r_irem 37 rfl (by omega) (by omega) (by omega) (by omega) ?_
    refine r_callv3 38 rfl l_T_235 (hp_at rfl) (Nat.le_of_ble_eq_true rfl) ?_
    refine hff _ _ ⟨by omega, by omega⟩ ⟨by omega, by omega⟩ _ (fun k hk2 => cp1 ?_)
    have hkr : -1 ≤ k ∧ k < 6 := by unfold tFnd at hk2; omega
    have hkg : rg k := ⟨by omega, by omega⟩
    refine r_istore 39 rfl (Nat.le_of_ble_eq_true rfl) ?_
    refine r_iload 40 rfl rfl ?_
    refine r_if_ge (t := 64) 41 rfl (by decide) (by first | exact hA _ _ | exact ⟨by decide, by decide⟩ | assumption | exact ⟨by omega, by omega⟩) (fun c_58 => ?_) (fun c_58 => ?_)
    · refine r_aload_n 44 rfl rfl ?_
      refine r_get 45 rfl f_T_93 (hp_at rfl) rfl ?_
      refine r_iload_n 46 rfl rfl ?_
      refine r_dup2 47 rfl rfl rfl ?_
      refine r_iaload 48 rfl (hp_at rfl) (by decide) (by omega) (by omega) ?_
      refine r_iconst 49 rfl ?_
      refine r_isub 50 rfl ?_
      refine r_iastore 51 rfl (hp_at rfl) (by decide) (by omega) (by omega) ?_
      rw [ws_137]
      refine r_iconst 52 rfl ?_
      refine r_istore 53 rfl (Nat.le_of_ble_eq_true rfl) ?_
      rw [← tSh_0 (au A 137 q (A 137 q - 1)) q]
      exact loop (A 137 q).toNat 0 k c_23 hk2 (by omega) (by omega) (by omega) (by omega) (by omega)
    · refine r_bipush 42 rfl rfl ?_
      refine r_iret 43 rfl rfl rfl ?_
      exact hm k c_23 hk2 (by omega)
  · refine r_bipush 18 rfl rfl ?_
    refine r_iret 19 rfl rfl rfl ?_
    exact hw c_23
theorem c_T_send {r l : Int} (hA : rga A) (hr : rg r) (hl : rg l) (hS : A 100 32 ≠ 0 → ∀ r, 0 ≤ r → r < 4 → tS A r)
    (hb : (A 100 32 = 0 ∨ r < 0 ∨ 3 < r ∨ l < 0 ∨ 5 < l) → Q (.returned (some (iv (-1)))) (hp K.n A R g t u))
    (hn : ¬ (A 100 32 = 0 ∨ r < 0 ∨ 3 < r ∨ l < 0 ∨ 5 < l) → (A 135 r ≠ 0 ∨ A 123 (tso A r) ≠ 1 ∨ tFnd A (tso A r) l (-1) (-1)) → Q (.returned (some (iv (-2)))) (hp K.n A R g t u))
    (hw : ∀ k, ¬ (A 100 32 = 0 ∨ r < 0 ∨ 3 < r ∨ l < 0 ∨ 5 < l) → A 135 r = 0 → A 123 (tso A r) = 1 → 0 ≤ k → tFnd A (tso A r) l (-1) k → A 137 (4 * r + A 124 (tso A r)) = 4 → Q (.returned (some (iv (-3)))) (hp K.n A R g t u))
    (hq : ∀ k, ¬ (A 100 32 = 0 ∨ r < 0 ∨ 3 < r ∨ l < 0 ∨ 5 < l) → A 135 r = 0 → A 123 (tso A r) = 1 → 0 ≤ k → tFnd A (tso A r) l (-1) k → A 137 (4 * r + A 124 (tso A r)) < 4 → Q (.returned (some (iv (A 128 (6 * tso A r + k))))) (hp K.n (tPut A r k) R g t u)) : mx K M_T_send (d + 3) [.ref (xa K.n 32), iv r, iv l] (hp K.n A R g t u) Q := by
  refine mx_in ok_T_send rfl (Nat.le_of_ble_eq_true rfl) ?_
  refine r_aload_n 0 rfl rfl ?_
  refine r_get 1 rfl f_T_207 (hp_at rfl) rfl ?_
  refine r_if_eq (t := 23) 2 rfl (by decide) (by first | exact hA _ _ | exact ⟨by decide, by decide⟩ | assumption | exact ⟨by omega, by omega⟩) (fun c_4 => ?_) (fun c_4 => ?_)
  · refine r_iconst 11 rfl ?_
    refine r_iret 12 rfl rfl rfl ?_
    exact hb (by omega)
  · refine r_iload_n 3 rfl rfl ?_
    refine r_iconst 4 rfl ?_
    refine r_out_ne (tt := 23) 5 rfl l_T_117 rfl (by decide) (by first | exact hA _ _ | exact ⟨by decide, by decide⟩ | assumption | exact ⟨by omega, by omega⟩) (by first | exact hA _ _ | exact ⟨by decide, by decide⟩ | assumption | exact ⟨by omega, by omega⟩) (Nat.le_of_ble_eq_true rfl) (fun c_9 => ?_) (fun c_9 => ?_)
    · refine r_iconst 11 rfl ?_
      refine r_iret 12 rfl rfl rfl ?_
      exact hb (by omega)
    · refine r_iload_n 7 rfl rfl ?_
      refine r_iconst 8 rfl ?_
      refine r_out_eq (tt := 25) 9 rfl l_T_117 rfl (by decide) (by first | exact hA _ _ | exact ⟨by decide, by decide⟩ | assumption | exact ⟨by omega, by omega⟩) (by first | exact hA _ _ | exact ⟨by decide, by decide⟩ | assumption | exact ⟨by omega, by omega⟩) (Nat.le_of_ble_eq_true rfl) (fun c_17 => ?_) (fun c_17 => ?_)
      · obtain ⟨⟨s0, s1⟩, ⟨c0, c1⟩, hp1, hq1, hl1⟩ := hS c_4 r (by omega) (by omega)
        refine r_aload_n 13 rfl rfl ?_
        refine r_get 14 rfl f_T_87 (hp_at rfl) rfl ?_
        refine r_iload_n 15 rfl rfl ?_
        refine r_baload 16 rfl (hp_at rfl) (by decide) (by omega) (by omega) ?_
        refine r_if_ne (t := 48) 17 rfl (by decide) (by first | exact hA _ _ | exact ⟨by decide, by decide⟩ | assumption | exact ⟨by omega, by omega⟩) (fun c_31 => ?_) (fun c_31 => ?_)
        · refine r_iconst 26 rfl ?_
          refine r_goto (t := 59) 27 rfl (by decide) ?_
          refine r_istore_n 33 rfl (Nat.le_of_ble_eq_true rfl) ?_
          refine r_iload_n 34 rfl rfl ?_
          refine r_if_ge (t := 69) 35 rfl (by decide) (by first | exact hA _ _ | exact ⟨by decide, by decide⟩ | assumption | exact ⟨by omega, by omega⟩) (fun c_61 => ?_) (fun c_61 => ?_)
          · omega
          · skip
            refine r_bipush 36 rfl rfl ?_
            refine r_goto (t := 75) 37 rfl (by decide) ?_
            refine r_iret 42 rfl rfl rfl ?_
            exact hn (by omega) (by omega)
        · refine r_aload_n 18 rfl rfl ?_
          refine r_get 19 rfl f_T_56 (hp_at rfl) rfl ?_
          refine r_aload_n 20 rfl rfl ?_
          refine r_iload_n 21 rfl rfl ?_
          refine r_callv1 22 rfl l_T_232 (hp_at rfl) (Nat.le_of_ble_eq_true rfl) ?_
          refine c_T_stateOf hA (by omega) (by omega) (cp1 ?_)
          refine r_iaload 23 rfl (hp_at rfl) (by decide) (by omega) (by omega) ?_
          refine r_iconst 24 rfl ?_
          refine r_icmp_eq (t := 52) 25 rfl (by decide) (by first | exact hA _ _ | exact ⟨by decide, by decide⟩ | assumption | exact ⟨by omega, by omega⟩) (by first | exact hA _ _ | exact ⟨by decide, by decide⟩ | assumption | exact ⟨by omega, by omega⟩) (fun c_45 => ?_) (fun c_45 => ?_)
          · refine r_aload_n 28 rfl rfl ?_
            refine r_iload_n 29 rfl rfl ?_
            refine r_iload_n 30 rfl rfl ?_
            refine r_iconst 31 rfl ?_
            refine r_callv3 32 rfl l_T_235 (hp_at rfl) (Nat.le_of_ble_eq_true rfl) ?_
            refine c_T_found hA (by omega) (by omega) hl ⟨by decide, by decide⟩ s0 s1 c1 (fun k hk => cp1 ?_)
            have hkr : -1 ≤ k ∧ k < 6 := by unfold tFnd at hk; omega
            have hkg : rg k := ⟨by omega, by omega⟩
            have hpp := hp1 (by omega)
            have hqs := hq1 (4 * r + A 124 (tso A r)) (by omega) (by omega)
            skip
            refine r_istore_n 33 rfl (Nat.le_of_ble_eq_true rfl) ?_
            refine r_iload_n 34 rfl rfl ?_
            refine r_if_ge (t := 69) 35 rfl (by decide) (by first | exact hA _ _ | exact ⟨by decide, by decide⟩ | assumption | exact ⟨by omega, by omega⟩) (fun c_61 => ?_) (fun c_61 => ?_)
            · refine r_aload_n 38 rfl rfl ?_
              refine r_iload_n 39 rfl rfl ?_
              refine r_iload_n 40 rfl rfl ?_
              refine r_callv2 41 rfl l_T_238 (hp_at rfl) (Nat.le_of_ble_eq_true rfl) ?_
              refine c_T_put hA (by omega) (by omega) s0 s1 (by omega) (by omega) hpp.1 hpp.2 hqs.1 hqs.2 (fun e => cp1 ?_) (fun e => cp1 ?_)
              · refine r_iret 42 rfl rfl rfl ?_
                exact hw k (by omega) (by omega) (by omega) (by omega) hk e
              · refine r_iret 42 rfl rfl rfl ?_
                exact hq k (by omega) (by omega) (by omega) (by omega) hk e
            · obtain rfl : k = -1 := by omega
              refine r_bipush 36 rfl rfl ?_
              refine r_goto (t := 75) 37 rfl (by decide) ?_
              refine r_iret 42 rfl rfl rfl ?_
              exact hn (by omega) (Or.inr (Or.inr hk))
          · refine r_iconst 26 rfl ?_
            refine r_goto (t := 59) 27 rfl (by decide) ?_
            refine r_istore_n 33 rfl (Nat.le_of_ble_eq_true rfl) ?_
            refine r_iload_n 34 rfl rfl ?_
            refine r_if_ge (t := 69) 35 rfl (by decide) (by first | exact hA _ _ | exact ⟨by decide, by decide⟩ | assumption | exact ⟨by omega, by omega⟩) (fun c_61 => ?_) (fun c_61 => ?_)
            · omega
            · skip
              refine r_bipush 36 rfl rfl ?_
              refine r_goto (t := 75) 37 rfl (by decide) ?_
              refine r_iret 42 rfl rfl rfl ?_
              exact hn (by omega) (by omega)
      · refine r_iconst 11 rfl ?_
        refine r_iret 12 rfl rfl rfl ?_
        exact hb (by omega)
end TW3


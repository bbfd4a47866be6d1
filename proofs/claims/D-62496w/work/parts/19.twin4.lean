/-! the twin: sessions, the rest of what the law calls -/
section TW4
variable {K : xk} {M : xm} {d : Nat} {Q : Outcome → xh → Prop} {A : Nat → Int → Int} {R : Nat → Int → Value} {g : Nat → Nat × List Value} {t u : Nat}
theorem c_T_receive {r : Int} (hA : rga A) (hr : rg r) (hS : A 100 32 ≠ 0 → ∀ r, 0 ≤ r → r < 4 → tS A r)
    (hb : (A 100 32 = 0 ∨ r < 0 ∨ 3 < r) → Q (.returned (some (iv (-1)))) (hp K.n A R g t u))
    (hn : ¬ (A 100 32 = 0 ∨ r < 0 ∨ 3 < r) → (A 135 r ≠ 0 ∨ A 123 (tso A r) ≠ 2) → Q (.returned (some (iv (-2)))) (hp K.n A R g t u))
    (hw : ¬ (A 100 32 = 0 ∨ r < 0 ∨ 3 < r) → A 135 r = 0 → A 123 (tso A r) = 2 → A 137 (tGotQ A r) = 0 → Q (.returned (some (iv (-3)))) (hp K.n A R g t u))
    (hm : ∀ k, ¬ (A 100 32 = 0 ∨ r < 0 ∨ 3 < r) → A 135 r = 0 → A 123 (tso A r) = 2 → A 137 (tGotQ A r) ≠ 0 → tFnd A (tso A r) (A 138 (4 * tGotQ A r) / 3) (A 138 (4 * tGotQ A r) % 3) k → k < 0 → Q (.returned (some (iv (-4)))) (hp K.n A R g t u))
    (hq : ∀ k, ¬ (A 100 32 = 0 ∨ r < 0 ∨ 3 < r) → A 135 r = 0 → A 123 (tso A r) = 2 → A 137 (tGotQ A r) ≠ 0 → tFnd A (tso A r) (A 138 (4 * tGotQ A r) / 3) (A 138 (4 * tGotQ A r) % 3) k → 0 ≤ k → Q (.returned (some (iv (A 128 (6 * tso A r + k))))) (hp K.n (tGot A r k) R g t u)) : mx K M_T_receive (d + 4) [.ref (xa K.n 32), iv r] (hp K.n A R g t u) Q := by
  refine mx_in ok_T_receive rfl (Nat.le_of_ble_eq_true rfl) ?_
  refine r_aload_n 0 rfl rfl ?_
  refine r_get 1 rfl f_T_207 (hp_at rfl) rfl ?_
  refine r_if_eq (t := 15) 2 rfl (by decide) (by first | exact hA _ _ | exact ⟨by decide, by decide⟩ | assumption | exact ⟨by omega, by omega⟩) (fun c_4 => ?_) (fun c_4 => ?_)
  · refine r_iconst 7 rfl ?_
    refine r_iret 8 rfl rfl rfl ?_
    exact hb (by omega)
  · refine r_iload_n 3 rfl rfl ?_
    refine r_iconst 4 rfl ?_
    refine r_out_eq (tt := 17) 5 rfl l_T_117 rfl (by decide) (by first | exact hA _ _ | exact ⟨by decide, by decide⟩ | assumption | exact ⟨by omega, by omega⟩) (by first | exact hA _ _ | exact ⟨by decide, by decide⟩ | assumption | exact ⟨by omega, by omega⟩) (Nat.le_of_ble_eq_true rfl) (fun c_9 => ?_) (fun c_9 => ?_)
    · obtain ⟨⟨s0, s1⟩, ⟨c0, c1⟩, hp1, hq1, hl1⟩ := id (hS c_4 r (by omega) (by omega))
      refine r_aload_n 9 rfl rfl ?_
      refine r_get 10 rfl f_T_87 (hp_at rfl) rfl ?_
      refine r_iload_n 11 rfl rfl ?_
      refine r_baload 12 rfl (hp_at rfl) (by decide) (by omega) (by omega) ?_
      refine r_if_ne (t := 40) 13 rfl (by decide) (by first | exact hA _ _ | exact ⟨by decide, by decide⟩ | assumption | exact ⟨by omega, by omega⟩) (fun c_23 => ?_) (fun c_23 => ?_)
      · refine r_bipush 22 rfl rfl ?_
        refine r_goto (t := 50) 23 rfl (by decide) ?_
        refine r_iret 27 rfl rfl rfl ?_
        exact hn (by omega) (by omega)
      · refine r_aload_n 14 rfl rfl ?_
        refine r_get 15 rfl f_T_56 (hp_at rfl) rfl ?_
        refine r_aload_n 16 rfl rfl ?_
        refine r_iload_n 17 rfl rfl ?_
        refine r_callv1 18 rfl l_T_232 (hp_at rfl) (Nat.le_of_ble_eq_true rfl) ?_
        refine c_T_stateOf hA (by omega) (by omega) (cp1 ?_)
        refine r_iaload 19 rfl (hp_at rfl) (by decide) (by omega) (by omega) ?_
        refine r_iconst 20 rfl ?_
        refine r_icmp_eq (t := 45) 21 rfl (by decide) (by first | exact hA _ _ | exact ⟨by decide, by decide⟩ | assumption | exact ⟨by omega, by omega⟩) (by first | exact hA _ _ | exact ⟨by decide, by decide⟩ | assumption | exact ⟨by omega, by omega⟩) (fun c_37 => ?_) (fun c_37 => ?_)
        · refine r_aload_n 24 rfl rfl ?_
          refine r_iload_n 25 rfl rfl ?_
          refine r_callv1 26 rfl l_T_241 (hp_at rfl) (Nat.le_of_ble_eq_true rfl) ?_
          refine c_T_got hA (by omega) (by omega) (hS c_4 r (by omega) (by omega)) (by omega) (fun e => cp1 ?_) (fun k e1 e2 e3 => cp1 ?_) (fun k e1 e2 e3 => cp1 ?_)
          · refine r_iret 27 rfl rfl rfl ?_
            exact hw (by omega) (by omega) (by omega) e
          · refine r_iret 27 rfl rfl rfl ?_
            exact hm k (by omega) (by omega) (by omega) e1 e2 e3
          · refine r_iret 27 rfl rfl rfl ?_
            exact hq k (by omega) (by omega) (by omega) e1 e2 e3
        · refine r_bipush 22 rfl rfl ?_
          refine r_goto (t := 50) 23 rfl (by decide) ?_
          refine r_iret 27 rfl rfl rfl ?_
          exact hn (by omega) (by omega)
    · refine r_iconst 7 rfl ?_
      refine r_iret 8 rfl rfl rfl ?_
      exact hb (by omega)
theorem c_T_estrange {r : Int} (hA : rga A) (hr : rg r)
    (hb : (A 100 32 = 0 ∨ r < 0 ∨ 3 < r ∨ A 135 r ≠ 0) → Q (.returned (some (iv 0))) (hp K.n A R g t u))
    (hq : ¬ (A 100 32 = 0 ∨ r < 0 ∨ 3 < r ∨ A 135 r ≠ 0) → Q (.returned (some (iv 1))) (hp K.n (au A 135 r 1) R g t u)) : mx K M_T_estrange (d + 1) [.ref (xa K.n 32), iv r] (hp K.n A R g t u) Q := by
  refine mx_in ok_T_estrange rfl (Nat.le_of_ble_eq_true rfl) ?_
  refine r_aload_n 0 rfl rfl ?_
  refine r_get 1 rfl f_T_207 (hp_at rfl) rfl ?_
  refine r_if_eq (t := 24) 2 rfl (by decide) (by first | exact hA _ _ | exact ⟨by decide, by decide⟩ | assumption | exact ⟨by omega, by omega⟩) (fun c_4 => ?_) (fun c_4 => ?_)
  · refine r_iconst 12 rfl ?_
    refine r_iret 13 rfl rfl (by first | rfl | assumption) ?_
    exact hb (by omega)
  · refine r_iload_n 3 rfl rfl ?_
    refine r_iconst 4 rfl ?_
    refine r_out_ne (tt := 24) 5 rfl l_T_117 rfl (by decide) (by first | exact hA _ _ | exact ⟨by decide, by decide⟩ | assumption | exact ⟨by omega, by omega⟩) (by first | exact hA _ _ | exact ⟨by decide, by decide⟩ | assumption | exact ⟨by omega, by omega⟩) (Nat.le_of_ble_eq_true rfl) (fun c_9 => ?_) (fun c_9 => ?_)
    · refine r_iconst 12 rfl ?_
      refine r_iret 13 rfl rfl (by first | rfl | assumption) ?_
      exact hb (by omega)
    · refine r_aload_n 7 rfl rfl ?_
      refine r_get 8 rfl f_T_87 (hp_at rfl) rfl ?_
      refine r_iload_n 9 rfl rfl ?_
      refine r_baload 10 rfl (hp_at rfl) (by decide) (by omega) (by omega) ?_
      refine r_if_eq (t := 26) 11 rfl (by decide) (by first | exact hA _ _ | exact ⟨by decide, by decide⟩ | assumption | exact ⟨by omega, by omega⟩) (fun c_21 => ?_) (fun c_21 => ?_)
      · refine r_aload_n 14 rfl rfl ?_
        refine r_get 15 rfl f_T_87 (hp_at rfl) rfl ?_
        refine r_iload_n 16 rfl rfl ?_
        refine r_iconst 17 rfl ?_
        refine r_bastore 18 rfl (hp_at rfl) (by decide) (by omega) (by omega) rfl ?_
        rw [ws_135]
        refine r_iconst 19 rfl ?_
        refine r_iret 20 rfl rfl (by first | rfl | assumption) ?_
        exact hq (by omega)
      · refine r_iconst 12 rfl ?_
        refine r_iret 13 rfl rfl (by first | rfl | assumption) ?_
        exact hb (by omega)
theorem c_T_isStrange {r q : Int} (hA : rga A) (hr : rg r) (hqr : rg q)
    (hb : (A 100 32 = 0 ∨ r < 0 ∨ 3 < r ∨ q < 0 ∨ 3 < q ∨ r = q ∨ A 135 r = 0) → Q (.returned (some (iv 0))) (hp K.n A R g t u))
    (hq : ¬ (A 100 32 = 0 ∨ r < 0 ∨ 3 < r ∨ q < 0 ∨ 3 < q ∨ r = q ∨ A 135 r = 0) → Q (.returned (some (iv 1))) (hp K.n A R g t u)) : mx K M_T_isStrange (d + 1) [.ref (xa K.n 32), iv r, iv q] (hp K.n A R g t u) Q := by
  refine mx_in ok_T_isStrange rfl (Nat.le_of_ble_eq_true rfl) ?_
  refine r_aload_n 0 rfl rfl ?_
  refine r_get 1 rfl f_T_207 (hp_at rfl) rfl ?_
  refine r_if_eq (t := 41) 2 rfl (by decide) (by first | exact hA _ _ | exact ⟨by decide, by decide⟩ | assumption | exact ⟨by omega, by omega⟩) (fun c_4 => ?_) (fun c_4 => ?_)
  · refine r_iconst 21 rfl ?_
    refine r_iret 22 rfl rfl (by first | rfl | assumption) ?_
    exact hb (by omega)
  · refine r_iload_n 3 rfl rfl ?_
    refine r_iconst 4 rfl ?_
    refine r_out_ne (tt := 41) 5 rfl l_T_117 rfl (by decide) (by first | exact hA _ _ | exact ⟨by decide, by decide⟩ | assumption | exact ⟨by omega, by omega⟩) (by first | exact hA _ _ | exact ⟨by decide, by decide⟩ | assumption | exact ⟨by omega, by omega⟩) (Nat.le_of_ble_eq_true rfl) (fun c_9 => ?_) (fun c_9 => ?_)
    · refine r_iconst 21 rfl ?_
      refine r_iret 22 rfl rfl (by first | rfl | assumption) ?_
      exact hb (by omega)
    · refine r_iload_n 7 rfl rfl ?_
      refine r_iconst 8 rfl ?_
      refine r_out_ne (tt := 41) 9 rfl l_T_117 rfl (by decide) (by first | exact hA _ _ | exact ⟨by decide, by decide⟩ | assumption | exact ⟨by omega, by omega⟩) (by first | exact hA _ _ | exact ⟨by decide, by decide⟩ | assumption | exact ⟨by omega, by omega⟩) (Nat.le_of_ble_eq_true rfl) (fun c_17 => ?_) (fun c_17 => ?_)
      · refine r_iconst 21 rfl ?_
        refine r_iret 22 rfl rfl (by first | rfl | assumption) ?_
        exact hb (by omega)
      · refine r_iload_n 11 rfl rfl ?_
        refine r_iload_n 12 rfl rfl ?_
        refine r_icmp_eq (t := 41) 13 rfl (by decide) (by first | exact hA _ _ | exact ⟨by decide, by decide⟩ | assumption | exact ⟨by omega, by omega⟩) (by first | exact hA _ _ | exact ⟨by decide, by decide⟩ | assumption | exact ⟨by omega, by omega⟩) (fun c_25 => ?_) (fun c_25 => ?_)
        · refine r_iconst 21 rfl ?_
          refine r_iret 22 rfl rfl (by first | rfl | assumption) ?_
          exact hb (by omega)
        · refine r_aload_n 14 rfl rfl ?_
          refine r_get 15 rfl f_T_87 (hp_at rfl) rfl ?_
          refine r_iload_n 16 rfl rfl ?_
          refine r_baload 17 rfl (hp_at rfl) (by decide) (by omega) (by omega) ?_
          refine r_if_eq (t := 41) 18 rfl (by decide) (by first | exact hA _ _ | exact ⟨by decide, by decide⟩ | assumption | exact ⟨by omega, by omega⟩) (fun c_34 => ?_) (fun c_34 => ?_)
          · refine r_iconst 21 rfl ?_
            refine r_iret 22 rfl rfl (by first | rfl | assumption) ?_
            exact hb (by omega)
          · refine r_iconst 19 rfl ?_
            refine r_goto (t := 42) 20 rfl (by decide) ?_
            refine r_iret 22 rfl rfl (by first | rfl | assumption) ?_
            exact hq (by omega)
theorem c_T_say {r q l so : Int} (hA : rga A) (hr : rg r) (hqr : rg q) (hl : rg l) (hso : rg so) (hS : A 100 32 ≠ 0 → ∀ r, 0 ≤ r → r < 4 → tS A r) (hF : 0 ≤ r → r < 4 → A 136 r < 2147483647)
    (hb : (A 100 32 = 0 ∨ r < 0 ∨ 3 < r ∨ q < 0 ∨ 3 < q ∨ r = q ∨ A 135 r = 0 ∨ l < 0 ∨ 5 < l ∨ so < 0 ∨ 2 < so) → Q (.returned (some (iv (-1)))) (hp K.n A R g t u))
    (hn : ¬ (A 100 32 = 0 ∨ r < 0 ∨ 3 < r ∨ q < 0 ∨ 3 < q ∨ r = q ∨ A 135 r = 0 ∨ l < 0 ∨ 5 < l ∨ so < 0 ∨ 2 < so) → (A 123 (tso A r) ≠ 1 ∨ A 124 (tso A r) ≠ q ∨ tFnd A (tso A r) l so (-1)) → Q (.returned (some (iv (-2)))) (hp K.n (au A 136 r (A 136 r + 1)) R g t u))
    (hw : ∀ k, ¬ (A 100 32 = 0 ∨ r < 0 ∨ 3 < r ∨ q < 0 ∨ 3 < q ∨ r = q ∨ A 135 r = 0 ∨ l < 0 ∨ 5 < l ∨ so < 0 ∨ 2 < so) → A 123 (tso A r) = 1 → A 124 (tso A r) = q → 0 ≤ k → tFnd A (tso A r) l so k → A 137 (4 * r + A 124 (tso A r)) = 4 → Q (.returned (some (iv (-3)))) (hp K.n A R g t u))
    (hq : ∀ k, ¬ (A 100 32 = 0 ∨ r < 0 ∨ 3 < r ∨ q < 0 ∨ 3 < q ∨ r = q ∨ A 135 r = 0 ∨ l < 0 ∨ 5 < l ∨ so < 0 ∨ 2 < so) → A 123 (tso A r) = 1 → A 124 (tso A r) = q → 0 ≤ k → tFnd A (tso A r) l so k → A 137 (4 * r + A 124 (tso A r)) < 4 → Q (.returned (some (iv (A 128 (6 * tso A r + k))))) (hp K.n (tPut A r k) R g t u)) : mx K M_T_say (d + 3) [.ref (xa K.n 32), iv r, iv q, iv l, iv so] (hp K.n A R g t u) Q := by
  refine mx_in ok_T_say rfl (Nat.le_of_ble_eq_true rfl) ?_
  refine r_aload_n 0 rfl rfl ?_
  refine r_iload_n 1 rfl rfl ?_
  refine r_iload_n 2 rfl rfl ?_
  refine r_callv2 3 rfl l_T_244 (hp_at rfl) (Nat.le_of_ble_eq_true rfl) ?_
  refine c_T_isStrange hA hr hqr (fun e => cp1 ?_) (fun e => cp1 ?_)
  · refine r_if_eq (t := 26) 4 rfl (by decide) ⟨by decide, by decide⟩ (fun _ => ?_) (fun e2 => absurd rfl e2)
    refine r_iconst 13 rfl ?_
    refine r_iret 14 rfl rfl rfl ?_
    exact hb (by omega)
  refine r_if_eq (t := 26) 4 rfl (by decide) ⟨by decide, by decide⟩ (fun e2 => absurd e2 (by decide)) (fun _ => ?_)
  skip
  refine r_iload_n 5 rfl rfl ?_
  refine r_iconst 6 rfl ?_
  refine r_out_ne (tt := 26) 7 rfl l_T_117 rfl (by decide) (by first | exact hA _ _ | exact ⟨by decide, by decide⟩ | assumption | exact ⟨by omega, by omega⟩) (by first | exact hA _ _ | exact ⟨by decide, by decide⟩ | assumption | exact ⟨by omega, by omega⟩) (Nat.le_of_ble_eq_true rfl) (fun c_11 => ?_) (fun c_11 => ?_)
  · refine r_iconst 13 rfl ?_
    refine r_iret 14 rfl rfl rfl ?_
    exact hb (by omega)
  · refine r_iload 9 rfl rfl ?_
    refine r_iconst 10 rfl ?_
    refine r_out_eq (tt := 28) 11 rfl l_T_117 rfl (by decide) (by first | exact hA _ _ | exact ⟨by decide, by decide⟩ | assumption | exact ⟨by omega, by omega⟩) (by first | exact hA _ _ | exact ⟨by decide, by decide⟩ | assumption | exact ⟨by omega, by omega⟩) (Nat.le_of_ble_eq_true rfl) (fun c_20 => ?_) (fun c_20 => ?_)
    · obtain ⟨⟨s0, s1⟩, ⟨c0, c1⟩, hp1, hq1, hl1⟩ := hS (by omega) r (by omega) (by omega)
      refine r_aload_n 15 rfl rfl ?_
      refine r_iload_n 16 rfl rfl ?_
      refine r_callv1 17 rfl l_T_232 (hp_at rfl) (Nat.le_of_ble_eq_true rfl) ?_
      refine c_T_stateOf hA (by omega) (by omega) (cp1 ?_)
      refine r_istore 18 rfl (Nat.le_of_ble_eq_true rfl) ?_
      refine r_aload_n 19 rfl rfl ?_
      refine r_get 20 rfl f_T_56 (hp_at rfl) rfl ?_
      refine r_iload 21 rfl rfl ?_
      refine r_iaload 22 rfl (hp_at rfl) (by decide) (by omega) (by omega) ?_
      refine r_iconst 23 rfl ?_
      refine r_icmp_ne (t := 68) 24 rfl (by decide) (by first | exact hA _ _ | exact ⟨by decide, by decide⟩ | assumption | exact ⟨by omega, by omega⟩) (by first | exact hA _ _ | exact ⟨by decide, by decide⟩ | assumption | exact ⟨by omega, by omega⟩) (fun c_43 => ?_) (fun c_43 => ?_)
      · refine r_iconst 37 rfl ?_
        refine r_istore 38 rfl (Nat.le_of_ble_eq_true rfl) ?_
        refine r_iload 39 rfl rfl ?_
        refine r_if_ge (t := 89) 40 rfl (by decide) (by first | exact hA _ _ | exact ⟨by decide, by decide⟩ | assumption | exact ⟨by omega, by omega⟩) (fun c_73 => ?_) (fun c_73 => ?_)
        · omega
        · skip
          refine r_aload_n 41 rfl rfl ?_
          refine r_get 42 rfl f_T_90 (hp_at rfl) rfl ?_
          refine r_iload_n 43 rfl rfl ?_
          refine r_dup2 44 rfl rfl rfl ?_
          refine r_iaload 45 rfl (hp_at rfl) (by decide) (by omega) (by omega) ?_
          refine r_iconst 46 rfl ?_
          refine r_iadd 47 rfl ?_
          refine r_iastore 48 rfl (hp_at rfl) (by decide) (by omega) (by omega) ?_
          rw [ws_136]
          refine r_bipush 49 rfl rfl ?_
          refine r_iret 50 rfl rfl rfl ?_
          exact hn (by omega) (by omega)
      · refine r_aload_n 25 rfl rfl ?_
        refine r_get 26 rfl f_T_59 (hp_at rfl) rfl ?_
        refine r_iload 27 rfl rfl ?_
        refine r_iaload 28 rfl (hp_at rfl) (by decide) (by omega) (by omega) ?_
        refine r_iload_n 29 rfl rfl ?_
        refine r_icmp_ne (t := 68) 30 rfl (by decide) (by first | exact hA _ _ | exact ⟨by decide, by decide⟩ | assumption | exact ⟨by omega, by omega⟩) (by first | exact hA _ _ | exact ⟨by decide, by decide⟩ | assumption | exact ⟨by omega, by omega⟩) (fun c_54 => ?_) (fun c_54 => ?_)
        · refine r_iconst 37 rfl ?_
          refine r_istore 38 rfl (Nat.le_of_ble_eq_true rfl) ?_
          refine r_iload 39 rfl rfl ?_
          refine r_if_ge (t := 89) 40 rfl (by decide) (by first | exact hA _ _ | exact ⟨by decide, by decide⟩ | assumption | exact ⟨by omega, by omega⟩) (fun c_73 => ?_) (fun c_73 => ?_)
          · omega
          · skip
            refine r_aload_n 41 rfl rfl ?_
            refine r_get 42 rfl f_T_90 (hp_at rfl) rfl ?_
            refine r_iload_n 43 rfl rfl ?_
            refine r_dup2 44 rfl rfl rfl ?_
            refine r_iaload 45 rfl (hp_at rfl) (by decide) (by omega) (by omega) ?_
            refine r_iconst 46 rfl ?_
            refine r_iadd 47 rfl ?_
            refine r_iastore 48 rfl (hp_at rfl) (by decide) (by omega) (by omega) ?_
            rw [ws_136]
            refine r_bipush 49 rfl rfl ?_
            refine r_iret 50 rfl rfl rfl ?_
            exact hn (by omega) (by omega)
        · refine r_aload_n 31 rfl rfl ?_
          refine r_iload_n 32 rfl rfl ?_
          refine r_iload_n 33 rfl rfl ?_
          refine r_iload 34 rfl rfl ?_
          refine r_callv3 35 rfl l_T_235 (hp_at rfl) (Nat.le_of_ble_eq_true rfl) ?_
          refine c_T_found hA (by omega) (by omega) hl hso s0 s1 c1 (fun k hk => cp1 ?_)
          have hkr : -1 ≤ k ∧ k < 6 := by unfold tFnd at hk; omega
          have hkg : rg k := ⟨by omega, by omega⟩
          have hpp := hp1 (by omega)
          have hqs := hq1 (4 * r + A 124 (tso A r)) (by omega) (by omega)
          skip
          refine r_goto (t := 69) 36 rfl (by decide) ?_
          refine r_istore 38 rfl (Nat.le_of_ble_eq_true rfl) ?_
          refine r_iload 39 rfl rfl ?_
          refine r_if_ge (t := 89) 40 rfl (by decide) (by first | exact hA _ _ | exact ⟨by decide, by decide⟩ | assumption | exact ⟨by omega, by omega⟩) (fun c_73 => ?_) (fun c_73 => ?_)
          · refine r_aload_n 51 rfl rfl ?_
            refine r_iload_n 52 rfl rfl ?_
            refine r_iload 53 rfl rfl ?_
            refine r_callv2 54 rfl l_T_238 (hp_at rfl) (Nat.le_of_ble_eq_true rfl) ?_
            refine c_T_put hA (by omega) (by omega) s0 s1 (by omega) (by omega) hpp.1 hpp.2 hqs.1 hqs.2 (fun e => cp1 ?_) (fun e => cp1 ?_)
            · refine r_iret 55 rfl rfl rfl ?_
              exact hw k (by omega) (by omega) (by omega) (by omega) hk e
            · refine r_iret 55 rfl rfl rfl ?_
              exact hq k (by omega) (by omega) (by omega) (by omega) hk e
          · obtain rfl : k = -1 := by omega
            refine r_aload_n 41 rfl rfl ?_
            refine r_get 42 rfl f_T_90 (hp_at rfl) rfl ?_
            refine r_iload_n 43 rfl rfl ?_
            refine r_dup2 44 rfl rfl rfl ?_
            refine r_iaload 45 rfl (hp_at rfl) (by decide) (by omega) (by omega) ?_
            refine r_iconst 46 rfl ?_
            refine r_iadd 47 rfl ?_
            refine r_iastore 48 rfl (hp_at rfl) (by decide) (by omega) (by omega) ?_
            rw [ws_136]
            refine r_bipush 49 rfl rfl ?_
            refine r_iret 50 rfl rfl rfl ?_
            exact hn (by omega) (Or.inr (Or.inr hk))
    · refine r_iconst 13 rfl ?_
      refine r_iret 14 rfl rfl rfl ?_
      exact hb (by omega)
theorem c_T_at {r w : Int} (hA : rga A) (hr : rg r) (hw : rg w)
    (hb : (A 100 32 = 0 ∨ r < 0 ∨ 3 < r) → Q (.returned (some (iv (-1)))) (hp K.n A R g t u))
    (hq : ¬ (A 100 32 = 0 ∨ r < 0 ∨ 3 < r) → Q (.returned (some (iv (if w = 0 then A 134 r else if w = 1 then A 136 r else if w = 2 then (if A 135 r = 0 then 0 else 1) else -1)))) (hp K.n A R g t u)) : mx K M_T_at (d + 1) [.ref (xa K.n 32), iv r, iv w] (hp K.n A R g t u) Q := by
  refine mx_in ok_T_at rfl (Nat.le_of_ble_eq_true rfl) ?_
  refine r_aload_n 0 rfl rfl ?_
  refine r_get 1 rfl f_T_207 (hp_at rfl) rfl ?_
  refine r_if_eq (t := 15) 2 rfl (by decide) (by first | exact hA _ _ | exact ⟨by decide, by decide⟩ | assumption | exact ⟨by omega, by omega⟩) (fun c_4 => ?_) (fun c_4 => ?_)
  · refine r_iconst 7 rfl ?_
    refine r_iret 8 rfl rfl rfl ?_
    exact hb (by omega)
  · refine r_iload_n 3 rfl rfl ?_
    refine r_iconst 4 rfl ?_
    refine r_out_eq (tt := 17) 5 rfl l_T_117 rfl (by decide) (by first | exact hA _ _ | exact ⟨by decide, by decide⟩ | assumption | exact ⟨by omega, by omega⟩) (by first | exact hA _ _ | exact ⟨by decide, by decide⟩ | assumption | exact ⟨by omega, by omega⟩) (Nat.le_of_ble_eq_true rfl) (fun c_9 => ?_) (fun c_9 => ?_)
    · refine r_iload_n 9 rfl rfl ?_
      refine r_if_ne (t := 30) 10 rfl (by decide) (by first | exact hA _ _ | exact ⟨by decide, by decide⟩ | assumption | exact ⟨by omega, by omega⟩) (fun c_18 => ?_) (fun c_18 => ?_)
      · refine r_iload_n 16 rfl rfl ?_
        refine r_iconst 17 rfl ?_
        refine r_icmp_ne (t := 44) 18 rfl (by decide) (by first | exact hA _ _ | exact ⟨by decide, by decide⟩ | assumption | exact ⟨by omega, by omega⟩) (by first | exact hA _ _ | exact ⟨by decide, by decide⟩ | assumption | exact ⟨by omega, by omega⟩) (fun c_32 => ?_) (fun c_32 => ?_)
        · refine r_iload_n 24 rfl rfl ?_
          refine r_iconst 25 rfl ?_
          refine r_icmp_ne (t := 66) 26 rfl (by decide) (by first | exact hA _ _ | exact ⟨by decide, by decide⟩ | assumption | exact ⟨by omega, by omega⟩) (by first | exact hA _ _ | exact ⟨by decide, by decide⟩ | assumption | exact ⟨by omega, by omega⟩) (fun c_46 => ?_) (fun c_46 => ?_)
          · refine r_iconst 36 rfl ?_
            refine r_iret 37 rfl rfl rfl ?_
            exact q_v (hq (by omega)) (by simp_all)
          · refine r_aload_n 27 rfl rfl ?_
            refine r_get 28 rfl f_T_87 (hp_at rfl) rfl ?_
            refine r_iload_n 29 rfl rfl ?_
            refine r_baload 30 rfl (hp_at rfl) (by decide) (by omega) (by omega) ?_
            refine r_if_eq (t := 62) 31 rfl (by decide) (by first | exact hA _ _ | exact ⟨by decide, by decide⟩ | assumption | exact ⟨by omega, by omega⟩) (fun c_55 => ?_) (fun c_55 => ?_)
            · refine r_iconst 34 rfl ?_
              refine r_goto (t := 67) 35 rfl (by decide) ?_
              refine r_iret 37 rfl rfl rfl ?_
              exact q_v (hq (by omega)) (by simp_all)
            · refine r_iconst 32 rfl ?_
              refine r_goto (t := 67) 33 rfl (by decide) ?_
              refine r_iret 37 rfl rfl rfl ?_
              exact q_v (hq (by omega)) (by simp_all)
        · refine r_aload_n 19 rfl rfl ?_
          refine r_get 20 rfl f_T_90 (hp_at rfl) rfl ?_
          refine r_iload_n 21 rfl rfl ?_
          refine r_iaload 22 rfl (hp_at rfl) (by decide) (by omega) (by omega) ?_
          refine r_goto (t := 67) 23 rfl (by decide) ?_
          refine r_iret 37 rfl rfl rfl ?_
          exact q_v (hq (by omega)) (by simp_all)
      · refine r_aload_n 11 rfl rfl ?_
        refine r_get 12 rfl f_T_84 (hp_at rfl) rfl ?_
        refine r_iload_n 13 rfl rfl ?_
        refine r_iaload 14 rfl (hp_at rfl) (by decide) (by omega) (by omega) ?_
        refine r_goto (t := 67) 15 rfl (by decide) ?_
        refine r_iret 37 rfl rfl rfl ?_
        exact q_v (hq (by omega)) (by simp_all)
    · refine r_iconst 7 rfl ?_
      refine r_iret 8 rfl rfl rfl ?_
      exact hb (by omega)
theorem c_T_queue {p q : Int} (hA : rga A) (hr : rg p) (hqr : rg q)
    (hb : (A 100 32 = 0 ∨ p < 0 ∨ 3 < p ∨ q < 0 ∨ 3 < q ∨ p = q) → Q (.returned (some (iv (-1)))) (hp K.n A R g t u))
    (hq : ¬ (A 100 32 = 0 ∨ p < 0 ∨ 3 < p ∨ q < 0 ∨ 3 < q ∨ p = q) → Q (.returned (some (iv (A 137 (4 * p + q))))) (hp K.n A R g t u)) : mx K M_T_queue (d + 1) [.ref (xa K.n 32), iv p, iv q] (hp K.n A R g t u) Q := by
  refine mx_in ok_T_queue rfl (Nat.le_of_ble_eq_true rfl) ?_
  refine r_aload_n 0 rfl rfl ?_
  refine r_get 1 rfl f_T_207 (hp_at rfl) rfl ?_
  refine r_if_eq (t := 28) 2 rfl (by decide) (by first | exact hA _ _ | exact ⟨by decide, by decide⟩ | assumption | exact ⟨by omega, by omega⟩) (fun c_4 => ?_) (fun c_4 => ?_)
  · refine r_iconst 14 rfl ?_
    refine r_goto (t := 42) 15 rfl (by decide) ?_
    refine r_iret 24 rfl rfl rfl ?_
    exact hb (by omega)
  · refine r_iload_n 3 rfl rfl ?_
    refine r_iconst 4 rfl ?_
    refine r_out_ne (tt := 28) 5 rfl l_T_117 rfl (by decide) (by first | exact hA _ _ | exact ⟨by decide, by decide⟩ | assumption | exact ⟨by omega, by omega⟩) (by first | exact hA _ _ | exact ⟨by decide, by decide⟩ | assumption | exact ⟨by omega, by omega⟩) (Nat.le_of_ble_eq_true rfl) (fun c_9 => ?_) (fun c_9 => ?_)
    · refine r_iconst 14 rfl ?_
      refine r_goto (t := 42) 15 rfl (by decide) ?_
      refine r_iret 24 rfl rfl rfl ?_
      exact hb (by omega)
    · refine r_iload_n 7 rfl rfl ?_
      refine r_iconst 8 rfl ?_
      refine r_out_ne (tt := 28) 9 rfl l_T_117 rfl (by decide) (by first | exact hA _ _ | exact ⟨by decide, by decide⟩ | assumption | exact ⟨by omega, by omega⟩) (by first | exact hA _ _ | exact ⟨by decide, by decide⟩ | assumption | exact ⟨by omega, by omega⟩) (Nat.le_of_ble_eq_true rfl) (fun c_17 => ?_) (fun c_17 => ?_)
      · refine r_iconst 14 rfl ?_
        refine r_goto (t := 42) 15 rfl (by decide) ?_
        refine r_iret 24 rfl rfl rfl ?_
        exact hb (by omega)
      · refine r_iload_n 11 rfl rfl ?_
        refine r_iload_n 12 rfl rfl ?_
        refine r_icmp_ne (t := 32) 13 rfl (by decide) (by first | exact hA _ _ | exact ⟨by decide, by decide⟩ | assumption | exact ⟨by omega, by omega⟩) (by first | exact hA _ _ | exact ⟨by decide, by decide⟩ | assumption | exact ⟨by omega, by omega⟩) (fun c_25 => ?_) (fun c_25 => ?_)
        · refine r_aload_n 16 rfl rfl ?_
          refine r_get 17 rfl f_T_93 (hp_at rfl) rfl ?_
          refine r_iconst 18 rfl ?_
          refine r_iload_n 19 rfl rfl ?_
          refine r_imul 20 rfl ?_
          refine r_iload_n 21 rfl rfl ?_
          refine r_iadd 22 rfl ?_
          refine r_iaload 23 rfl (hp_at rfl) (by decide) (by omega) (by omega) ?_
          refine r_iret 24 rfl rfl rfl ?_
          exact hq (by omega)
        · refine r_iconst 14 rfl ?_
          refine r_goto (t := 42) 15 rfl (by decide) ?_
          refine r_iret 24 rfl rfl rfl ?_
          exact hb (by omega)
/-- the machines of the table are in their ranges -/
def tMr (A : Nat → Int → Int) : Prop := ∀ m, 0 ≤ m → m < 9 → 0 ≤ A 122 m ∧ A 122 m ≤ 30
theorem c_T_state {r s w : Int} (hA : rga A) (hr : rg r) (hs : rg s) (hw : rg w) (hM : tMr A)
    (hb : (A 100 13 = 0 ∨ r < 0 ∨ 3 < r ∨ s < 0 ∨ A 122 (tmo A r) - 1 < s) → Q (.returned (some (iv (-1)))) (hp K.n A R g t u))
    (hq : ¬ (A 100 13 = 0 ∨ r < 0 ∨ 3 < r ∨ s < 0 ∨ A 122 (tmo A r) - 1 < s) → Q (.returned (some (iv (if w = 0 then A 123 (31 * tmo A r + s) else if w = 1 then A 124 (31 * tmo A r + s) else if w = 2 then A 125 (31 * tmo A r + s) else -1)))) (hp K.n A R g t u)) : mx K M_T_state (d + 1) [.ref (xa K.n 32), iv r, iv s, iv w] (hp K.n A R g t u) Q := by
  refine mx_in ok_T_state rfl (Nat.le_of_ble_eq_true rfl) ?_
  refine r_aload_n 0 rfl rfl ?_
  refine r_get 1 rfl f_T_203 (hp_at rfl) rfl ?_
  refine r_if_eq (t := 34) 2 rfl (by decide) (by first | exact hA _ _ | exact ⟨by decide, by decide⟩ | assumption | exact ⟨by omega, by omega⟩) (fun c_4 => ?_) (fun c_4 => ?_)
  · refine r_iconst 18 rfl ?_
    refine r_iret 19 rfl rfl rfl ?_
    exact hb (by omega)
  · refine r_iload_n 3 rfl rfl ?_
    refine r_iconst 4 rfl ?_
    refine r_out_ne (tt := 34) 5 rfl l_T_117 rfl (by decide) (by first | exact hA _ _ | exact ⟨by decide, by decide⟩ | assumption | exact ⟨by omega, by omega⟩) (by first | exact hA _ _ | exact ⟨by decide, by decide⟩ | assumption | exact ⟨by omega, by omega⟩) (Nat.le_of_ble_eq_true rfl) (fun c_9 => ?_) (fun c_9 => ?_)
    · refine r_iconst 18 rfl ?_
      refine r_iret 19 rfl rfl rfl ?_
      exact hb (by omega)
    · have hmo := tmo_rg A (r := r) (by omega) (by omega)
      have hmr := hM (tmo A r) (by omega) (by omega)
      refine r_iload_n 7 rfl rfl ?_
      refine r_aload_n 8 rfl rfl ?_
      refine r_get 9 rfl f_T_53 (hp_at rfl) rfl ?_
      refine r_aload_n 10 rfl rfl ?_
      refine r_iload_n 11 rfl rfl ?_
      refine r_callv1 12 rfl l_T_226 (hp_at rfl) (Nat.le_of_ble_eq_true rfl) ?_
      refine c_T_machineOf hA (by omega) (by omega) (cp1 ?_)
      rw [show (if 0 < A 122 (4 + r) then 4 + r else r) = tmo A r from rfl]
      refine r_iaload 13 rfl (hp_at rfl) (by decide) (by omega) (by omega) ?_
      refine r_iconst 14 rfl ?_
      refine r_isub 15 rfl ?_
      refine r_out_eq (tt := 36) 16 rfl l_T_117 rfl (by decide) (by first | exact hA _ _ | exact ⟨by decide, by decide⟩ | assumption | exact ⟨by omega, by omega⟩) (by first | exact hA _ _ | exact ⟨by decide, by decide⟩ | assumption | exact ⟨by omega, by omega⟩) (Nat.le_of_ble_eq_true rfl) (fun c_28 => ?_) (fun c_28 => ?_)
      · refine r_bipush 20 rfl rfl ?_
        refine r_aload_n 21 rfl rfl ?_
        refine r_iload_n 22 rfl rfl ?_
        refine r_callv1 23 rfl l_T_226 (hp_at rfl) (Nat.le_of_ble_eq_true rfl) ?_
        refine c_T_machineOf hA (by omega) (by omega) (cp1 ?_)
        rw [show (if 0 < A 122 (4 + r) then 4 + r else r) = tmo A r from rfl]
        refine r_imul 24 rfl ?_
        refine r_iload_n 25 rfl rfl ?_
        refine r_iadd 26 rfl ?_
        refine r_istore 27 rfl (Nat.le_of_ble_eq_true rfl) ?_
        refine r_iload_n 28 rfl rfl ?_
        refine r_if_ne (t := 62) 29 rfl (by decide) (by first | exact hA _ _ | exact ⟨by decide, by decide⟩ | assumption | exact ⟨by omega, by omega⟩) (fun c_49 => ?_) (fun c_49 => ?_)
        · refine r_iload_n 35 rfl rfl ?_
          refine r_iconst 36 rfl ?_
          refine r_icmp_ne (t := 77) 37 rfl (by decide) (by first | exact hA _ _ | exact ⟨by decide, by decide⟩ | assumption | exact ⟨by omega, by omega⟩) (by first | exact hA _ _ | exact ⟨by decide, by decide⟩ | assumption | exact ⟨by omega, by omega⟩) (fun c_64 => ?_) (fun c_64 => ?_)
          · refine r_iload_n 43 rfl rfl ?_
            refine r_iconst 44 rfl ?_
            refine r_icmp_ne (t := 92) 45 rfl (by decide) (by first | exact hA _ _ | exact ⟨by decide, by decide⟩ | assumption | exact ⟨by omega, by omega⟩) (by first | exact hA _ _ | exact ⟨by decide, by decide⟩ | assumption | exact ⟨by omega, by omega⟩) (fun c_79 => ?_) (fun c_79 => ?_)
            · refine r_iconst 51 rfl ?_
              refine r_iret 52 rfl rfl rfl ?_
              exact q_v (hq (by omega)) (by simp_all)
            · refine r_aload_n 46 rfl rfl ?_
              refine r_get 47 rfl f_T_62 (hp_at rfl) rfl ?_
              refine r_iload 48 rfl rfl ?_
              refine r_iaload 49 rfl (hp_at rfl) (by decide) (by omega) (by omega) ?_
              refine r_goto (t := 93) 50 rfl (by decide) ?_
              refine r_iret 52 rfl rfl rfl ?_
              exact q_v (hq (by omega)) (by simp_all)
          · refine r_aload_n 38 rfl rfl ?_
            refine r_get 39 rfl f_T_59 (hp_at rfl) rfl ?_
            refine r_iload 40 rfl rfl ?_
            refine r_iaload 41 rfl (hp_at rfl) (by decide) (by omega) (by omega) ?_
            refine r_goto (t := 93) 42 rfl (by decide) ?_
            refine r_iret 52 rfl rfl rfl ?_
            exact q_v (hq (by omega)) (by simp_all)
        · refine r_aload_n 30 rfl rfl ?_
          refine r_get 31 rfl f_T_56 (hp_at rfl) rfl ?_
          refine r_iload 32 rfl rfl ?_
          refine r_iaload 33 rfl (hp_at rfl) (by decide) (by omega) (by omega) ?_
          refine r_goto (t := 93) 34 rfl (by decide) ?_
          refine r_iret 52 rfl rfl rfl ?_
          exact q_v (hq (by omega)) (by simp_all)
      · refine r_iconst 18 rfl ?_
        refine r_iret 19 rfl rfl rfl ?_
        exact hb (by omega)
theorem c_T_label {r s k w : Int} (hA : rga A) (hr : rg r) (hs : rg s) (hk : rg k) (hw : rg w) (hM : tMr A) (hC : ∀ s, 0 ≤ s → s < 279 → 0 ≤ A 125 s ∧ A 125 s ≤ 6)
    (hb : (A 100 13 = 0 ∨ r < 0 ∨ 3 < r ∨ s < 0 ∨ A 122 (tmo A r) - 1 < s ∨ k < 0 ∨ A 125 (31 * tmo A r + s) - 1 < k) → Q (.returned (some (iv (-1)))) (hp K.n A R g t u))
    (hq : ¬ (A 100 13 = 0 ∨ r < 0 ∨ 3 < r ∨ s < 0 ∨ A 122 (tmo A r) - 1 < s ∨ k < 0 ∨ A 125 (31 * tmo A r + s) - 1 < k) → Q (.returned (some (iv (if w = 0 then A 126 (6 * (31 * tmo A r + s) + k) else if w = 1 then A 127 (6 * (31 * tmo A r + s) + k) else if w = 2 then A 128 (6 * (31 * tmo A r + s) + k) else -1)))) (hp K.n A R g t u)) : mx K M_T_label (d + 1) [.ref (xa K.n 32), iv r, iv s, iv k, iv w] (hp K.n A R g t u) Q := by
  refine mx_in ok_T_label rfl (Nat.le_of_ble_eq_true rfl) ?_
  refine r_aload_n 0 rfl rfl ?_
  refine r_get 1 rfl f_T_203 (hp_at rfl) rfl ?_
  refine r_if_eq (t := 34) 2 rfl (by decide) (by first | exact hA _ _ | exact ⟨by decide, by decide⟩ | assumption | exact ⟨by omega, by omega⟩) (fun c_4 => ?_) (fun c_4 => ?_)
  · refine r_iconst 18 rfl ?_
    refine r_iret 19 rfl rfl rfl ?_
    exact hb (by omega)
  · refine r_iload_n 3 rfl rfl ?_
    refine r_iconst 4 rfl ?_
    refine r_out_ne (tt := 34) 5 rfl l_T_117 rfl (by decide) (by first | exact hA _ _ | exact ⟨by decide, by decide⟩ | assumption | exact ⟨by omega, by omega⟩) (by first | exact hA _ _ | exact ⟨by decide, by decide⟩ | assumption | exact ⟨by omega, by omega⟩) (Nat.le_of_ble_eq_true rfl) (fun c_9 => ?_) (fun c_9 => ?_)
    · refine r_iconst 18 rfl ?_
      refine r_iret 19 rfl rfl rfl ?_
      exact hb (by omega)
    · have hmo := tmo_rg A (r := r) (by omega) (by omega)
      have hmr := hM (tmo A r) (by omega) (by omega)
      refine r_iload_n 7 rfl rfl ?_
      refine r_aload_n 8 rfl rfl ?_
      refine r_get 9 rfl f_T_53 (hp_at rfl) rfl ?_
      refine r_aload_n 10 rfl rfl ?_
      refine r_iload_n 11 rfl rfl ?_
      refine r_callv1 12 rfl l_T_226 (hp_at rfl) (Nat.le_of_ble_eq_true rfl) ?_
      refine c_T_machineOf hA (by omega) (by omega) (cp1 ?_)
      rw [show (if 0 < A 122 (4 + r) then 4 + r else r) = tmo A r from rfl]
      refine r_iaload 13 rfl (hp_at rfl) (by decide) (by omega) (by omega) ?_
      refine r_iconst 14 rfl ?_
      refine r_isub 15 rfl ?_
      refine r_out_eq (tt := 36) 16 rfl l_T_117 rfl (by decide) (by first | exact hA _ _ | exact ⟨by decide, by decide⟩ | assumption | exact ⟨by omega, by omega⟩) (by first | exact hA _ _ | exact ⟨by decide, by decide⟩ | assumption | exact ⟨by omega, by omega⟩) (Nat.le_of_ble_eq_true rfl) (fun c_28 => ?_) (fun c_28 => ?_)
      · refine r_bipush 20 rfl rfl ?_
        refine r_aload_n 21 rfl rfl ?_
        refine r_iload_n 22 rfl rfl ?_
        refine r_callv1 23 rfl l_T_226 (hp_at rfl) (Nat.le_of_ble_eq_true rfl) ?_
        refine c_T_machineOf hA (by omega) (by omega) (cp1 ?_)
        rw [show (if 0 < A 122 (4 + r) then 4 + r else r) = tmo A r from rfl]
        refine r_imul 24 rfl ?_
        refine r_iload_n 25 rfl rfl ?_
        refine r_iadd 26 rfl ?_
        refine r_istore 27 rfl (Nat.le_of_ble_eq_true rfl) ?_
        have hcc := hC (31 * tmo A r + s) (by omega) (by omega)
        refine r_iload_n 28 rfl rfl ?_
        refine r_aload_n 29 rfl rfl ?_
        refine r_get 30 rfl f_T_62 (hp_at rfl) rfl ?_
        refine r_iload 31 rfl rfl ?_
        refine r_iaload 32 rfl (hp_at rfl) (by decide) (by omega) (by omega) ?_
        refine r_iconst 33 rfl ?_
        refine r_isub 34 rfl ?_
        refine r_out_eq (tt := 66) 35 rfl l_T_117 rfl (by decide) (by first | exact hA _ _ | exact ⟨by decide, by decide⟩ | assumption | exact ⟨by omega, by omega⟩) (by first | exact hA _ _ | exact ⟨by decide, by decide⟩ | assumption | exact ⟨by omega, by omega⟩) (Nat.le_of_ble_eq_true rfl) (fun c_58 => ?_) (fun c_58 => ?_)
        · refine r_iload 39 rfl rfl ?_
          refine r_if_ne (t := 86) 40 rfl (by decide) (by first | exact hA _ _ | exact ⟨by decide, by decide⟩ | assumption | exact ⟨by omega, by omega⟩) (fun c_68 => ?_) (fun c_68 => ?_)
          · refine r_iload 50 rfl rfl ?_
            refine r_iconst 51 rfl ?_
            refine r_icmp_ne (t := 107) 52 rfl (by decide) (by first | exact hA _ _ | exact ⟨by decide, by decide⟩ | assumption | exact ⟨by omega, by omega⟩) (by first | exact hA _ _ | exact ⟨by decide, by decide⟩ | assumption | exact ⟨by omega, by omega⟩) (fun c_89 => ?_) (fun c_89 => ?_)
            · refine r_iload 62 rfl rfl ?_
              refine r_iconst 63 rfl ?_
              refine r_icmp_ne (t := 128) 64 rfl (by decide) (by first | exact hA _ _ | exact ⟨by decide, by decide⟩ | assumption | exact ⟨by omega, by omega⟩) (by first | exact hA _ _ | exact ⟨by decide, by decide⟩ | assumption | exact ⟨by omega, by omega⟩) (fun c_110 => ?_) (fun c_110 => ?_)
              · refine r_iconst 74 rfl ?_
                refine r_iret 75 rfl rfl rfl ?_
                exact q_v (hq (by omega)) (by simp_all)
              · refine r_aload_n 65 rfl rfl ?_
                refine r_get 66 rfl f_T_71 (hp_at rfl) rfl ?_
                refine r_bipush 67 rfl rfl ?_
                refine r_iload 68 rfl rfl ?_
                refine r_imul 69 rfl ?_
                refine r_iload_n 70 rfl rfl ?_
                refine r_iadd 71 rfl ?_
                refine r_iaload 72 rfl (hp_at rfl) (by decide) (by omega) (by omega) ?_
                refine r_goto (t := 129) 73 rfl (by decide) ?_
                refine r_iret 75 rfl rfl rfl ?_
                exact q_v (hq (by omega)) (by simp_all)
            · refine r_aload_n 53 rfl rfl ?_
              refine r_get 54 rfl f_T_68 (hp_at rfl) rfl ?_
              refine r_bipush 55 rfl rfl ?_
              refine r_iload 56 rfl rfl ?_
              refine r_imul 57 rfl ?_
              refine r_iload_n 58 rfl rfl ?_
              refine r_iadd 59 rfl ?_
              refine r_iaload 60 rfl (hp_at rfl) (by decide) (by omega) (by omega) ?_
              refine r_goto (t := 129) 61 rfl (by decide) ?_
              refine r_iret 75 rfl rfl rfl ?_
              exact q_v (hq (by omega)) (by simp_all)
          · refine r_aload_n 41 rfl rfl ?_
            refine r_get 42 rfl f_T_65 (hp_at rfl) rfl ?_
            refine r_bipush 43 rfl rfl ?_
            refine r_iload 44 rfl rfl ?_
            refine r_imul 45 rfl ?_
            refine r_iload_n 46 rfl rfl ?_
            refine r_iadd 47 rfl ?_
            refine r_iaload 48 rfl (hp_at rfl) (by decide) (by omega) (by omega) ?_
            refine r_goto (t := 129) 49 rfl (by decide) ?_
            refine r_iret 75 rfl rfl rfl ?_
            exact q_v (hq (by omega)) (by simp_all)
        · refine r_iconst 37 rfl ?_
          refine r_iret 38 rfl rfl rfl ?_
          exact hb (by omega)
      · refine r_iconst 18 rfl ?_
        refine r_iret 19 rfl rfl rfl ?_
        exact hb (by omega)
end TW4


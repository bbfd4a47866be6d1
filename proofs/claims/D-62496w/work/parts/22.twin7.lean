/-! the twin: begin, copyMachine -/
section TW7
variable {K : xk} {M : xm} {d : Nat} {Q : Outcome → xh → Prop} {A : Nat → Int → Int} {R : Nat → Int → Value} {g : Nat → Nat × List Value} {t u : Nat}
def tAll (A : Nat → Int → Int) : Prop := A 100 13 ≠ 0 ∧ ∀ r, 0 ≤ r → r < 4 → 0 < A 122 (tmo A r)
def tBegR (A : Nat → Int → Int) (i : Int) : Nat → Int → Int := fil (fil (fil A 134 0 i 0) 135 0 i 0) 136 0 i 0
theorem tBegR_step (A : Nat → Int → Int) {i : Int} (h : 0 ≤ i) : au (au (au (tBegR A i) 134 i 0) 135 i 0) 136 i 0 = tBegR A (i + 1) := by
  unfold tBegR
  rw [au_fil _ _ _ _ _ _ (by decide : (134 : Nat) ≠ 136), au_fil _ _ _ _ _ _ (by decide : (134 : Nat) ≠ 135), fil_step _ _ _ h, au_fil _ _ _ _ _ _ (by decide : (135 : Nat) ≠ 136), fil_step _ _ _ h, fil_step _ _ _ h]
def tBeg (A : Nat → Int → Int) : Nat → Int → Int := fil (tBegR (au (au A 100 32 1) 100 33 0) 4) 137 0 16 0
theorem c_T_begin (hA : rga A) (hM : tMr A)
    (hn : ¬ tAll A → Q (.returned (some (iv 0))) (hp K.n A R g t u))
    (hq : tAll A → Q (.returned (some (iv 1))) (hp K.n (tBeg A) R g t u)) : mx K M_T_begin (d + 1) [.ref (xa K.n 32)] (hp K.n A R g t u) Q := by
  refine mx_in ok_T_begin rfl (Nat.le_of_ble_eq_true rfl) ?_
  have l3 : ∀ (m : Nat) (i : Int) (l1 : Int) (A1 : Nat → Int → Int), rga A1 → 0 ≤ i → i ≤ 16 → 16 - i < m → (∀ Q' : Prop, (fil A1 137 0 16 0 = tBeg A → Q') → Q') → tAll A → wx K M_T_begin (d + 1) Q 93 [some (.ref (xa K.n 32)), some (iv l1), some (iv i)] [] (hp K.n (fil A1 137 0 i 0) R g t u) := by
    intro m
    induction m with
    | zero => intro i l1 A1 hA1 i0 i1 i2; omega
    | succ m ih =>
      intro i l1 A1 hA1 i0 i1 i2 hfin hall
      have hA := rga_fil hA1 (j := 137) (lo := 0) (hi := i) rg_0
      by_cases hi : i = 16
      · subst hi
        refine r_iload_n 57 rfl rfl ?_
        refine r_bipush 58 rfl rfl ?_
        refine r_icmp_ge (t := 112) 59 rfl (by decide) (by first | exact hA _ _ | exact ⟨by decide, by decide⟩ | assumption | exact ⟨by omega, by omega⟩) (by first | exact hA _ _ | exact ⟨by decide, by decide⟩ | assumption | exact ⟨by omega, by omega⟩) (fun c_96 => ?_) (fun c_96 => by omega)
        refine r_iconst 67 rfl ?_
        refine r_iret 68 rfl rfl (by first | rfl | assumption) ?_
        exact hfin _ (fun e => by rw [e]; exact hq hall)
      · refine r_iload_n 57 rfl rfl ?_
        refine r_bipush 58 rfl rfl ?_
        refine r_icmp_ge (t := 112) 59 rfl (by decide) (by first | exact hA _ _ | exact ⟨by decide, by decide⟩ | assumption | exact ⟨by omega, by omega⟩) (by first | exact hA _ _ | exact ⟨by decide, by decide⟩ | assumption | exact ⟨by omega, by omega⟩) (fun c_96 => by omega) (fun c_96 => ?_)
        refine r_aload_n 60 rfl rfl ?_
        refine r_get 61 rfl f_T_93 (hp_at rfl) rfl ?_
        refine r_iload_n 62 rfl rfl ?_
        refine r_iconst 63 rfl ?_
        refine r_iastore 64 rfl (hp_at rfl) (by decide) (by omega) (by omega) ?_
        rw [ws_137]
        rw [fil_step _ _ _ i0]
        refine r_iinc 65 rfl rfl ?_
        refine r_goto (t := 93) 66 rfl (by decide) ?_
        exact ih _ _ _ hA1 (by omega) (by omega) (by omega) hfin hall
  have l2 : ∀ (m : Nat) (i : Int) (l1 : Int), 0 ≤ i → i ≤ 4 → 4 - i < m → tAll A → wx K M_T_begin (d + 1) Q 59 [some (.ref (xa K.n 32)), some (iv l1), some (iv i)] [] (hp K.n (tBegR (au (au A 100 32 1) 100 33 0) i) R g t u) := by
    intro m
    induction m with
    | zero => intro i l1 i0 i1 i2; omega
    | succ m ih =>
      intro i l1 i0 i1 i2 hall
      have hA : rga (tBegR (au (au A 100 32 1) 100 33 0) i) := rga_fil (rga_fil (rga_fil (rga_au (rga_au hA ⟨by decide, by decide⟩) ⟨by decide, by decide⟩) rg_0) rg_0) rg_0
      by_cases hi : i = 4
      · subst hi
        refine r_iload_n 35 rfl rfl ?_
        refine r_iconst 36 rfl ?_
        refine r_icmp_ge (t := 91) 37 rfl (by decide) (by first | exact hA _ _ | exact ⟨by decide, by decide⟩ | assumption | exact ⟨by omega, by omega⟩) (by first | exact hA _ _ | exact ⟨by decide, by decide⟩ | assumption | exact ⟨by omega, by omega⟩) (fun c_61 => ?_) (fun c_61 => by omega)
        refine r_iconst 55 rfl ?_
        refine r_istore_n 56 rfl (Nat.le_of_ble_eq_true rfl) ?_
        rw [← fil_0 (tBegR (au (au A 100 32 1) 100 33 0) 4) 137 0 0]
        exact l3 17 0 _ _ hA (by omega) (by omega) (by omega) (fun Q' h => h rfl) hall
      · refine r_iload_n 35 rfl rfl ?_
        refine r_iconst 36 rfl ?_
        refine r_icmp_ge (t := 91) 37 rfl (by decide) (by first | exact hA _ _ | exact ⟨by decide, by decide⟩ | assumption | exact ⟨by omega, by omega⟩) (by first | exact hA _ _ | exact ⟨by decide, by decide⟩ | assumption | exact ⟨by omega, by omega⟩) (fun c_61 => by omega) (fun c_61 => ?_)
        refine r_aload_n 38 rfl rfl ?_
        refine r_get 39 rfl f_T_84 (hp_at rfl) rfl ?_
        refine r_iload_n 40 rfl rfl ?_
        refine r_iconst 41 rfl ?_
        refine r_iastore 42 rfl (hp_at rfl) (by decide) (by omega) (by omega) ?_
        rw [ws_134]
        refine r_aload_n 43 rfl rfl ?_
        refine r_get 44 rfl f_T_87 (hp_at rfl) rfl ?_
        refine r_iload_n 45 rfl rfl ?_
        refine r_iconst 46 rfl ?_
        refine r_bastore 47 rfl (hp_at rfl) (by decide) (by omega) (by omega) rfl ?_
        rw [ws_135]
        refine r_aload_n 48 rfl rfl ?_
        refine r_get 49 rfl f_T_90 (hp_at rfl) rfl ?_
        refine r_iload_n 50 rfl rfl ?_
        refine r_iconst 51 rfl ?_
        refine r_iastore 52 rfl (hp_at rfl) (by decide) (by omega) (by omega) ?_
        rw [ws_136]
        rw [tBegR_step _ i0]
        refine r_iinc 53 rfl rfl ?_
        refine r_goto (t := 59) 54 rfl (by decide) ?_
        exact ih _ _ (by omega) (by omega) (by omega) hall
  have l1 : ∀ (m : Nat) (i b : Int), 0 ≤ i → i ≤ 4 → 4 - i < m → ((b = 0 ∧ ¬ tAll A) ∨ (b ≠ 0 ∧ rg b ∧ A 100 13 ≠ 0 ∧ ∀ r, 0 ≤ r → r < i → 0 < A 122 (tmo A r))) → wx K M_T_begin (d + 1) Q 7 [some (.ref (xa K.n 32)), some (iv b), some (iv i)] [] (hp K.n A R g t u) := by
    intro m
    induction m with
    | zero => intro i b i0 i1 i2; omega
    | succ m ih =>
      intro i b i0 i1 i2 hb
      have hbr : rg b := by rcases hb with ⟨rfl, -⟩ | ⟨-, h, -⟩; exact rg_0; exact h
      by_cases hi : i = 4
      · subst hi
        rcases hb with ⟨rfl, hb⟩ | ⟨hb, -, h13, hall⟩
        · refine r_iload_n 5 rfl rfl ?_
          refine r_iconst 6 rfl ?_
          refine r_icmp_ge (t := 41) 7 rfl (by decide) (by first | exact hA _ _ | exact ⟨by decide, by decide⟩ | assumption | exact ⟨by omega, by omega⟩) (by first | exact hA _ _ | exact ⟨by decide, by decide⟩ | assumption | exact ⟨by omega, by omega⟩) (fun c_9 => ?_) (fun c_9 => by omega)
          refine r_iload_n 23 rfl rfl ?_
          refine r_if_ne (t := 47) 24 rfl (by decide) (by first | exact hA _ _ | exact ⟨by decide, by decide⟩ | assumption | exact ⟨by omega, by omega⟩) (fun c_42 => by omega) (fun c_42 => ?_)
          refine r_iconst 25 rfl ?_
          refine r_iret 26 rfl rfl (by first | rfl | assumption) ?_
          exact hn hb
        · refine r_iload_n 5 rfl rfl ?_
          refine r_iconst 6 rfl ?_
          refine r_icmp_ge (t := 41) 7 rfl (by decide) (by first | exact hA _ _ | exact ⟨by decide, by decide⟩ | assumption | exact ⟨by omega, by omega⟩) (by first | exact hA _ _ | exact ⟨by decide, by decide⟩ | assumption | exact ⟨by omega, by omega⟩) (fun c_9 => ?_) (fun c_9 => by omega)
          refine r_iload_n 23 rfl rfl ?_
          refine r_if_ne (t := 47) 24 rfl (by decide) (by first | exact hA _ _ | exact ⟨by decide, by decide⟩ | assumption | exact ⟨by omega, by omega⟩) (fun c_42 => ?_) (fun c_42 => by omega)
          refine r_aload_n 27 rfl rfl ?_
          refine r_iconst 28 rfl ?_
          refine r_put 29 rfl f_T_207 (hp_at rfl) rfl rfl ?_
          rw [wT_32]
          refine r_aload_n 30 rfl rfl ?_
          refine r_iconst 31 rfl ?_
          refine r_put 32 rfl f_T_229 (hp_at rfl) rfl rfl ?_
          rw [wT_33]
          refine r_iconst 33 rfl ?_
          refine r_istore_n 34 rfl (Nat.le_of_ble_eq_true rfl) ?_
          have e : au (au A 100 32 1) 100 33 0 = tBegR (au (au A 100 32 1) 100 33 0) 0 := by unfold tBegR; rw [fil_0, fil_0, fil_0]
          rw [e]
          exact l2 5 0 _ (by omega) (by omega) (by omega) ⟨h13, hall⟩
      · have hmo := tmo_rg A (r := i) (by omega) (by omega)
        have hmr := hM (tmo A i) (by omega) (by omega)
        rcases hb with ⟨rfl, hb⟩ | ⟨hb, hb2, h13, hall⟩
        · refine r_iload_n 5 rfl rfl ?_
          refine r_iconst 6 rfl ?_
          refine r_icmp_ge (t := 41) 7 rfl (by decide) (by first | exact hA _ _ | exact ⟨by decide, by decide⟩ | assumption | exact ⟨by omega, by omega⟩) (by first | exact hA _ _ | exact ⟨by decide, by decide⟩ | assumption | exact ⟨by omega, by omega⟩) (fun c_9 => by omega) (fun c_9 => ?_)
          refine r_iload_n 8 rfl rfl ?_
          refine r_if_eq (t := 33) 9 rfl (by decide) (by first | exact hA _ _ | exact ⟨by decide, by decide⟩ | assumption | exact ⟨by omega, by omega⟩) (fun c_13 => ?_) (fun c_13 => by omega)
          refine r_iconst 19 rfl ?_
          refine r_istore_n 20 rfl (Nat.le_of_ble_eq_true rfl) ?_
          refine r_iinc 21 rfl rfl ?_
          refine r_goto (t := 7) 22 rfl (by decide) ?_
          exact ih _ _ (by omega) (by omega) (by omega) (Or.inl ⟨rfl, hb⟩)
        · refine r_iload_n 5 rfl rfl ?_
          refine r_iconst 6 rfl ?_
          refine r_icmp_ge (t := 41) 7 rfl (by decide) (by first | exact hA _ _ | exact ⟨by decide, by decide⟩ | assumption | exact ⟨by omega, by omega⟩) (by first | exact hA _ _ | exact ⟨by decide, by decide⟩ | assumption | exact ⟨by omega, by omega⟩) (fun c_9 => by omega) (fun c_9 => ?_)
          refine r_iload_n 8 rfl rfl ?_
          refine r_if_eq (t := 33) 9 rfl (by decide) (by first | exact hA _ _ | exact ⟨by decide, by decide⟩ | assumption | exact ⟨by omega, by omega⟩) (fun c_13 => by omega) (fun c_13 => ?_)
          refine r_aload_n 10 rfl rfl ?_
          refine r_get 11 rfl f_T_53 (hp_at rfl) rfl ?_
          refine r_aload_n 12 rfl rfl ?_
          refine r_iload_n 13 rfl rfl ?_
          refine r_callv1 14 rfl l_T_226 (hp_at rfl) (Nat.le_of_ble_eq_true rfl) ?_
          refine c_T_machineOf hA (by omega) (by omega) (cp1 ?_)
          rw [show (if 0 < A 122 (4 + i) then 4 + i else i) = tmo A i from rfl]
          refine r_iaload 15 rfl (hp_at rfl) (by decide) (by omega) (by omega) ?_
          refine r_if_le (t := 33) 16 rfl (by decide) (by first | exact hA _ _ | exact ⟨by decide, by decide⟩ | assumption | exact ⟨by omega, by omega⟩) (fun c_26 => ?_) (fun c_26 => ?_)
          · refine r_iconst 19 rfl ?_
            refine r_istore_n 20 rfl (Nat.le_of_ble_eq_true rfl) ?_
            refine r_iinc 21 rfl rfl ?_
            refine r_goto (t := 7) 22 rfl (by decide) ?_
            exact ih _ _ (by omega) (by omega) (by omega) (Or.inl ⟨rfl, fun h => by have := h.2 i i0 (by omega); omega⟩)
          · refine r_iconst 17 rfl ?_
            refine r_goto (t := 34) 18 rfl (by decide) ?_
            refine r_istore_n 20 rfl (Nat.le_of_ble_eq_true rfl) ?_
            refine r_iinc 21 rfl rfl ?_
            refine r_goto (t := 7) 22 rfl (by decide) ?_
            exact ih _ _ (by omega) (by omega) (by omega) (Or.inr ⟨by decide, ⟨by decide, by decide⟩, h13, fun r r0 r1 => by by_cases e : r = i; (subst e; omega); exact hall r r0 (by omega)⟩)
  refine r_aload_n 0 rfl rfl ?_
  refine r_get 1 rfl f_T_203 (hp_at rfl) rfl ?_
  refine r_istore_n 2 rfl (Nat.le_of_ble_eq_true rfl) ?_
  refine r_iconst 3 rfl ?_
  refine r_istore_n 4 rfl (Nat.le_of_ble_eq_true rfl) ?_
  by_cases h13 : A 100 13 = 0
  · exact l1 5 0 _ (by omega) (by omega) (by omega) (Or.inl ⟨h13, fun h => h.1 h13⟩)
  · exact l1 5 0 _ (by omega) (by omega) (by omega) (Or.inr ⟨h13, hA _ _, h13, fun r r0 r1 => by omega⟩)
def tCopS (A : Nat → Int → Int) (f to n : Int) : Nat → Int → Int := cpy (cpy (cpy A 123 (31 * to) (31 * f) n) 124 (31 * to) (31 * f) n) 125 (31 * to) (31 * f) n
def tCopL (A : Nat → Int → Int) (f to n : Int) : Nat → Int → Int := cpy (cpy (cpy A 126 (186 * to) (186 * f) n) 127 (186 * to) (186 * f) n) 128 (186 * to) (186 * f) n
def tCop (A : Nat → Int → Int) (f to : Int) : Nat → Int → Int := tCopL (tCopS (au A 122 to (A 122 f)) f to 31) f to 186
theorem c_T_copyMachine {f to : Int} (hA : rga A) (f0 : 0 ≤ f) (f1 : f < 9) (t0 : 0 ≤ to) (t1 : to < f) (hq : Q (.returned none) (hp K.n (tCop A f to) R g t u)) : mx K M_T_copyMachine d [.ref (xa K.n 32), iv f, iv to] (hp K.n A R g t u) Q := by
  refine mx_in ok_T_copyMachine rfl (Nat.le_of_ble_eq_true rfl) ?_
  have l2 : ∀ (m : Nat) (i : Int) (B : Nat → Int → Int), rga B → 0 ≤ i → i ≤ 186 → 186 - i < m → Q (.returned none) (hp K.n (tCopL B f to 186) R g t u) → wx K M_T_copyMachine d Q 94 [some (.ref (xa K.n 32)), some (iv f), some (iv to), some (iv i)] [] (hp K.n (tCopL B f to i) R g t u) := by
    intro m
    induction m with
    | zero => intro i B hB i0 i1 i2; omega
    | succ m ih =>
      intro i B hB i0 i1 i2 hq
      have hA : rga (tCopL B f to i) := rga_cpy (rga_cpy (rga_cpy hB))
      by_cases hi : i = 186
      · subst hi
        refine r_iload_n 65 rfl rfl ?_
        refine r_sipush 66 rfl rfl ?_
        refine r_icmp_ge (t := 179) 67 rfl (by decide) (by first | exact hA _ _ | exact ⟨by decide, by decide⟩ | assumption | exact ⟨by omega, by omega⟩) (by first | exact hA _ _ | exact ⟨by decide, by decide⟩ | assumption | exact ⟨by omega, by omega⟩) (fun c_98 => ?_) (fun c_98 => by omega)
        refine r_ret 118 rfl rfl ?_
        exact hq
      · have e1 : tCopL B f to i 126 (186 * f + i) = B 126 (186 * f + i) := by unfold tCopL; rw [cpy_ne _ _ _ _ _ (by decide), cpy_ne _ _ _ _ _ (by decide), cpy_rd _ _ (by omega)]
        have e2 : au (tCopL B f to i) 126 (186 * to + i) (tCopL B f to i 126 (186 * f + i)) 127 (186 * f + i) = B 127 (186 * f + i) := by rw [au_ne _ _ _ _ (by decide)]; unfold tCopL; rw [cpy_ne _ _ _ _ _ (by decide), cpy_rd _ _ (by omega), cpy_ne _ _ _ _ _ (by decide)]
        have e3 : au (au (tCopL B f to i) 126 (186 * to + i) (B 126 (186 * f + i))) 127 (186 * to + i) (B 127 (186 * f + i)) 128 (186 * f + i) = B 128 (186 * f + i) := by rw [au_ne _ _ _ _ (by decide), au_ne _ _ _ _ (by decide)]; unfold tCopL; rw [cpy_rd _ _ (by omega), cpy_ne _ _ _ _ _ (by decide), cpy_ne _ _ _ _ _ (by decide)]
        have e4 : au (au (au (tCopL B f to i) 126 (186 * to + i) (B 126 (186 * f + i))) 127 (186 * to + i) (B 127 (186 * f + i))) 128 (186 * to + i) (B 128 (186 * f + i)) = tCopL B f to (i + 1) := by
          unfold tCopL
          rw [au_cpy _ _ _ _ _ _ (by decide : (126 : Nat) ≠ 128), au_cpy _ _ _ _ _ _ (by decide : (126 : Nat) ≠ 127), cpy_step _ _ i0, au_cpy _ _ _ _ _ _ (by decide : (127 : Nat) ≠ 128)]
          rw [show B 127 (186 * f + i) = cpy B 126 (186 * to) (186 * f) (i + 1) 127 (186 * f + i) from (cpy_ne _ _ _ _ _ (by decide)).symm, cpy_step _ _ i0]
          rw [show B 128 (186 * f + i) = cpy (cpy B 126 (186 * to) (186 * f) (i + 1)) 127 (186 * to) (186 * f) (i + 1) 128 (186 * f + i) from by rw [cpy_ne _ _ _ _ _ (by decide), cpy_ne _ _ _ _ _ (by decide)], cpy_step _ _ i0]
        refine r_iload_n 65 rfl rfl ?_
        refine r_sipush 66 rfl rfl ?_
        refine r_icmp_ge (t := 179) 67 rfl (by decide) (by first | exact hA _ _ | exact ⟨by decide, by decide⟩ | assumption | exact ⟨by omega, by omega⟩) (by first | exact hA _ _ | exact ⟨by decide, by decide⟩ | assumption | exact ⟨by omega, by omega⟩) (fun c_98 => by omega) (fun c_98 => ?_)
        refine r_aload_n 68 rfl rfl ?_
        refine r_get 69 rfl f_T_65 (hp_at rfl) rfl ?_
        refine r_sipush 70 rfl rfl ?_
        refine r_iload_n 71 rfl rfl ?_
        refine r_imul 72 rfl ?_
        refine r_iload_n 73 rfl rfl ?_
        refine r_iadd 74 rfl ?_
        refine r_aload_n 75 rfl rfl ?_
        refine r_get 76 rfl f_T_65 (hp_at rfl) rfl ?_
        refine r_sipush 77 rfl rfl ?_
        refine r_iload_n 78 rfl rfl ?_
        refine r_imul 79 rfl ?_
        refine r_iload_n 80 rfl rfl ?_
        refine r_iadd 81 rfl ?_
        refine r_iaload 82 rfl (hp_at rfl) (by decide) (by omega) (by omega) ?_
        refine r_iastore 83 rfl (hp_at rfl) (by decide) (by omega) (by omega) ?_
        rw [ws_126]
        refine r_aload_n 84 rfl rfl ?_
        refine r_get 85 rfl f_T_68 (hp_at rfl) rfl ?_
        refine r_sipush 86 rfl rfl ?_
        refine r_iload_n 87 rfl rfl ?_
        refine r_imul 88 rfl ?_
        refine r_iload_n 89 rfl rfl ?_
        refine r_iadd 90 rfl ?_
        refine r_aload_n 91 rfl rfl ?_
        refine r_get 92 rfl f_T_68 (hp_at rfl) rfl ?_
        refine r_sipush 93 rfl rfl ?_
        refine r_iload_n 94 rfl rfl ?_
        refine r_imul 95 rfl ?_
        refine r_iload_n 96 rfl rfl ?_
        refine r_iadd 97 rfl ?_
        refine r_iaload 98 rfl (hp_at rfl) (by decide) (by omega) (by omega) ?_
        refine r_iastore 99 rfl (hp_at rfl) (by decide) (by omega) (by omega) ?_
        rw [ws_127]
        refine r_aload_n 100 rfl rfl ?_
        refine r_get 101 rfl f_T_71 (hp_at rfl) rfl ?_
        refine r_sipush 102 rfl rfl ?_
        refine r_iload_n 103 rfl rfl ?_
        refine r_imul 104 rfl ?_
        refine r_iload_n 105 rfl rfl ?_
        refine r_iadd 106 rfl ?_
        refine r_aload_n 107 rfl rfl ?_
        refine r_get 108 rfl f_T_71 (hp_at rfl) rfl ?_
        refine r_sipush 109 rfl rfl ?_
        refine r_iload_n 110 rfl rfl ?_
        refine r_imul 111 rfl ?_
        refine r_iload_n 112 rfl rfl ?_
        refine r_iadd 113 rfl ?_
        refine r_iaload 114 rfl (hp_at rfl) (by decide) (by omega) (by omega) ?_
        refine r_iastore 115 rfl (hp_at rfl) (by decide) (by omega) (by omega) ?_
        rw [ws_128]
        rw [e2, e1, e3, e4]
        refine r_iinc 116 rfl rfl ?_
        refine r_goto (t := 94) 117 rfl (by decide) ?_
        exact ih _ _ hB (by omega) (by omega) (by omega) hq
  have l1 : ∀ (m : Nat) (i : Int) (B : Nat → Int → Int), rga B → 0 ≤ i → i ≤ 31 → 31 - i < m → Q (.returned none) (hp K.n (tCopL (tCopS B f to 31) f to 186) R g t u) → wx K M_T_copyMachine d Q 14 [some (.ref (xa K.n 32)), some (iv f), some (iv to), some (iv i)] [] (hp K.n (tCopS B f to i) R g t u) := by
    intro m
    induction m with
    | zero => intro i B hB i0 i1 i2; omega
    | succ m ih =>
      intro i B hB i0 i1 i2 hq
      have hA : rga (tCopS B f to i) := rga_cpy (rga_cpy (rga_cpy hB))
      by_cases hi : i = 31
      · subst hi
        refine r_iload_n 10 rfl rfl ?_
        refine r_bipush 11 rfl rfl ?_
        refine r_icmp_ge (t := 92) 12 rfl (by decide) (by first | exact hA _ _ | exact ⟨by decide, by decide⟩ | assumption | exact ⟨by omega, by omega⟩) (by first | exact hA _ _ | exact ⟨by decide, by decide⟩ | assumption | exact ⟨by omega, by omega⟩) (fun c_17 => ?_) (fun c_17 => by omega)
        refine r_iconst 63 rfl ?_
        refine r_istore_n 64 rfl (Nat.le_of_ble_eq_true rfl) ?_
        have e : tCopS B f to 31 = tCopL (tCopS B f to 31) f to 0 := by unfold tCopL; rw [cpy_0, cpy_0, cpy_0]
        rw [e]
        exact l2 187 0 _ hA (by omega) (by omega) (by omega) hq
      · have e1 : tCopS B f to i 123 (31 * f + i) = B 123 (31 * f + i) := by unfold tCopS; rw [cpy_ne _ _ _ _ _ (by decide), cpy_ne _ _ _ _ _ (by decide), cpy_rd _ _ (by omega)]
        have e2 : au (tCopS B f to i) 123 (31 * to + i) (tCopS B f to i 123 (31 * f + i)) 124 (31 * f + i) = B 124 (31 * f + i) := by rw [au_ne _ _ _ _ (by decide)]; unfold tCopS; rw [cpy_ne _ _ _ _ _ (by decide), cpy_rd _ _ (by omega), cpy_ne _ _ _ _ _ (by decide)]
        have e3 : au (au (tCopS B f to i) 123 (31 * to + i) (B 123 (31 * f + i))) 124 (31 * to + i) (B 124 (31 * f + i)) 125 (31 * f + i) = B 125 (31 * f + i) := by rw [au_ne _ _ _ _ (by decide), au_ne _ _ _ _ (by decide)]; unfold tCopS; rw [cpy_rd _ _ (by omega), cpy_ne _ _ _ _ _ (by decide), cpy_ne _ _ _ _ _ (by decide)]
        have e4 : au (au (au (tCopS B f to i) 123 (31 * to + i) (B 123 (31 * f + i))) 124 (31 * to + i) (B 124 (31 * f + i))) 125 (31 * to + i) (B 125 (31 * f + i)) = tCopS B f to (i + 1) := by
          unfold tCopS
          rw [au_cpy _ _ _ _ _ _ (by decide : (123 : Nat) ≠ 125), au_cpy _ _ _ _ _ _ (by decide : (123 : Nat) ≠ 124), cpy_step _ _ i0, au_cpy _ _ _ _ _ _ (by decide : (124 : Nat) ≠ 125)]
          rw [show B 124 (31 * f + i) = cpy B 123 (31 * to) (31 * f) (i + 1) 124 (31 * f + i) from (cpy_ne _ _ _ _ _ (by decide)).symm, cpy_step _ _ i0]
          rw [show B 125 (31 * f + i) = cpy (cpy B 123 (31 * to) (31 * f) (i + 1)) 124 (31 * to) (31 * f) (i + 1) 125 (31 * f + i) from by rw [cpy_ne _ _ _ _ _ (by decide), cpy_ne _ _ _ _ _ (by decide)], cpy_step _ _ i0]
        refine r_iload_n 10 rfl rfl ?_
        refine r_bipush 11 rfl rfl ?_
        refine r_icmp_ge (t := 92) 12 rfl (by decide) (by first | exact hA _ _ | exact ⟨by decide, by decide⟩ | assumption | exact ⟨by omega, by omega⟩) (by first | exact hA _ _ | exact ⟨by decide, by decide⟩ | assumption | exact ⟨by omega, by omega⟩) (fun c_17 => by omega) (fun c_17 => ?_)
        refine r_aload_n 13 rfl rfl ?_
        refine r_get 14 rfl f_T_56 (hp_at rfl) rfl ?_
        refine r_bipush 15 rfl rfl ?_
        refine r_iload_n 16 rfl rfl ?_
        refine r_imul 17 rfl ?_
        refine r_iload_n 18 rfl rfl ?_
        refine r_iadd 19 rfl ?_
        refine r_aload_n 20 rfl rfl ?_
        refine r_get 21 rfl f_T_56 (hp_at rfl) rfl ?_
        refine r_bipush 22 rfl rfl ?_
        refine r_iload_n 23 rfl rfl ?_
        refine r_imul 24 rfl ?_
        refine r_iload_n 25 rfl rfl ?_
        refine r_iadd 26 rfl ?_
        refine r_iaload 27 rfl (hp_at rfl) (by decide) (by omega) (by omega) ?_
        refine r_iastore 28 rfl (hp_at rfl) (by decide) (by omega) (by omega) ?_
        rw [ws_123]
        refine r_aload_n 29 rfl rfl ?_
        refine r_get 30 rfl f_T_59 (hp_at rfl) rfl ?_
        refine r_bipush 31 rfl rfl ?_
        refine r_iload_n 32 rfl rfl ?_
        refine r_imul 33 rfl ?_
        refine r_iload_n 34 rfl rfl ?_
        refine r_iadd 35 rfl ?_
        refine r_aload_n 36 rfl rfl ?_
        refine r_get 37 rfl f_T_59 (hp_at rfl) rfl ?_
        refine r_bipush 38 rfl rfl ?_
        refine r_iload_n 39 rfl rfl ?_
        refine r_imul 40 rfl ?_
        refine r_iload_n 41 rfl rfl ?_
        refine r_iadd 42 rfl ?_
        refine r_iaload 43 rfl (hp_at rfl) (by decide) (by omega) (by omega) ?_
        refine r_iastore 44 rfl (hp_at rfl) (by decide) (by omega) (by omega) ?_
        rw [ws_124]
        refine r_aload_n 45 rfl rfl ?_
        refine r_get 46 rfl f_T_62 (hp_at rfl) rfl ?_
        refine r_bipush 47 rfl rfl ?_
        refine r_iload_n 48 rfl rfl ?_
        refine r_imul 49 rfl ?_
        refine r_iload_n 50 rfl rfl ?_
        refine r_iadd 51 rfl ?_
        refine r_aload_n 52 rfl rfl ?_
        refine r_get 53 rfl f_T_62 (hp_at rfl) rfl ?_
        refine r_bipush 54 rfl rfl ?_
        refine r_iload_n 55 rfl rfl ?_
        refine r_imul 56 rfl ?_
        refine r_iload_n 57 rfl rfl ?_
        refine r_iadd 58 rfl ?_
        refine r_iaload 59 rfl (hp_at rfl) (by decide) (by omega) (by omega) ?_
        refine r_iastore 60 rfl (hp_at rfl) (by decide) (by omega) (by omega) ?_
        rw [ws_125]
        rw [e2, e1, e3, e4]
        refine r_iinc 61 rfl rfl ?_
        refine r_goto (t := 14) 62 rfl (by decide) ?_
        exact ih _ _ hB (by omega) (by omega) (by omega) hq
  refine r_aload_n 0 rfl rfl ?_
  refine r_get 1 rfl f_T_53 (hp_at rfl) rfl ?_
  refine r_iload_n 2 rfl rfl ?_
  refine r_aload_n 3 rfl rfl ?_
  refine r_get 4 rfl f_T_53 (hp_at rfl) rfl ?_
  refine r_iload_n 5 rfl rfl ?_
  refine r_iaload 6 rfl (hp_at rfl) (by decide) (by omega) (by omega) ?_
  refine r_iastore 7 rfl (hp_at rfl) (by decide) (by omega) (by omega) ?_
  rw [ws_122]
  refine r_iconst 8 rfl ?_
  refine r_istore_n 9 rfl (Nat.le_of_ble_eq_true rfl) ?_
  have e : au A 122 to (A 122 f) = tCopS (au A 122 to (A 122 f)) f to 0 := by unfold tCopS; rw [cpy_0, cpy_0, cpy_0]
  rw [e]
  exact l1 32 0 _ (rga_au hA (hA _ _)) (by omega) (by omega) (by omega) hq
end TW7


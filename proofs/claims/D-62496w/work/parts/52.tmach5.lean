/-! the twin: hang, whole; beginning -/
section TW52
variable {K : xk} {M : xm} {d : Nat} {Q : Outcome → xh → Prop} {A : Nat → Int → Int} {R : Nat → Int → Value} {g : Nat → Nat × List Value} {t u : Nat}
theorem c_T_hang {s0 : Int} {τ : Tr} (hA : rga A) (ht : (tR A τ).1 s0) (hw : (wfP τ).1) (hn : ∀ x, (ct A τ).1 s0 x ≠ 0 → 0 ≤ x ∧ x < 300) (h1 : ∀ x, (ct A τ).1 s0 x ≤ 1) (hS : szT τ ≤ 150)
    (hq : ∀ A', frH A A' → rga A' → (tH A' τ).1 s0 (-1) → (∀ x, (ct A τ).1 s0 x ≠ 0 → A' 129 x = -1) → Q (.returned none) (hp K.n A' R g t u)) : mx K M_T_hang d [.ref (xa K.n 32), iv s0] (hp K.n A R g t u) Q := by
  have hs := hn s0 (by have := ct_self A τ s0; omega)
  generalize hC : au (au A 130 0 s0) 111 s0 (-1) = C
  have Cr : ∀ (j : Nat) (x : Int), C j x = if j = 111 ∧ x = s0 then -1 else if j = 130 ∧ x = 0 then s0 else A j x := fun j x => by rw [← hC, au_ite, au_ite]
  have hf : frH A C := fun j i a b c => by rw [Cr, if_neg (by omega), if_neg (by omega)]
  have hr : rga C := by rw [← hC]; exact rga_au (rga_au hA ⟨by omega, by omega⟩) ⟨by decide, by decide⟩
  obtain ⟨j1, j2⟩ := (tR_frame A C τ).1 s0 hw (fun x _ => hf.s x) ht
  have hc : ∀ x, skC C [(τ, s0)] x = (ct A τ).1 s0 x := fun x => by show (ct C τ).1 s0 x + 0 = _; rw [j2]; rfl
  have main := hg_loop (K := K) (d := d) (Q := Q) (R := R) (g := g) (t := t) (u := u) (s0 := s0) (szT τ + 1) [(τ, s0)] C (by show szT τ + 0 < _; omega) (by show szT τ + 0 ≤ _; omega) hr ⟨by show C 130 0 = s0; rw [Cr, if_neg (by omega), if_pos ⟨rfl, rfl⟩], j1, hw, trivial⟩ (fun x hx => hn x (by rw [hc] at hx; exact hx)) (fun x => by rw [hc]; exact h1 x) (fun A' g1 g2 g3 g4 g5 => by
    have e1 := g3 (τ, s0) (List.mem_singleton.mpr rfl)
    have e2 : C 111 s0 = -1 := by rw [Cr, if_pos ⟨rfl, rfl⟩]
    replace e1 : (tH A' τ).1 s0 (C 111 s0) := e1
    rw [e2] at e1
    exact hq A' (fun j i a b c => (g1 j i a b c).trans (hf j i a b c)) g2 e1 (fun x hx => g4 x (by rw [hc]; exact hx)))
  refine mx_in ok_T_hang rfl (Nat.le_of_ble_eq_true rfl) ?_
  refine r_iconst 0 rfl ?_
  refine r_istore_n 1 rfl (Nat.le_of_ble_eq_true rfl) ?_
  refine r_aload_n 2 rfl rfl ?_
  refine r_get 3 rfl f_T_77 (hp_at rfl) rfl ?_
  refine r_iconst 4 rfl ?_
  refine r_iload_n 5 rfl rfl ?_
  refine r_iastore 6 rfl (hp_at rfl) (by decide) (by omega) (by omega) ?_
  rw [ws_130]
  refine r_aload_n 7 rfl rfl ?_
  refine r_get 8 rfl f_T_32 (hp_at rfl) rfl ?_
  refine r_iload_n 9 rfl rfl ?_
  refine r_iconst 10 rfl ?_
  refine r_iastore 11 rfl (hp_at rfl) (by decide) (by omega) (by omega) ?_
  rw [ws_111]
  rw [hC]
  exact main
/-- from n on one comes to x, in f steps -/
def bg (A : Nat → Int → Int) : Nat → Int → Int → Prop
  | 0, n, x => n = x ∧ A 105 n ≠ 1 ∧ A 105 n ≠ 2
  | f + 1, n, x => (0 ≤ n ∧ n < 300) ∧ (A 105 n = 2 ∧ bg A f (A 110 (6 * n)) x ∨ A 105 n = 1 ∧ ∃ L, anc A n L ∧ 0 ≤ bnd A (A 106 n) L ∧ bg A f (bnd A (A 106 n) L) x)
theorem c_T_beginning {n x : Int} {f : Nat} (hA : rga A) (hx0 : 0 ≤ x) (hx1 : x < 300) (hb : bg A f n x) (hf : f < 64) (hq : Q (.returned (some (iv x))) (hp K.n A R g t u)) : mx K M_T_beginning (d + 1) [.ref (xa K.n 32), iv n] (hp K.n A R g t u) Q := by
  refine mx_in ok_T_beginning rfl (Nat.le_of_ble_eq_true rfl) ?_
  have loop : ∀ (f : Nat) (m k : Int), 0 ≤ k → k + f < 64 → bg A f m x → wx K M_T_beginning (d + 1) Q 4 [some (.ref (xa K.n 32)), some (iv n), some (iv m), some (iv k)] [] (hp K.n A R g t u) := by
    intro f
    induction f with
    | zero =>
      intro m k k0 k1 h
      obtain ⟨h1, h2, h3⟩ := h
      subst h1
      refine r_iload_n 4 rfl rfl ?_
      refine r_bipush 5 rfl rfl ?_
      refine r_icmp_ge (t := 60) 6 rfl (by decide) (by first | exact hA _ _ | exact ⟨by decide, by decide⟩ | assumption | exact ⟨by omega, by omega⟩) (by first | exact hA _ _ | exact ⟨by decide, by decide⟩ | assumption | exact ⟨by omega, by omega⟩) (fun c_7 => by omega) (fun c_7 => ?_)
      refine r_aload_n 7 rfl rfl ?_
      refine r_get 8 rfl f_T_13 (hp_at rfl) rfl ?_
      refine r_iload_n 9 rfl rfl ?_
      refine r_iaload 10 rfl (hp_at rfl) (by decide) (by omega) (by omega) ?_
      refine r_iconst 11 rfl ?_
      refine r_icmp_ne (t := 33) 12 rfl (by decide) (by first | exact hA _ _ | exact ⟨by decide, by decide⟩ | assumption | exact ⟨by omega, by omega⟩) (by first | exact hA _ _ | exact ⟨by decide, by decide⟩ | assumption | exact ⟨by omega, by omega⟩) (fun c_17 => ?_) (fun c_17 => by omega)
      refine r_aload_n 21 rfl rfl ?_
      refine r_get 22 rfl f_T_13 (hp_at rfl) rfl ?_
      refine r_iload_n 23 rfl rfl ?_
      refine r_iaload 24 rfl (hp_at rfl) (by decide) (by omega) (by omega) ?_
      refine r_iconst 25 rfl ?_
      refine r_icmp_ne (t := 52) 26 rfl (by decide) (by first | exact hA _ _ | exact ⟨by decide, by decide⟩ | assumption | exact ⟨by omega, by omega⟩) (by first | exact hA _ _ | exact ⟨by decide, by decide⟩ | assumption | exact ⟨by omega, by omega⟩) (fun c_40 => ?_) (fun c_40 => by omega)
      refine r_iload_n 32 rfl rfl ?_
      refine r_iret 33 rfl rfl rfl ?_
      exact hq
    | succ f ih =>
      intro m k k0 k1 h
      obtain ⟨⟨m0, m1⟩, h | h⟩ := h
      · obtain ⟨h1, h2⟩ := h
        refine r_iload_n 4 rfl rfl ?_
        refine r_bipush 5 rfl rfl ?_
        refine r_icmp_ge (t := 60) 6 rfl (by decide) (by first | exact hA _ _ | exact ⟨by decide, by decide⟩ | assumption | exact ⟨by omega, by omega⟩) (by first | exact hA _ _ | exact ⟨by decide, by decide⟩ | assumption | exact ⟨by omega, by omega⟩) (fun c_7 => by omega) (fun c_7 => ?_)
        refine r_aload_n 7 rfl rfl ?_
        refine r_get 8 rfl f_T_13 (hp_at rfl) rfl ?_
        refine r_iload_n 9 rfl rfl ?_
        refine r_iaload 10 rfl (hp_at rfl) (by decide) (by omega) (by omega) ?_
        refine r_iconst 11 rfl ?_
        refine r_icmp_ne (t := 33) 12 rfl (by decide) (by first | exact hA _ _ | exact ⟨by decide, by decide⟩ | assumption | exact ⟨by omega, by omega⟩) (by first | exact hA _ _ | exact ⟨by decide, by decide⟩ | assumption | exact ⟨by omega, by omega⟩) (fun c_17 => by omega) (fun c_17 => ?_)
        refine r_aload_n 13 rfl rfl ?_
        refine r_get 14 rfl f_T_29 (hp_at rfl) rfl ?_
        refine r_bipush 15 rfl rfl ?_
        refine r_iload_n 16 rfl rfl ?_
        refine r_imul 17 rfl ?_
        refine r_iaload 18 rfl (hp_at rfl) (by decide) (by omega) (by omega) ?_
        refine r_istore_n 19 rfl (Nat.le_of_ble_eq_true rfl) ?_
        refine r_goto (t := 54) 20 rfl (by decide) ?_
        refine r_iinc 34 rfl rfl ?_
        refine r_goto (t := 4) 35 rfl (by decide) ?_
        exact ih _ _ (by omega) (by omega) h2
      · obtain ⟨h1, L, h2, h3, h4⟩ := h
        refine r_iload_n 4 rfl rfl ?_
        refine r_bipush 5 rfl rfl ?_
        refine r_icmp_ge (t := 60) 6 rfl (by decide) (by first | exact hA _ _ | exact ⟨by decide, by decide⟩ | assumption | exact ⟨by omega, by omega⟩) (by first | exact hA _ _ | exact ⟨by decide, by decide⟩ | assumption | exact ⟨by omega, by omega⟩) (fun c_7 => by omega) (fun c_7 => ?_)
        refine r_aload_n 7 rfl rfl ?_
        refine r_get 8 rfl f_T_13 (hp_at rfl) rfl ?_
        refine r_iload_n 9 rfl rfl ?_
        refine r_iaload 10 rfl (hp_at rfl) (by decide) (by omega) (by omega) ?_
        refine r_iconst 11 rfl ?_
        refine r_icmp_ne (t := 33) 12 rfl (by decide) (by first | exact hA _ _ | exact ⟨by decide, by decide⟩ | assumption | exact ⟨by omega, by omega⟩) (by first | exact hA _ _ | exact ⟨by decide, by decide⟩ | assumption | exact ⟨by omega, by omega⟩) (fun c_17 => ?_) (fun c_17 => by omega)
        refine r_aload_n 21 rfl rfl ?_
        refine r_get 22 rfl f_T_13 (hp_at rfl) rfl ?_
        refine r_iload_n 23 rfl rfl ?_
        refine r_iaload 24 rfl (hp_at rfl) (by decide) (by omega) (by omega) ?_
        refine r_iconst 25 rfl ?_
        refine r_icmp_ne (t := 52) 26 rfl (by decide) (by first | exact hA _ _ | exact ⟨by decide, by decide⟩ | assumption | exact ⟨by omega, by omega⟩) (by first | exact hA _ _ | exact ⟨by decide, by decide⟩ | assumption | exact ⟨by omega, by omega⟩) (fun c_40 => by omega) (fun c_40 => ?_)
        refine r_aload_n 27 rfl rfl ?_
        refine r_iload_n 28 rfl rfl ?_
        refine r_callv1 29 rfl l_T_162 (hp_at rfl) (Nat.le_of_ble_eq_true rfl) ?_
        refine c_T_boundAt hA m0 m1 h2 (fun y hy hyr => cp1 ?_)
        have ey : y = bnd A (A 106 m) L := by omega
        subst ey
        refine r_istore_n 30 rfl (Nat.le_of_ble_eq_true rfl) ?_
        refine r_goto (t := 54) 31 rfl (by decide) ?_
        refine r_iinc 34 rfl rfl ?_
        refine r_goto (t := 4) 35 rfl (by decide) ?_
        exact ih _ _ (by omega) (by omega) h4
  refine r_iload_n 0 rfl rfl ?_
  refine r_istore_n 1 rfl (Nat.le_of_ble_eq_true rfl) ?_
  refine r_iconst 2 rfl ?_
  refine r_istore_n 3 rfl (Nat.le_of_ble_eq_true rfl) ?_
  exact loop f n 0 (by omega) (by omega) hb
end TW52


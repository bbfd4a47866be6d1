/-! the twin: makePart, whole -/
section TW63
variable {K : xk} {M : xm} {d : Nat} {Q : Outcome → xh → Prop} {R : Nat → Int → Value} {g : Nat → Nat × List Value} {t u : Nat}
def fPt (A A' : Nat → Int → Int) (r U : Int) : Prop := (∀ j i, (j < 105 ∨ 111 < j) → j ≠ 117 → j ≠ 119 → j ≠ 120 → j ≠ 121 → (j = 100 → i ≠ 4 ∧ i ≠ 18) → (j = 122 → i ≠ r) → (j = 123 ∨ j = 124 ∨ j = 125 → i < 31 * r ∨ 31 * r + 31 ≤ i) → (j = 126 ∨ j = 127 ∨ j = 128 → i < 186 * r ∨ 186 * r + 186 ≤ i) → j ≠ 129 → j ≠ 130 → A' j i = A j i) ∧ rga A' ∧ ∀ x, x < U → sameN A A' x
theorem c_T_makePart {A : Nat → Int → Int} {r : Int} {τ : Tr} (hA : rga A) (r0 : 0 ≤ r) (r1 : r < 4) (hG : (tG A false τ).1 0) (hw : (wfP τ).1) (hab : (abv A τ).1 0 (-1)) (h12 : A 100 12 = szT τ) (h30 : szT τ ≤ 30) (hcl : ∀ v, v < 3 → (lsP τ).1 v = false) (hch : chT false τ ≤ 65)
    (hq : ∀ A', fPt A A' r (szT τ) → mch A' r (pt r τ).1 → Q (.returned none) (hp K.n A' R g t u)) : mx K M_T_makePart (d + 5) [.ref (xa K.n 32), iv r] (hp K.n A R g t u) Q := by
  have hr : rg r := ⟨by omega, by omega⟩
  have hwle := (wP_le τ).1 4 (by omega)
  generalize hC : au A 100 4 (A 100 12) = C
  have Cr : ∀ (j : Nat) (i : Int), C j i = if j = 100 ∧ i = 4 then (szT τ : Int) else A j i := fun j i => by rw [← hC, au_ite, h12]
  have hCA : rga C := by rw [← hC]; exact rga_au hA (hA _ _)
  have c4 : C 100 4 = szT τ := by rw [Cr, if_pos ⟨rfl, rfl⟩]
  have c12 : C 100 12 = szT τ := by rw [Cr, if_neg (by omega)]; exact h12
  have sN : ∀ x, sameN A C x := fun x => ⟨by rw [Cr, if_neg (by omega)], by rw [Cr, if_neg (by omega)], by rw [Cr, if_neg (by omega)], fun l _ _ => ⟨by rw [Cr, if_neg (by omega)], by rw [Cr, if_neg (by omega)], by rw [Cr, if_neg (by omega)]⟩⟩
  have hGC : (tG C false τ).1 0 := (tG_frame A C false τ).1 0 hw (fun x _ _ => sN x) hG
  have c111 : ∀ i, C 111 i = A 111 i := fun i => by rw [Cr, if_neg (by omega)]
  have habC : (abv C τ).1 0 (-1) := (abv_fr c111 τ).1 _ _ hab
  have hin := (abv_in C τ).1 0 (-1) habC
  have main : wx K M_T_makePart (d + 5) Q 15 [some (.ref (xa K.n 32)), some (iv r), some (iv (0 + szT τ - 1)), none] [] (hp K.n C R g t u) := by
    refine (mp_all hr τ).1 0 (-1) [] C hCA hGC hw habC ⟨⟨by omega, by omega, by omega, by omega⟩, ?_, fun a ha => (by cases ha), fun a a0 a1 => ?_, fun a a0 a1 => (by omega)⟩ (by omega) (fun B f1 f2 f3 f4 => ?_)
    · show C 111 0 < 0
      rw [abv_p C τ 0 (-1) habC]; decide
    · have := hin a a0 (by omega); omega
    · have hA := f1.2.1
      generalize hD : au B 122 r 0 = D
      have Dr : ∀ (j : Nat) (i : Int), D j i = if j = 122 ∧ i = r then 0 else B j i := fun j i => by rw [← hD, au_ite]
      have hDA : rga D := by rw [← hD]; exact rga_au hA ⟨by decide, by decide⟩
      have d117 : D 117 0 = B 117 0 := by rw [Dr, if_neg (by omega)]
      have sD : ∀ x, sameN B D x := fun x => ⟨by rw [Dr, if_neg (by omega)], by rw [Dr, if_neg (by omega)], by rw [Dr, if_neg (by omega)], fun l _ _ => ⟨by rw [Dr, if_neg (by omega)], by rw [Dr, if_neg (by omega)], by rw [Dr, if_neg (by omega)]⟩⟩
      have fD : fPt A D r (szT τ) := by
        refine ⟨fun j i e1 e2 e3 e4 e5 e6 e7 e8 e9 e10 e11 => ?_, hDA, fun x hx => ((sN x).tr (f1.2.2.1 x (by omega))).tr (sD x)⟩
        rw [Dr, if_neg (by omega), f1.1 j i (by omega) e2 e3 e4 e5 e6, Cr, if_neg (by omega)]
      unfold P1 at f4
      cases hpt : (pt r τ).1 with
      | none =>
        rw [hpt] at f4
        replace f4 : B 117 0 < 0 := f4
        have fin := hq D fD (by rw [hpt]; show D 122 r = 0; rw [Dr, if_pos ⟨rfl, rfl⟩])
        refine r_iload_n 9 rfl rfl ?_
        refine r_if_lt (t := 63) 10 rfl (by decide) (by first | exact hA _ _ | exact ⟨by decide, by decide⟩ | assumption | exact ⟨by omega, by omega⟩) (fun c_16 => ?_) (fun c_16 => by omega)
        refine r_aload_n 37 rfl rfl ?_
        refine r_get 38 rfl f_T_53 (hp_at rfl) rfl ?_
        refine r_iload_n 39 rfl rfl ?_
        refine r_iconst 40 rfl ?_
        refine r_iastore 41 rfl (hp_at rfl) (by decide) (by omega) (by omega) ?_
        rw [ws_122]
        rw [hD]
        refine r_aload_n 42 rfl rfl ?_
        refine r_get 43 rfl f_T_41 (hp_at rfl) rfl ?_
        refine r_iconst 44 rfl ?_
        refine r_iaload 45 rfl (hp_at rfl) (by decide) (by omega) (by omega) ?_
        rw [d117]
        refine r_if_lt (t := 90) 46 rfl (by decide) (by first | exact hA _ _ | exact ⟨by decide, by decide⟩ | assumption | exact ⟨by omega, by omega⟩) (fun c_76 => ?_) (fun c_76 => by omega)
        refine r_ret 54 rfl rfl ?_
        exact fin
      | some σ =>
        rw [hpt] at f4
        replace f4 : (tR B σ).1 (B 117 0) ∧ ∀ x, (ct B σ).1 (B 117 0) x ≤ 1 ∧ ((ct B σ).1 (B 117 0) x ≠ 0 → C 100 4 ≤ x ∧ x < B 100 4) := f4
        obtain ⟨s1, s2, s3⟩ := (pt_ok r τ).1 hw σ hpt
        have s4 := ((pt_gd r τ).1 (fun _ => false) σ hw (fun v hv hl => by rw [hcl v hv] at hl; cases hl) hpt).1
        obtain ⟨t1, t2⟩ := (tR_frame B D σ).1 (B 117 0) s1 (fun x _ => sD x) f4.1
        have hv0 := (f4.2 (B 117 0)).2 (by have := ct_self B σ (B 117 0); omega)
        have fin : ∀ E, fK D E r → E 122 r = (nS σ).1 → (∀ env, (mR (tM E r) σ).1 env 0) → Q (.returned none) (hp K.n E R g t u) := fun E e1 e2 e3 => by
          refine hq E ⟨fun j i a1 a2 a3 a4 a5 a6 a7 a8 a9 a10 a11 => ?_, e1.2, fun x hx => (fD.2.2 x hx).tr ⟨e1.1 _ _ (by decide) (by decide) (by omega) (by omega) (by omega) (by decide) (by decide), e1.1 _ _ (by decide) (by decide) (by omega) (by omega) (by omega) (by decide) (by decide), e1.1 _ _ (by decide) (by decide) (by omega) (by omega) (by omega) (by decide) (by decide), fun l _ _ => ⟨e1.1 _ _ (by decide) (by decide) (by omega) (by omega) (by omega) (by decide) (by decide), e1.1 _ _ (by decide) (by decide) (by omega) (by omega) (by omega) (by decide) (by decide), e1.1 _ _ (by decide) (by decide) (by omega) (by omega) (by omega) (by decide) (by decide)⟩⟩⟩ (by rw [hpt]; exact ⟨⟨s1, s2, s4, by omega⟩, e2, e3⟩)
          rw [e1.1 j i (by omega) a3 a7 a8 a9 a10 a11]
          exact fD.1 j i a1 a2 a3 a4 a5 a6 a7 a8 a9 a10 a11
        refine r_iload_n 9 rfl rfl ?_
        refine r_if_lt (t := 63) 10 rfl (by decide) (by first | exact hA _ _ | exact ⟨by decide, by decide⟩ | assumption | exact ⟨by omega, by omega⟩) (fun c_16 => ?_) (fun c_16 => by omega)
        refine r_aload_n 37 rfl rfl ?_
        refine r_get 38 rfl f_T_53 (hp_at rfl) rfl ?_
        refine r_iload_n 39 rfl rfl ?_
        refine r_iconst 40 rfl ?_
        refine r_iastore 41 rfl (hp_at rfl) (by decide) (by omega) (by omega) ?_
        rw [ws_122]
        rw [hD]
        refine r_aload_n 42 rfl rfl ?_
        refine r_get 43 rfl f_T_41 (hp_at rfl) rfl ?_
        refine r_iconst 44 rfl ?_
        refine r_iaload 45 rfl (hp_at rfl) (by decide) (by omega) (by omega) ?_
        rw [d117]
        refine r_if_lt (t := 90) 46 rfl (by decide) (by first | exact hA _ _ | exact ⟨by decide, by decide⟩ | assumption | exact ⟨by omega, by omega⟩) (fun c_76 => by omega) (fun c_76 => ?_)
        refine r_aload_n 47 rfl rfl ?_
        refine r_iload_n 48 rfl rfl ?_
        refine r_aload_n 49 rfl rfl ?_
        refine r_get 50 rfl f_T_41 (hp_at rfl) rfl ?_
        refine r_iconst 51 rfl ?_
        refine r_iaload 52 rfl (hp_at rfl) (by decide) (by omega) (by omega) ?_
        rw [d117]
        refine r_callv2 53 rfl l_T_189 (hp_at rfl) (Nat.le_of_ble_eq_true rfl) ?_
        refine c_T_makeMachine hDA r0 (by omega) t1 s1 s2 (fun x hx => by have := (f4.2 x).2 (by rw [t2] at hx; exact hx); omega) (fun x => by rw [t2]; exact (f4.2 x).1) (by omega) s4 (fun E e1 e2 e3 => cp0 ?_)
        refine r_ret 54 rfl rfl ?_
        exact fin E e1 e2 e3
  rw [show (0 : Int) + szT τ - 1 = A 100 12 - 1 by omega] at main
  refine mx_in ok_T_makePart rfl (Nat.le_of_ble_eq_true rfl) ?_
  refine r_aload_n 0 rfl rfl ?_
  refine r_aload_n 1 rfl rfl ?_
  refine r_get 2 rfl f_T_156 (hp_at rfl) rfl ?_
  refine r_put 3 rfl f_T_121 (hp_at rfl) rfl rfl ?_
  rw [wT_4]
  rw [hC]
  refine r_aload_n 4 rfl rfl ?_
  refine r_get 5 rfl f_T_156 (hp_at rfl) rfl ?_
  rw [c12, ← h12]
  refine r_iconst 6 rfl ?_
  refine r_isub 7 rfl ?_
  refine r_istore_n 8 rfl (Nat.le_of_ble_eq_true rfl) ?_
  exact main
end TW63


/-! the twin: partAt, whole -/
section TW42
variable {K : xk} {M : xm} {d : Nat} {Q : Outcome → xh → Prop} {A : Nat → Int → Int} {R : Nat → Int → Value} {g : Nat → Nat × List Value} {t u : Nat}
def own : Tr → Nat
  | .leaf _ => 1
  | .branch k l _ => if k < 3 then 1 else 1 + mcF l
def kids (A : Nat → Int → Int) (r : Int) : Tr → Int → Int → Int → Prop
  | .leaf _, _, _, _ => True
  | .branch k l _, n, lo, hi => if k < 3 then P1 A r l (A 117 (n + 1)) lo hi else PL A r l (n + 1) lo hi
theorem rga_fr {k w : Int} (hA : rga A) (hk : rg k) (hw : rg w) (u0 : 0 ≤ A 100 4) (u1 : A 100 4 < 300) : rga (frF A k w) := by
  unfold frF
  exact rga_au (rga_fil (rga_au (rga_au (rga_au hA hk) hw) rg_0) rg_0) ⟨by omega, by omega⟩
theorem fq_fr {k w : Int} (hA : rga A) (hk : rg k) (hw : rg w) (u0 : 0 ≤ A 100 4) (u1 : A 100 4 < 300) : fq A (frF A k w) (A 100 4) := by
  refine ⟨fun j i g1 g2 g3 g4 g5 => ?_, rga_fr hA hk hw u0 u1, fun x hx => ⟨?_, ?_, ?_, fun l l0 l1 => ⟨?_, ?_, ?_⟩⟩⟩
  · by_cases e : j = 100
    · subst e; exact fr_sc _ _ _ (g5 rfl).1
    · rw [fr_row _ _ _ _ _ e, if_neg (by omega), if_neg (by omega), if_neg (by omega), if_neg (by omega)]
  all_goals rw [fr_row _ _ _ _ _ (by decide), if_neg (by omega), if_neg (by omega), if_neg (by omega), if_neg (by omega)]
theorem fr_4 (A : Nat → Int → Int) (k w : Int) : frF A k w 100 4 = A 100 4 + 1 := au_same _ _ _ _
theorem c_T_partAt {n r tc lo : Int} {τ : Tr} (hA : rga A) (hr : rg r) (hT : (tG A false τ).1 n) (hw : (wfP τ).1) (n0 : 0 ≤ n) (n1 : n + szT τ ≤ 30) (nU : n + szT τ ≤ A 100 4) (hlo : 0 ≤ lo) (hloU : lo ≤ A 100 4) (hkid : kids A r τ n lo (A 100 4)) (hlim : A 100 4 + own τ ≤ 300)
    (htc : ∀ k l q, τ = .branch k l q → k < 3 → tc = if tch r τ = true then 1 else 0)
    (hq : ∀ v A', fq A A' (A 100 4) → A 100 4 ≤ A' 100 4 → A' 100 4 ≤ A 100 4 + own τ → P1 A' r τ v lo (A' 100 4) → rg v → Q (.returned (some (iv v))) (hp K.n A' R g t u)) : mx K M_T_partAt (d + 4) [.ref (xa K.n 32), iv n, iv r, iv tc] (hp K.n A R g t u) Q := by
  have szp := szT_pos τ
  have u0 : 0 ≤ A 100 4 := by omega
  have hown : 1 ≤ own τ := by
    cases τ with
    | leaf k => exact Nat.le_refl 1
    | branch k l q => show 1 ≤ if k < 3 then 1 else 1 + mcF l; split <;> omega
  have u1 : A 100 4 < 300 := by omega
  refine mx_in ok_T_partAt rfl (Nat.le_of_ble_eq_true rfl) ?_
  cases τ with
  | leaf k =>
    replace hT : (A 107 n = 0 ∧ ∀ x, 0 ≤ x → x < 6 → A 108 (6 * n + x) = 0) ∧ (k = 0 → A 105 n = 0) ∧ (k ≠ 0 → A 105 n = 1 ∧ A 106 n = (k : Int) - 1) := hT
    have hk : A 105 n = 0 ∨ A 105 n = 1 := by
      by_cases e : k = 0
      · exact Or.inl (hT.2.1 e)
      · exact Or.inr (hT.2.2 e).1
    have hfin := hq (A 100 4) (frF A (A 105 n) (A 106 n)) (fq_fr hA (hA _ _) (hA _ _) u0 u1) (by rw [fr_4]; omega) (by rw [fr_4]; show _ ≤ A 100 4 + ((1 : Nat) : Int); omega) (by
      unfold P1
      rw [pt_lf]
      refine ⟨?_, fun x => ?_⟩
      · rw [tR_lf, fr_row _ _ _ _ _ (by decide), if_neg (by omega), if_pos ⟨rfl, rfl⟩, fr_row _ _ _ _ _ (by decide), if_neg (by omega), if_neg (by omega), if_neg (by omega), if_pos ⟨rfl, rfl⟩, fr_row _ _ _ _ _ (by decide), if_neg (by omega), if_neg (by omega), if_pos ⟨rfl, rfl⟩]
        exact ⟨rfl, hT.2.1, hT.2.2⟩
      · rw [ct_lf, fr_4]
        by_cases e : x = A 100 4
        · rw [if_pos e]; exact ⟨Nat.le_refl 1, fun _ => by omega⟩
        · rw [if_neg e]; exact ⟨Nat.zero_le _, fun h => absurd rfl h⟩) (hA _ _)
    have go : wx K M_T_partAt (d + 4) Q 19 [some (.ref (xa K.n 32)), some (iv n), some (iv r), some (iv tc), none, none, none, none, none, none, none] [] (hp K.n A R g t u) := by
      refine r_aload_n 11 rfl rfl ?_
      refine r_aload_n 12 rfl rfl ?_
      refine r_get 13 rfl f_T_13 (hp_at rfl) rfl ?_
      refine r_iload_n 14 rfl rfl ?_
      refine r_iaload 15 rfl (hp_at rfl) (by decide) (by omega) (by omega) ?_
      refine r_aload_n 16 rfl rfl ?_
      refine r_get 17 rfl f_T_17 (hp_at rfl) rfl ?_
      refine r_iload_n 18 rfl rfl ?_
      refine r_iaload 19 rfl (hp_at rfl) (by decide) (by omega) (by omega) ?_
      refine r_callv2 20 rfl l_T_142 (hp_at rfl) (Nat.le_of_ble_eq_true rfl) ?_
      refine c_T_fresh hA (hA _ _) (hA _ _) u0 u1 (cp1 ?_)
      refine r_iret 21 rfl rfl rfl ?_
      exact hfin
    refine r_aload_n 0 rfl rfl ?_
    refine r_get 1 rfl f_T_13 (hp_at rfl) rfl ?_
    refine r_iload_n 2 rfl rfl ?_
    refine r_iaload 3 rfl (hp_at rfl) (by decide) (by omega) (by omega) ?_
    refine r_if_eq (t := 19) 4 rfl (by decide) (by first | exact hA _ _ | exact ⟨by decide, by decide⟩ | assumption | exact ⟨by omega, by omega⟩) (fun c_6 => ?_) (fun c_6 => ?_)
    · exact go
    · refine r_aload_n 5 rfl rfl ?_
      refine r_get 6 rfl f_T_13 (hp_at rfl) rfl ?_
      refine r_iload_n 7 rfl rfl ?_
      refine r_iaload 8 rfl (hp_at rfl) (by decide) (by omega) (by omega) ?_
      refine r_iconst 9 rfl ?_
      refine r_icmp_ne (t := 36) 10 rfl (by decide) (by first | exact hA _ _ | exact ⟨by decide, by decide⟩ | assumption | exact ⟨by omega, by omega⟩) (by first | exact hA _ _ | exact ⟨by decide, by decide⟩ | assumption | exact ⟨by omega, by omega⟩) (fun c_16 => by omega) (fun c_16 => ?_)
      exact go
  | branch k l q =>
    rw [tG_brT] at hT
    rw [wfT_br] at hw
    rw [szT_br] at n1 nU
    by_cases h3 : k < 3
    · rw [if_pos h3] at hT hw n1 nU
      obtain ⟨T1, T2, T3, T4⟩ := hT
      have ho : own (.branch k l q) = 1 := if_pos h3
      replace hkid : P1 A r l (A 117 (n + 1)) lo (A 100 4) := by
        have : (if k < 3 then P1 A r l (A 117 (n + 1)) lo (A 100 4) else PL A r l (n + 1) lo (A 100 4)) := hkid
        rw [if_pos h3] at this; exact this
      have htc' := htc k l q rfl h3
      have szl := szT_pos l
      unfold P1 at hq
      rw [pt_br, if_pos h3, ho] at hq
      by_cases ht : tch r (.branch k l q) = true
      · rw [if_pos ht] at hq htc'
        subst htc'
        unfold P1 at hkid
        cases hp1 : (pt r l).1 with
        | none =>
          rw [hp1] at hkid hq
          dsimp only [Option.map] at hkid hq
          have hfin := hq (-1) A ⟨frM.rf A, hA, fun x _ => sameN.rf A x⟩ (by omega) (by omega) (by decide) ⟨by decide, by decide⟩
          refine r_aload_n 0 rfl rfl ?_
          refine r_get 1 rfl f_T_13 (hp_at rfl) rfl ?_
          refine r_iload_n 2 rfl rfl ?_
          refine r_iaload 3 rfl (hp_at rfl) (by decide) (by omega) (by omega) ?_
          refine r_if_eq (t := 19) 4 rfl (by decide) (by first | exact hA _ _ | exact ⟨by decide, by decide⟩ | assumption | exact ⟨by omega, by omega⟩) (fun c_6 => by omega) (fun c_6 => ?_)
          refine r_aload_n 5 rfl rfl ?_
          refine r_get 6 rfl f_T_13 (hp_at rfl) rfl ?_
          refine r_iload_n 7 rfl rfl ?_
          refine r_iaload 8 rfl (hp_at rfl) (by decide) (by omega) (by omega) ?_
          refine r_iconst 9 rfl ?_
          refine r_icmp_ne (t := 36) 10 rfl (by decide) (by first | exact hA _ _ | exact ⟨by decide, by decide⟩ | assumption | exact ⟨by omega, by omega⟩) (by first | exact hA _ _ | exact ⟨by decide, by decide⟩ | assumption | exact ⟨by omega, by omega⟩) (fun c_16 => ?_) (fun c_16 => by omega)
          refine r_aload_n 22 rfl rfl ?_
          refine r_get 23 rfl f_T_13 (hp_at rfl) rfl ?_
          refine r_iload_n 24 rfl rfl ?_
          refine r_iaload 25 rfl (hp_at rfl) (by decide) (by omega) (by omega) ?_
          refine r_iconst 26 rfl ?_
          refine r_icmp_ne (t := 108) 27 rfl (by decide) (by first | exact hA _ _ | exact ⟨by decide, by decide⟩ | assumption | exact ⟨by omega, by omega⟩) (by first | exact hA _ _ | exact ⟨by decide, by decide⟩ | assumption | exact ⟨by omega, by omega⟩) (fun c_43 => by omega) (fun c_43 => ?_)
          refine r_iload_n 28 rfl rfl ?_
          refine r_if_ne (t := 57) 29 rfl (by decide) (by first | exact hA _ _ | exact ⟨by decide, by decide⟩ | assumption | exact ⟨by omega, by omega⟩) (fun c_47 => ?_) (fun c_47 => by omega)
          refine r_aload_n 35 rfl rfl ?_
          refine r_get 36 rfl f_T_41 (hp_at rfl) rfl ?_
          refine r_aload_n 37 rfl rfl ?_
          refine r_get 38 rfl f_T_29 (hp_at rfl) rfl ?_
          refine r_bipush 39 rfl rfl ?_
          refine r_iload_n 40 rfl rfl ?_
          refine r_imul 41 rfl ?_
          refine r_iaload 42 rfl (hp_at rfl) (by decide) (by omega) (by omega) ?_
          rw [T3]
          refine r_iaload 43 rfl (hp_at rfl) (by decide) (by omega) (by omega) ?_
          refine r_istore 44 rfl (Nat.le_of_ble_eq_true rfl) ?_
          refine r_iload 45 rfl rfl ?_
          refine r_if_ge (t := 80) 46 rfl (by decide) (by first | exact hA _ _ | exact ⟨by decide, by decide⟩ | assumption | exact ⟨by omega, by omega⟩) (fun c_75 => by omega) (fun c_75 => ?_)
          refine r_iconst 47 rfl ?_
          refine r_iret 48 rfl rfl rfl ?_
          exact hfin
        | some σ =>
          rw [hp1] at hkid hq
          dsimp only [Option.map] at hkid hq
          obtain ⟨t1, t2⟩ := hkid
          obtain ⟨s1, s2, s3⟩ := (pt_ok r l).1 hw σ hp1
          have hv := (t2 (A 117 (n + 1))).2 (by have := ct_self A σ (A 117 (n + 1)); omega)
          have hF := fq_fr hA (k := 2) (w := A 106 n) ⟨by decide, by decide⟩ (hA _ _) u0 u1
          generalize hC : au (frF A 2 (A 106 n)) 110 (6 * A 100 4) (A 117 (n + 1)) = C
          have Cr : ∀ (j : Nat) (y : Int), C j y = if j = 110 ∧ y = 6 * A 100 4 then A 117 (n + 1) else frF A 2 (A 106 n) j y := fun j y => by rw [← hC, au_ite]
          have hfC : fq A C (A 100 4) := by
            refine ⟨fun j y g1 g2 g3 g4 g5 => by rw [Cr, if_neg (by omega)]; exact hF.1 j y g1 g2 g3 g4 g5, by rw [← hC]; exact rga_au hF.2.1 (hA _ _), fun y hy => (hF.2.2 y hy).tr ⟨?_, ?_, ?_, fun l l0 l1 => ⟨?_, ?_, ?_⟩⟩⟩
            all_goals rw [Cr, if_neg (by omega)]
          have C4 : C 100 4 = A 100 4 + 1 := by rw [Cr, if_neg (by omega), fr_4]
          obtain ⟨j1, j2⟩ := (tR_frame A C σ).1 (A 117 (n + 1)) s1 (fun y hy => hfC.2.2 y (by have := (t2 y).2 hy; omega)) t1
          have C10 : C 110 (6 * A 100 4) = A 117 (n + 1) := by rw [Cr, if_pos ⟨rfl, rfl⟩]
          have hfin := hq (A 100 4) C hfC (by omega) (by rw [C4]; omega) (by
            refine ⟨?_, fun x => ?_⟩
            · rw [tR_br, if_pos h3, C10]
              refine ⟨?_, ?_, j1⟩
              · rw [Cr, if_neg (by omega), fr_row _ _ _ _ _ (by decide), if_neg (by omega), if_neg (by omega), if_neg (by omega), if_pos ⟨rfl, rfl⟩]
              · rw [Cr, if_neg (by omega), fr_row _ _ _ _ _ (by decide), if_neg (by omega), if_neg (by omega), if_pos ⟨rfl, rfl⟩, T2]
            · rw [ct_br, if_pos h3, C10, j2, C4]
              have := t2 x
              by_cases e : x = A 100 4
              · rw [if_pos e]
                have e0 : (ct A σ).1 (A 117 (n + 1)) x = 0 := Decidable.byContradiction (fun h => by have := this.2 h; omega)
                rw [e0]; exact ⟨Nat.le_refl 1, fun _ => by omega⟩
              · rw [if_neg e, Nat.zero_add]; exact ⟨this.1, fun h => by have := this.2 h; omega⟩) (hA _ _)
          refine r_aload_n 0 rfl rfl ?_
          refine r_get 1 rfl f_T_13 (hp_at rfl) rfl ?_
          refine r_iload_n 2 rfl rfl ?_
          refine r_iaload 3 rfl (hp_at rfl) (by decide) (by omega) (by omega) ?_
          refine r_if_eq (t := 19) 4 rfl (by decide) (by first | exact hA _ _ | exact ⟨by decide, by decide⟩ | assumption | exact ⟨by omega, by omega⟩) (fun c_6 => by omega) (fun c_6 => ?_)
          refine r_aload_n 5 rfl rfl ?_
          refine r_get 6 rfl f_T_13 (hp_at rfl) rfl ?_
          refine r_iload_n 7 rfl rfl ?_
          refine r_iaload 8 rfl (hp_at rfl) (by decide) (by omega) (by omega) ?_
          refine r_iconst 9 rfl ?_
          refine r_icmp_ne (t := 36) 10 rfl (by decide) (by first | exact hA _ _ | exact ⟨by decide, by decide⟩ | assumption | exact ⟨by omega, by omega⟩) (by first | exact hA _ _ | exact ⟨by decide, by decide⟩ | assumption | exact ⟨by omega, by omega⟩) (fun c_16 => ?_) (fun c_16 => by omega)
          refine r_aload_n 22 rfl rfl ?_
          refine r_get 23 rfl f_T_13 (hp_at rfl) rfl ?_
          refine r_iload_n 24 rfl rfl ?_
          refine r_iaload 25 rfl (hp_at rfl) (by decide) (by omega) (by omega) ?_
          refine r_iconst 26 rfl ?_
          refine r_icmp_ne (t := 108) 27 rfl (by decide) (by first | exact hA _ _ | exact ⟨by decide, by decide⟩ | assumption | exact ⟨by omega, by omega⟩) (by first | exact hA _ _ | exact ⟨by decide, by decide⟩ | assumption | exact ⟨by omega, by omega⟩) (fun c_43 => by omega) (fun c_43 => ?_)
          refine r_iload_n 28 rfl rfl ?_
          refine r_if_ne (t := 57) 29 rfl (by decide) (by first | exact hA _ _ | exact ⟨by decide, by decide⟩ | assumption | exact ⟨by omega, by omega⟩) (fun c_47 => ?_) (fun c_47 => by omega)
          refine r_aload_n 35 rfl rfl ?_
          refine r_get 36 rfl f_T_41 (hp_at rfl) rfl ?_
          refine r_aload_n 37 rfl rfl ?_
          refine r_get 38 rfl f_T_29 (hp_at rfl) rfl ?_
          refine r_bipush 39 rfl rfl ?_
          refine r_iload_n 40 rfl rfl ?_
          refine r_imul 41 rfl ?_
          refine r_iaload 42 rfl (hp_at rfl) (by decide) (by omega) (by omega) ?_
          rw [T3]
          refine r_iaload 43 rfl (hp_at rfl) (by decide) (by omega) (by omega) ?_
          refine r_istore 44 rfl (Nat.le_of_ble_eq_true rfl) ?_
          refine r_iload 45 rfl rfl ?_
          refine r_if_ge (t := 80) 46 rfl (by decide) (by first | exact hA _ _ | exact ⟨by decide, by decide⟩ | assumption | exact ⟨by omega, by omega⟩) (fun c_75 => ?_) (fun c_75 => by omega)
          refine r_aload_n 49 rfl rfl ?_
          refine r_iconst 50 rfl ?_
          refine r_aload_n 51 rfl rfl ?_
          refine r_get 52 rfl f_T_17 (hp_at rfl) rfl ?_
          refine r_iload_n 53 rfl rfl ?_
          refine r_iaload 54 rfl (hp_at rfl) (by decide) (by omega) (by omega) ?_
          refine r_callv2 55 rfl l_T_142 (hp_at rfl) (Nat.le_of_ble_eq_true rfl) ?_
          refine c_T_fresh hA ⟨by decide, by decide⟩ (hA _ _) u0 u1 (cp1 ?_)
          refine r_istore 56 rfl (Nat.le_of_ble_eq_true rfl) ?_
          refine r_aload_n 57 rfl rfl ?_
          refine r_get 58 rfl f_T_29 (hp_at rfl) rfl ?_
          refine r_bipush 59 rfl rfl ?_
          refine r_iload 60 rfl rfl ?_
          refine r_imul 61 rfl ?_
          refine r_iload 62 rfl rfl ?_
          refine r_iastore 63 rfl (hp_at rfl) (by decide) (by omega) (by omega) ?_
          rw [ws_110, hC]
          refine r_iload 64 rfl rfl ?_
          refine r_iret 65 rfl rfl rfl ?_
          exact hfin
      · rw [if_neg ht] at hq htc'
        subst htc'
        have hfin := hq (A 100 4) (frF A 0 0) (fq_fr hA rg_0 rg_0 u0 u1) (by rw [fr_4]; omega) (by rw [fr_4]; omega) (by
          refine ⟨?_, fun x => ?_⟩
          · rw [tR_lf, fr_row _ _ _ _ _ (by decide), if_neg (by omega), if_pos ⟨rfl, rfl⟩, fr_row _ _ _ _ _ (by decide), if_neg (by omega), if_neg (by omega), if_neg (by omega), if_pos ⟨rfl, rfl⟩]
            exact ⟨rfl, fun _ => rfl, fun h => absurd rfl h⟩
          · rw [ct_lf, fr_4]
            by_cases e : x = A 100 4
            · rw [if_pos e]; exact ⟨Nat.le_refl 1, fun _ => by omega⟩
            · rw [if_neg e]; exact ⟨Nat.zero_le _, fun h => absurd rfl h⟩) (hA _ _)
        refine r_aload_n 0 rfl rfl ?_
        refine r_get 1 rfl f_T_13 (hp_at rfl) rfl ?_
        refine r_iload_n 2 rfl rfl ?_
        refine r_iaload 3 rfl (hp_at rfl) (by decide) (by omega) (by omega) ?_
        refine r_if_eq (t := 19) 4 rfl (by decide) (by first | exact hA _ _ | exact ⟨by decide, by decide⟩ | assumption | exact ⟨by omega, by omega⟩) (fun c_6 => by omega) (fun c_6 => ?_)
        refine r_aload_n 5 rfl rfl ?_
        refine r_get 6 rfl f_T_13 (hp_at rfl) rfl ?_
        refine r_iload_n 7 rfl rfl ?_
        refine r_iaload 8 rfl (hp_at rfl) (by decide) (by omega) (by omega) ?_
        refine r_iconst 9 rfl ?_
        refine r_icmp_ne (t := 36) 10 rfl (by decide) (by first | exact hA _ _ | exact ⟨by decide, by decide⟩ | assumption | exact ⟨by omega, by omega⟩) (by first | exact hA _ _ | exact ⟨by decide, by decide⟩ | assumption | exact ⟨by omega, by omega⟩) (fun c_16 => ?_) (fun c_16 => by omega)
        refine r_aload_n 22 rfl rfl ?_
        refine r_get 23 rfl f_T_13 (hp_at rfl) rfl ?_
        refine r_iload_n 24 rfl rfl ?_
        refine r_iaload 25 rfl (hp_at rfl) (by decide) (by omega) (by omega) ?_
        refine r_iconst 26 rfl ?_
        refine r_icmp_ne (t := 108) 27 rfl (by decide) (by first | exact hA _ _ | exact ⟨by decide, by decide⟩ | assumption | exact ⟨by omega, by omega⟩) (by first | exact hA _ _ | exact ⟨by decide, by decide⟩ | assumption | exact ⟨by omega, by omega⟩) (fun c_43 => by omega) (fun c_43 => ?_)
        refine r_iload_n 28 rfl rfl ?_
        refine r_if_ne (t := 57) 29 rfl (by decide) (by first | exact hA _ _ | exact ⟨by decide, by decide⟩ | assumption | exact ⟨by omega, by omega⟩) (fun c_47 => by omega) (fun c_47 => ?_)
        refine r_aload_n 30 rfl rfl ?_
        refine r_iconst 31 rfl ?_
        refine r_iconst 32 rfl ?_
        refine r_callv2 33 rfl l_T_142 (hp_at rfl) (Nat.le_of_ble_eq_true rfl) ?_
        refine c_T_fresh hA rg_0 rg_0 u0 u1 (cp1 ?_)
        refine r_iret 34 rfl rfl rfl ?_
        exact hfin
    · rw [if_neg h3] at hT hw n1 nU
      rw [if_neg (by decide)] at hT
      obtain ⟨⟨T1, T2⟩, T3, T4⟩ := hT
      obtain ⟨w1, w2, w3⟩ := hw
      have ho : own (.branch k l q) = 1 + mcF l := if_neg h3
      replace hkid : PL A r l (n + 1) lo (A 100 4) := by
        have : (if k < 3 then P1 A r l (A 117 (n + 1)) lo (A 100 4) else PL A r l (n + 1) lo (A 100 4)) := hkid
        rw [if_neg h3] at this; exact this
      have l6 := lenB_le l w2
      have nl := labG_n A false l n 0 _ T3
      have hu0 : ∀ x, 0 ≤ x → x < 6 → hasL l x = false → A 108 (6 * n + x) ≤ 0 := fun x x0 x1 hx => by rw [T4 x x0 x1 hx]; omega
      unfold P1 at hq
      rw [pt_br, if_neg h3, ho] at hq
      rw [ho] at hlim
      have ef : A 106 n % 4 = (((k - 3) % 4 : Nat) : Int) := by rw [T2]; omega
      have et : A 106 n / 4 = (((k - 3) / 4 : Nat) : Int) := by rw [T2]; omega
      have hw0 : 0 ≤ A 106 n := by omega
      have hw1 : A 106 n < 2147483648 := by omega
      generalize hfm : (((k - 3) % 4 : Nat) : Int) = fm at *
      generalize hto : (((k - 3) / 4 : Nat) : Int) = to at *
      have rfm : rg fm := ⟨by omega, by omega⟩
      have rto : rg to := ⟨by omega, by omega⟩
      -- one that takes part
      have mine : ∀ (kd wd : Int) (kk : Nat), (kk = 3 + (k - 3) / 4 ∧ kd = 3 ∧ wd = to ∨ kk = 7 + (k - 3) % 4 ∧ kd = 4 ∧ wd = fm) →
          (∀ v A', fq A A' (A 100 4) → A 100 4 ≤ A' 100 4 → A' 100 4 ≤ A 100 4 + ((1 + mcF l : Nat) : Int) → (match (pt r l).2.1.map (fun x => (.branch kk x (.leaf 0) : Tr)) with | none => v < 0 | some σ => (tR A' σ).1 v ∧ ∀ x, (ct A' σ).1 v x ≤ 1 ∧ ((ct A' σ).1 v x ≠ 0 → lo ≤ x ∧ x < A' 100 4)) → rg v → Q (.returned (some (iv v))) (hp K.n A' R g t u)) →
          wx K M_T_partAt (d + 4) Q 189 [some (.ref (xa K.n 32)), some (iv n), some (iv r), some (iv tc), some (iv fm), some (iv to), some (iv 1), some (iv (A 100 4)), some (iv (0 + 1)), none, none] [] (hp K.n (frF A kd wd) R g t u) := by
        intro kd wd kk hkk hq
        have hrd : rg kd ∧ rg wd := by rcases hkk with h | h <;> (refine ⟨⟨by omega, by omega⟩, ⟨by omega, by omega⟩⟩)
        have hF := fq_fr hA hrd.1 hrd.2 u0 u1
        have F5 : frF A kd wd 105 (A 100 4) = kd := by rw [fr_row _ _ _ _ _ (by decide), if_neg (by omega), if_neg (by omega), if_neg (by omega), if_pos ⟨rfl, rfl⟩]
        have F6 : frF A kd wd 106 (A 100 4) = wd := by rw [fr_row _ _ _ _ _ (by decide), if_neg (by omega), if_neg (by omega), if_pos ⟨rfl, rfl⟩]
        refine pa_mine (A := A) (U := A 100 4) n0 (by omega) u1 l 0 (n + 1) lo (A 100 4) _ T3 w2 (by omega) (by omega) hu0 nl (by omega) (by omega) hkid (by omega) hlo hF (fr_4 _ _ _) (by rw [fr_row _ _ _ _ _ (by decide), if_neg (by omega), if_pos ⟨rfl, rfl⟩]) (fun A' h1 h2 h3 => ?_) (fun x A' h1 h2 h3 h4 h5 h6 h7 h8 => ?_)
        · exact hq (-1) A' h2 (by omega) (by omega) (by rw [h1]; show (-1 : Int) < 0; decide) ⟨by decide, by decide⟩
        · obtain ⟨i1, i2, i3, i4, i5⟩ := ((pt_ok r l).2 w2).1 x h1
          refine hq (A 100 4) A' h2 (by omega) (by omega) ?_ (hA _ _)
          rw [h1]
          have hk3 : ¬ kk < 3 := by omega
          refine ⟨?_, fun y => ?_⟩
          · rw [tR_br, if_neg hk3, h4, h5, F5, F6]
            refine ⟨?_, h7, fun y y0 y1 hy => ?_⟩
            · rcases hkk with h | h
              · obtain ⟨e1, e2, e3⟩ := h; omega
              · obtain ⟨e1, e2, e3⟩ := h; omega
            · rw [i5] at hy
              rw [(h6 y y0 y1 hy).1, fr_row _ _ _ _ _ (by decide), if_pos (by omega)]
          · rw [ct_br, if_neg hk3, h3]
            have := h8 y
            by_cases e : y = A 100 4
            · rw [if_pos e]
              have e0 : (ct A' x).2 (A 100 4) y = 0 := Decidable.byContradiction (fun h => by have := this.2 h; omega)
              rw [e0]; exact ⟨Nat.le_refl 1, fun _ => by omega⟩
            · rw [if_neg e, Nat.zero_add]; exact ⟨this.1, fun h => by have := this.2 h; omega⟩
      by_cases e1 : fm = r
      · rw [if_pos e1] at hq
        have m1 := mine 3 to _ (Or.inl ⟨rfl, rfl, rfl⟩) hq
        refine r_aload_n 0 rfl rfl ?_
        refine r_get 1 rfl f_T_13 (hp_at rfl) rfl ?_
        refine r_iload_n 2 rfl rfl ?_
        refine r_iaload 3 rfl (hp_at rfl) (by decide) (by omega) (by omega) ?_
        refine r_if_eq (t := 19) 4 rfl (by decide) (by first | exact hA _ _ | exact ⟨by decide, by decide⟩ | assumption | exact ⟨by omega, by omega⟩) (fun c_6 => by omega) (fun c_6 => ?_)
        refine r_aload_n 5 rfl rfl ?_
        refine r_get 6 rfl f_T_13 (hp_at rfl) rfl ?_
        refine r_iload_n 7 rfl rfl ?_
        refine r_iaload 8 rfl (hp_at rfl) (by decide) (by omega) (by omega) ?_
        refine r_iconst 9 rfl ?_
        refine r_icmp_ne (t := 36) 10 rfl (by decide) (by first | exact hA _ _ | exact ⟨by decide, by decide⟩ | assumption | exact ⟨by omega, by omega⟩) (by first | exact hA _ _ | exact ⟨by decide, by decide⟩ | assumption | exact ⟨by omega, by omega⟩) (fun c_16 => ?_) (fun c_16 => by omega)
        refine r_aload_n 22 rfl rfl ?_
        refine r_get 23 rfl f_T_13 (hp_at rfl) rfl ?_
        refine r_iload_n 24 rfl rfl ?_
        refine r_iaload 25 rfl (hp_at rfl) (by decide) (by omega) (by omega) ?_
        refine r_iconst 26 rfl ?_
        refine r_icmp_ne (t := 108) 27 rfl (by decide) (by first | exact hA _ _ | exact ⟨by decide, by decide⟩ | assumption | exact ⟨by omega, by omega⟩) (by first | exact hA _ _ | exact ⟨by decide, by decide⟩ | assumption | exact ⟨by omega, by omega⟩) (fun c_43 => ?_) (fun c_43 => by omega)
        refine r_aload_n 66 rfl rfl ?_
        refine r_get 67 rfl f_T_17 (hp_at rfl) rfl ?_
        refine r_iload_n 68 rfl rfl ?_
        refine r_iaload 69 rfl (hp_at rfl) (by decide) (by omega) (by omega) ?_
        refine r_iconst 70 rfl ?_
        refine r_irem 71 rfl hw0 hw1 (by decide) (by decide) ?_
        rw [ef]
        refine r_istore 72 rfl (Nat.le_of_ble_eq_true rfl) ?_
        refine r_aload_n 73 rfl rfl ?_
        refine r_get 74 rfl f_T_17 (hp_at rfl) rfl ?_
        refine r_iload_n 75 rfl rfl ?_
        refine r_iaload 76 rfl (hp_at rfl) (by decide) (by omega) (by omega) ?_
        refine r_iconst 77 rfl ?_
        refine r_idiv 78 rfl hw0 hw1 (by decide) (by decide) ?_
        rw [et]
        refine r_istore 79 rfl (Nat.le_of_ble_eq_true rfl) ?_
        refine r_iload 80 rfl rfl ?_
        refine r_iload_n 81 rfl rfl ?_
        refine r_icmp_eq (t := 140) 82 rfl (by decide) (by first | exact hA _ _ | exact ⟨by decide, by decide⟩ | assumption | exact ⟨by omega, by omega⟩) (by first | exact hA _ _ | exact ⟨by decide, by decide⟩ | assumption | exact ⟨by omega, by omega⟩) (fun c_131 => ?_) (fun c_131 => by omega)
        refine r_iconst 86 rfl ?_
        refine r_goto (t := 145) 87 rfl (by decide) ?_
        refine r_istore 89 rfl (Nat.le_of_ble_eq_true rfl) ?_
        refine r_iload 90 rfl rfl ?_
        refine r_if_eq (t := 183) 91 rfl (by decide) (by first | exact hA _ _ | exact ⟨by decide, by decide⟩ | assumption | exact ⟨by omega, by omega⟩) (fun c_149 => by omega) (fun c_149 => ?_)
        refine r_aload_n 92 rfl rfl ?_
        refine r_iload 93 rfl rfl ?_
        refine r_iload_n 94 rfl rfl ?_
        refine r_icmp_ne (t := 163) 95 rfl (by decide) (by first | exact hA _ _ | exact ⟨by decide, by decide⟩ | assumption | exact ⟨by omega, by omega⟩) (by first | exact hA _ _ | exact ⟨by decide, by decide⟩ | assumption | exact ⟨by omega, by omega⟩) (fun c_156 => by omega) (fun c_156 => ?_)
        refine r_iconst 96 rfl ?_
        refine r_goto (t := 164) 97 rfl (by decide) ?_
        refine r_iload 99 rfl rfl ?_
        refine r_iload_n 100 rfl rfl ?_
        refine r_icmp_ne (t := 175) 101 rfl (by decide) (by first | exact hA _ _ | exact ⟨by decide, by decide⟩ | assumption | exact ⟨by omega, by omega⟩) (by first | exact hA _ _ | exact ⟨by decide, by decide⟩ | assumption | exact ⟨by omega, by omega⟩) (fun c_167 => by omega) (fun c_167 => ?_)
        refine r_iload 102 rfl rfl ?_
        refine r_goto (t := 177) 103 rfl (by decide) ?_
        refine r_callv2 105 rfl l_T_142 (hp_at rfl) (Nat.le_of_ble_eq_true rfl) ?_
        refine c_T_fresh hA ⟨by decide, by decide⟩ rto u0 u1 (cp1 ?_)
        refine r_goto (t := 184) 106 rfl (by decide) ?_
        refine r_istore 108 rfl (Nat.le_of_ble_eq_true rfl) ?_
        refine r_iconst 109 rfl ?_
        refine r_istore 110 rfl (Nat.le_of_ble_eq_true rfl) ?_
        exact m1
      rw [if_neg e1] at hq
      by_cases e2 : to = r
      · rw [if_pos e2] at hq
        have m1 := mine 4 fm _ (Or.inr ⟨rfl, rfl, rfl⟩) hq
        refine r_aload_n 0 rfl rfl ?_
        refine r_get 1 rfl f_T_13 (hp_at rfl) rfl ?_
        refine r_iload_n 2 rfl rfl ?_
        refine r_iaload 3 rfl (hp_at rfl) (by decide) (by omega) (by omega) ?_
        refine r_if_eq (t := 19) 4 rfl (by decide) (by first | exact hA _ _ | exact ⟨by decide, by decide⟩ | assumption | exact ⟨by omega, by omega⟩) (fun c_6 => by omega) (fun c_6 => ?_)
        refine r_aload_n 5 rfl rfl ?_
        refine r_get 6 rfl f_T_13 (hp_at rfl) rfl ?_
        refine r_iload_n 7 rfl rfl ?_
        refine r_iaload 8 rfl (hp_at rfl) (by decide) (by omega) (by omega) ?_
        refine r_iconst 9 rfl ?_
        refine r_icmp_ne (t := 36) 10 rfl (by decide) (by first | exact hA _ _ | exact ⟨by decide, by decide⟩ | assumption | exact ⟨by omega, by omega⟩) (by first | exact hA _ _ | exact ⟨by decide, by decide⟩ | assumption | exact ⟨by omega, by omega⟩) (fun c_16 => ?_) (fun c_16 => by omega)
        refine r_aload_n 22 rfl rfl ?_
        refine r_get 23 rfl f_T_13 (hp_at rfl) rfl ?_
        refine r_iload_n 24 rfl rfl ?_
        refine r_iaload 25 rfl (hp_at rfl) (by decide) (by omega) (by omega) ?_
        refine r_iconst 26 rfl ?_
        refine r_icmp_ne (t := 108) 27 rfl (by decide) (by first | exact hA _ _ | exact ⟨by decide, by decide⟩ | assumption | exact ⟨by omega, by omega⟩) (by first | exact hA _ _ | exact ⟨by decide, by decide⟩ | assumption | exact ⟨by omega, by omega⟩) (fun c_43 => ?_) (fun c_43 => by omega)
        refine r_aload_n 66 rfl rfl ?_
        refine r_get 67 rfl f_T_17 (hp_at rfl) rfl ?_
        refine r_iload_n 68 rfl rfl ?_
        refine r_iaload 69 rfl (hp_at rfl) (by decide) (by omega) (by omega) ?_
        refine r_iconst 70 rfl ?_
        refine r_irem 71 rfl hw0 hw1 (by decide) (by decide) ?_
        rw [ef]
        refine r_istore 72 rfl (Nat.le_of_ble_eq_true rfl) ?_
        refine r_aload_n 73 rfl rfl ?_
        refine r_get 74 rfl f_T_17 (hp_at rfl) rfl ?_
        refine r_iload_n 75 rfl rfl ?_
        refine r_iaload 76 rfl (hp_at rfl) (by decide) (by omega) (by omega) ?_
        refine r_iconst 77 rfl ?_
        refine r_idiv 78 rfl hw0 hw1 (by decide) (by decide) ?_
        rw [et]
        refine r_istore 79 rfl (Nat.le_of_ble_eq_true rfl) ?_
        refine r_iload 80 rfl rfl ?_
        refine r_iload_n 81 rfl rfl ?_
        refine r_icmp_eq (t := 140) 82 rfl (by decide) (by first | exact hA _ _ | exact ⟨by decide, by decide⟩ | assumption | exact ⟨by omega, by omega⟩) (by first | exact hA _ _ | exact ⟨by decide, by decide⟩ | assumption | exact ⟨by omega, by omega⟩) (fun c_131 => by omega) (fun c_131 => ?_)
        refine r_iload 83 rfl rfl ?_
        refine r_iload_n 84 rfl rfl ?_
        refine r_icmp_ne (t := 144) 85 rfl (by decide) (by first | exact hA _ _ | exact ⟨by decide, by decide⟩ | assumption | exact ⟨by omega, by omega⟩) (by first | exact hA _ _ | exact ⟨by decide, by decide⟩ | assumption | exact ⟨by omega, by omega⟩) (fun c_137 => by omega) (fun c_137 => ?_)
        refine r_iconst 86 rfl ?_
        refine r_goto (t := 145) 87 rfl (by decide) ?_
        refine r_istore 89 rfl (Nat.le_of_ble_eq_true rfl) ?_
        refine r_iload 90 rfl rfl ?_
        refine r_if_eq (t := 183) 91 rfl (by decide) (by first | exact hA _ _ | exact ⟨by decide, by decide⟩ | assumption | exact ⟨by omega, by omega⟩) (fun c_149 => by omega) (fun c_149 => ?_)
        refine r_aload_n 92 rfl rfl ?_
        refine r_iload 93 rfl rfl ?_
        refine r_iload_n 94 rfl rfl ?_
        refine r_icmp_ne (t := 163) 95 rfl (by decide) (by first | exact hA _ _ | exact ⟨by decide, by decide⟩ | assumption | exact ⟨by omega, by omega⟩) (by first | exact hA _ _ | exact ⟨by decide, by decide⟩ | assumption | exact ⟨by omega, by omega⟩) (fun c_156 => ?_) (fun c_156 => by omega)
        refine r_iconst 98 rfl ?_
        refine r_iload 99 rfl rfl ?_
        refine r_iload_n 100 rfl rfl ?_
        refine r_icmp_ne (t := 175) 101 rfl (by decide) (by first | exact hA _ _ | exact ⟨by decide, by decide⟩ | assumption | exact ⟨by omega, by omega⟩) (by first | exact hA _ _ | exact ⟨by decide, by decide⟩ | assumption | exact ⟨by omega, by omega⟩) (fun c_167 => ?_) (fun c_167 => by omega)
        refine r_iload 104 rfl rfl ?_
        refine r_callv2 105 rfl l_T_142 (hp_at rfl) (Nat.le_of_ble_eq_true rfl) ?_
        refine c_T_fresh hA ⟨by decide, by decide⟩ rfm u0 u1 (cp1 ?_)
        refine r_goto (t := 184) 106 rfl (by decide) ?_
        refine r_istore 108 rfl (Nat.le_of_ble_eq_true rfl) ?_
        refine r_iconst 109 rfl ?_
        refine r_istore 110 rfl (Nat.le_of_ble_eq_true rfl) ?_
        exact m1
      rw [if_neg e2] at hq
      -- one that does not
      have other : wx K M_T_partAt (d + 4) Q 189 [some (.ref (xa K.n 32)), some (iv n), some (iv r), some (iv tc), some (iv fm), some (iv to), some (iv 0), some (iv (-1)), some (iv 1), none, none] [] (hp K.n A R g t u) := by
        cases l with
        | leaf kl => exact absurd rfl w3
        | branch kl τ l =>
          obtain ⟨x, hx⟩ : ∃ x : Int, x = ((kl / 3 : Nat) : Int) := ⟨_, rfl⟩
          rw [wfB_br] at w2
          obtain ⟨v1, v2, v3, v4⟩ := w2
          obtain ⟨A8, A9, A10, huq, hu'⟩ := pa_lab hx (sameN.rf A n) T3 v1 hu0
          rw [tG_brB] at T3
          have r5 := T3.2.2.2.2
          have x0 : 0 ≤ x := by omega
          have x6 : x < 6 := by omega
          rw [lenB_br] at l6 nl
          rw [szB_br] at n1 nU
          have szp := szT_pos τ
          rw [PL_br] at hkid
          obtain ⟨mid, m1, m2, m3, m4⟩ := hkid
          have hmc : mcF (.branch kl τ l) = mcR l := rfl
          rw [hmc] at hlim hq
          rw [ptF_br] at hq
          unfold P1 at m3
          cases hpt : (pt r τ).1 with
          | none =>
            rw [hpt] at m3 hq
            dsimp only at m3
            have hfin := hq (-1) A ⟨frM.rf A, hA, fun x _ => sameN.rf A x⟩ (by omega) (by omega) (by show (-1 : Int) < 0; decide) ⟨by decide, by decide⟩
            refine r_iload 111 rfl rfl ?_
            refine r_aload_n 112 rfl rfl ?_
            refine r_get 113 rfl f_T_20 (hp_at rfl) rfl ?_
            refine r_iload_n 114 rfl rfl ?_
            refine r_iaload 115 rfl (hp_at rfl) (by decide) (by omega) (by omega) ?_
            refine r_icmp_gt (t := 299) 116 rfl (by decide) (by first | exact hA _ _ | exact ⟨by decide, by decide⟩ | assumption | exact ⟨by omega, by omega⟩) (by first | exact hA _ _ | exact ⟨by decide, by decide⟩ | assumption | exact ⟨by omega, by omega⟩) (fun c_197 => by omega) (fun c_197 => ?_)
            refine r_aload_n 117 rfl rfl ?_
            refine r_iload_n 118 rfl rfl ?_
            refine r_iload 119 rfl rfl ?_
            refine r_callv2 120 rfl l_T_176 (hp_at rfl) (Nat.le_of_ble_eq_true rfl) ?_
            refine c_T_labelAt hA ⟨by decide, by decide⟩ n0 (by omega) x0 x6 A8 huq (cp1 ?_)
            refine r_istore 121 rfl (Nat.le_of_ble_eq_true rfl) ?_
            refine r_aload_n 122 rfl rfl ?_
            refine r_get 123 rfl f_T_41 (hp_at rfl) rfl ?_
            refine r_aload_n 124 rfl rfl ?_
            refine r_get 125 rfl f_T_29 (hp_at rfl) rfl ?_
            refine r_bipush 126 rfl rfl ?_
            refine r_iload_n 127 rfl rfl ?_
            refine r_imul 128 rfl ?_
            refine r_iload 129 rfl rfl ?_
            refine r_iadd 130 rfl ?_
            refine r_iaload 131 rfl (hp_at rfl) (by decide) (by omega) (by omega) ?_
            rw [A10]
            refine r_iaload 132 rfl (hp_at rfl) (by decide) (by omega) (by omega) ?_
            refine r_istore 133 rfl (Nat.le_of_ble_eq_true rfl) ?_
            refine r_iload 134 rfl rfl ?_
            refine r_if_ge (t := 235) 135 rfl (by decide) (by first | exact hA _ _ | exact ⟨by decide, by decide⟩ | assumption | exact ⟨by omega, by omega⟩) (fun c_230 => by omega) (fun c_230 => ?_)
            refine r_iconst 136 rfl ?_
            refine r_iret 137 rfl rfl rfl ?_
            exact hfin
          | some σ =>
            rw [hpt] at m3 hq
            dsimp only at m3
            obtain ⟨t1, t2⟩ := m3
            obtain ⟨s1, s2, s3⟩ := (pt_ok r τ).1 v3 σ hpt
            have hv := (t2 (A 117 (n + 1))).2 (by have := ct_self A σ (A 117 (n + 1)); omega)
            have nx := pa_other (K := K) (d := d) (Q := Q) (R := R) (g := g) (t := t) (u := u) (r := r) (to := to) (fm := fm) (tc := tc) (A := A) (U := A 100 4) n0 (by omega) rfl l 1 (n + 1 + szT τ) lo mid (A 117 (n + 1)) A σ r5 v4 (by omega) (by omega) hu' (by omega) (by omega) (by omega) m4 (by omega) hlo ⟨frM.rf A, hA, fun x _ => sameN.rf A x⟩ (by omega) (by omega) t1 s1 s2 t2 (fun A' h1 h2 h3 h4 => hq (-1) A' h2 h3 (by omega) (by show (match (pt r l).2.2.1 σ with | none => (-1 : Int) < 0 | some σ => _); rw [h1]; show (-1 : Int) < 0; decide) ⟨by decide, by decide⟩) (fun σ' v A' h1 h2 h3 h4 h5 h6 => by
              have hv := (h6 v).2 (by have := ct_self A' σ' v; omega)
              refine hq v A' h2 h3 (by omega) ?_ ⟨by omega, by omega⟩
              show (match (pt r l).2.2.1 σ with | none => v < 0 | some σ => _)
              rw [h1]
              exact ⟨h5, h6⟩)
            have hnx : ∀ v5 v6 : Value, wx K M_T_partAt (d + 4) Q 189 [some (.ref (xa K.n 32)), some (iv n), some (iv r), some (iv tc), some (iv fm), some (iv to), some (iv 0), some (iv (A 117 (n + 1))), some (iv (1 + 1)), some v5, some v6] [] (hp K.n A R g t u) := fun v5 v6 => wx_t (pre := [some (.ref (xa K.n 32)), some (iv n), some (iv r), some (iv tc), some (iv fm), some (iv to), some (iv 0), some (iv (A 117 (n + 1))), some (iv (1 + 1))]) (tl := [some v5, some v6]) nx
            refine r_iload 111 rfl rfl ?_
            refine r_aload_n 112 rfl rfl ?_
            refine r_get 113 rfl f_T_20 (hp_at rfl) rfl ?_
            refine r_iload_n 114 rfl rfl ?_
            refine r_iaload 115 rfl (hp_at rfl) (by decide) (by omega) (by omega) ?_
            refine r_icmp_gt (t := 299) 116 rfl (by decide) (by first | exact hA _ _ | exact ⟨by decide, by decide⟩ | assumption | exact ⟨by omega, by omega⟩) (by first | exact hA _ _ | exact ⟨by decide, by decide⟩ | assumption | exact ⟨by omega, by omega⟩) (fun c_197 => by omega) (fun c_197 => ?_)
            refine r_aload_n 117 rfl rfl ?_
            refine r_iload_n 118 rfl rfl ?_
            refine r_iload 119 rfl rfl ?_
            refine r_callv2 120 rfl l_T_176 (hp_at rfl) (Nat.le_of_ble_eq_true rfl) ?_
            refine c_T_labelAt hA ⟨by decide, by decide⟩ n0 (by omega) x0 x6 A8 huq (cp1 ?_)
            refine r_istore 121 rfl (Nat.le_of_ble_eq_true rfl) ?_
            refine r_aload_n 122 rfl rfl ?_
            refine r_get 123 rfl f_T_41 (hp_at rfl) rfl ?_
            refine r_aload_n 124 rfl rfl ?_
            refine r_get 125 rfl f_T_29 (hp_at rfl) rfl ?_
            refine r_bipush 126 rfl rfl ?_
            refine r_iload_n 127 rfl rfl ?_
            refine r_imul 128 rfl ?_
            refine r_iload 129 rfl rfl ?_
            refine r_iadd 130 rfl ?_
            refine r_iaload 131 rfl (hp_at rfl) (by decide) (by omega) (by omega) ?_
            rw [A10]
            refine r_iaload 132 rfl (hp_at rfl) (by decide) (by omega) (by omega) ?_
            refine r_istore 133 rfl (Nat.le_of_ble_eq_true rfl) ?_
            refine r_iload 134 rfl rfl ?_
            refine r_if_ge (t := 235) 135 rfl (by decide) (by first | exact hA _ _ | exact ⟨by decide, by decide⟩ | assumption | exact ⟨by omega, by omega⟩) (fun c_230 => ?_) (fun c_230 => by omega)
            refine r_iload 138 rfl rfl ?_
            refine r_if_eq (t := 265) 139 rfl (by decide) (by first | exact hA _ _ | exact ⟨by decide, by decide⟩ | assumption | exact ⟨by omega, by omega⟩) (fun c_237 => ?_) (fun c_237 => by omega)
            refine r_iload 154 rfl rfl ?_
            refine r_iconst 155 rfl ?_
            refine r_icmp_ne (t := 276) 156 rfl (by decide) (by first | exact hA _ _ | exact ⟨by decide, by decide⟩ | assumption | exact ⟨by omega, by omega⟩) (by first | exact hA _ _ | exact ⟨by decide, by decide⟩ | assumption | exact ⟨by omega, by omega⟩) (fun c_268 => by omega) (fun c_268 => ?_)
            refine r_iload 157 rfl rfl ?_
            refine r_goto (t := 284) 158 rfl (by decide) ?_
            refine r_istore 163 rfl (Nat.le_of_ble_eq_true rfl) ?_
            refine r_iload 164 rfl rfl ?_
            refine r_if_ge (t := 293) 165 rfl (by decide) (by first | exact hA _ _ | exact ⟨by decide, by decide⟩ | assumption | exact ⟨by omega, by omega⟩) (fun c_288 => ?_) (fun c_288 => by omega)
            refine r_iinc 168 rfl rfl ?_
            refine r_goto (t := 189) 169 rfl (by decide) ?_
            exact hnx _ _
      refine r_aload_n 0 rfl rfl ?_
      refine r_get 1 rfl f_T_13 (hp_at rfl) rfl ?_
      refine r_iload_n 2 rfl rfl ?_
      refine r_iaload 3 rfl (hp_at rfl) (by decide) (by omega) (by omega) ?_
      refine r_if_eq (t := 19) 4 rfl (by decide) (by first | exact hA _ _ | exact ⟨by decide, by decide⟩ | assumption | exact ⟨by omega, by omega⟩) (fun c_6 => by omega) (fun c_6 => ?_)
      refine r_aload_n 5 rfl rfl ?_
      refine r_get 6 rfl f_T_13 (hp_at rfl) rfl ?_
      refine r_iload_n 7 rfl rfl ?_
      refine r_iaload 8 rfl (hp_at rfl) (by decide) (by omega) (by omega) ?_
      refine r_iconst 9 rfl ?_
      refine r_icmp_ne (t := 36) 10 rfl (by decide) (by first | exact hA _ _ | exact ⟨by decide, by decide⟩ | assumption | exact ⟨by omega, by omega⟩) (by first | exact hA _ _ | exact ⟨by decide, by decide⟩ | assumption | exact ⟨by omega, by omega⟩) (fun c_16 => ?_) (fun c_16 => by omega)
      refine r_aload_n 22 rfl rfl ?_
      refine r_get 23 rfl f_T_13 (hp_at rfl) rfl ?_
      refine r_iload_n 24 rfl rfl ?_
      refine r_iaload 25 rfl (hp_at rfl) (by decide) (by omega) (by omega) ?_
      refine r_iconst 26 rfl ?_
      refine r_icmp_ne (t := 108) 27 rfl (by decide) (by first | exact hA _ _ | exact ⟨by decide, by decide⟩ | assumption | exact ⟨by omega, by omega⟩) (by first | exact hA _ _ | exact ⟨by decide, by decide⟩ | assumption | exact ⟨by omega, by omega⟩) (fun c_43 => ?_) (fun c_43 => by omega)
      refine r_aload_n 66 rfl rfl ?_
      refine r_get 67 rfl f_T_17 (hp_at rfl) rfl ?_
      refine r_iload_n 68 rfl rfl ?_
      refine r_iaload 69 rfl (hp_at rfl) (by decide) (by omega) (by omega) ?_
      refine r_iconst 70 rfl ?_
      refine r_irem 71 rfl hw0 hw1 (by decide) (by decide) ?_
      rw [ef]
      refine r_istore 72 rfl (Nat.le_of_ble_eq_true rfl) ?_
      refine r_aload_n 73 rfl rfl ?_
      refine r_get 74 rfl f_T_17 (hp_at rfl) rfl ?_
      refine r_iload_n 75 rfl rfl ?_
      refine r_iaload 76 rfl (hp_at rfl) (by decide) (by omega) (by omega) ?_
      refine r_iconst 77 rfl ?_
      refine r_idiv 78 rfl hw0 hw1 (by decide) (by decide) ?_
      rw [et]
      refine r_istore 79 rfl (Nat.le_of_ble_eq_true rfl) ?_
      refine r_iload 80 rfl rfl ?_
      refine r_iload_n 81 rfl rfl ?_
      refine r_icmp_eq (t := 140) 82 rfl (by decide) (by first | exact hA _ _ | exact ⟨by decide, by decide⟩ | assumption | exact ⟨by omega, by omega⟩) (by first | exact hA _ _ | exact ⟨by decide, by decide⟩ | assumption | exact ⟨by omega, by omega⟩) (fun c_131 => by omega) (fun c_131 => ?_)
      refine r_iload 83 rfl rfl ?_
      refine r_iload_n 84 rfl rfl ?_
      refine r_icmp_ne (t := 144) 85 rfl (by decide) (by first | exact hA _ _ | exact ⟨by decide, by decide⟩ | assumption | exact ⟨by omega, by omega⟩) (by first | exact hA _ _ | exact ⟨by decide, by decide⟩ | assumption | exact ⟨by omega, by omega⟩) (fun c_137 => ?_) (fun c_137 => by omega)
      refine r_iconst 88 rfl ?_
      refine r_istore 89 rfl (Nat.le_of_ble_eq_true rfl) ?_
      refine r_iload 90 rfl rfl ?_
      refine r_if_eq (t := 183) 91 rfl (by decide) (by first | exact hA _ _ | exact ⟨by decide, by decide⟩ | assumption | exact ⟨by omega, by omega⟩) (fun c_149 => ?_) (fun c_149 => by omega)
      refine r_iconst 107 rfl ?_
      refine r_istore 108 rfl (Nat.le_of_ble_eq_true rfl) ?_
      refine r_iconst 109 rfl ?_
      refine r_istore 110 rfl (Nat.le_of_ble_eq_true rfl) ?_
      exact other
end TW42


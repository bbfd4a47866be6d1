/-! the class: choice, whole -/
section XL76
variable {K : xk} {R : Nat → Int → Value} {cx : Int → Int} {len : Int}
theorem xl_msg (hx : ∀ i, len ≤ i → cx i = -1) (f : Nat) (ihB : okXC K R cx len f) {env : List Int} {p k : Int} {A : Nat → Int → Int} {g : Nat → Nat × List Value} {t u D : Nat} {Q : Outcome → xh → Prop} (hP : xP K A cx len env p k t u) (hel : (env.length : Int) + 1 ≤ k) (hc : 97 ≤ cx p ∧ cx p ≤ 100) (hfu : len - p < f + 1) (hD : 2 * f + 13 ≤ D)
    (rs : Int ⊕ (Tr × Int × Int)) (hrs : rs = if cx (p + 1) ≠ 33 ∧ cx (p + 1) ≠ 63 then .inl (p + 1) else if cx (p + 2) ≠ 123 then .inl (p + 2)
         else match pr cx true f true (3 :: env) (p + 3) k (fun _ => false) with
          | .inl e => .inl e
          | .inr (bs, p', k') => .inr (.branch (3 + (cx p - 97) + 4 * (if cx (p + 1) = 33 then 0 else 1)).toNat bs (.leaf 0), p', k'))
    (herr : ∀ e a A' g' t' u', rs = .inl e → xE K g t t A p e a A' g' t' u' → Q (.threw a) (hp K.n A' R g' t' u'))
    (hok : ∀ τ p' k' a A' g' t' u', rs = .inr (τ, p', k') → xS K g t t A p p' k' A' g' t' u' → (lR g' t t' τ).1 a → Q (.returned (some (.ref a))) (hp K.n A' R g' t' u')) : mx K M_X_choice D [.ref (xa K.n 1)] (hp K.n A R g t u) Q := by
  obtain ⟨d, rfl⟩ : ∃ d, D = d + 13 := ⟨D - 13, by omega⟩
  subst hrs
  have hB := hP.1
  have hA := hB.1
  obtain ⟨hb0, hb1, hb2⟩ := hP.2.2.2.2.2.2
  have hpp := hP.2.2.2.1
  have hk30 := hP.2.2.2.2.1
  have here := xP_h hx hP
  have e0 : xHere A = cx p := by omega
  obtain ⟨hP1, f1, r1⟩ := xP_adv hP (by omega)
  have here1 := xP_h hx hP1
  have rh1 := rg_xHere hP1.1
  obtain ⟨pn, hpn⟩ : ∃ pn : Int, pn = cx p - 97 := ⟨_, rfl⟩
  have eF : xHere A - 97 = pn := by omega
  refine mx_in ok_X_choice rfl (Nat.le_of_ble_eq_true rfl) ?_
  by_cases c1 : cx (p + 1) ≠ 33 ∧ cx (p + 1) ≠ 63
  · rw [if_pos c1] at herr
    have fin := herr (p + 1) t (xAdv A) _ _ _ rfl (xE_mk (g1 := g) (u1 := u) hP1 f1 (fun _ _ _ => rfl) (Nat.le_refl _) (by omega))
    refine r_aload_n 0 rfl rfl ?_
    refine r_bipush 1 rfl rfl ?_
    refine r_bipush 2 rfl rfl ?_
    refine r_callv2 3 rfl l_X_58 (hp_at rfl) (Nat.le_of_ble_eq_true rfl) ?_
    refine c_R_take hB ⟨by decide, by decide⟩ ⟨by decide, by decide⟩ (xP_bud hP) (fun h => absurd h (by omega)) (fun h1 h2 => cp1 ?_)
    refine r_istore_n 4 rfl (Nat.le_of_ble_eq_true rfl) ?_
    refine r_aload_n 5 rfl rfl ?_
    refine r_callv0 6 rfl l_X_92 (hp_at rfl) (Nat.le_of_ble_eq_true rfl) ?_
    refine c_R_here hP1.1 (cp1 ?_)
    refine r_bipush 7 rfl rfl ?_
    refine r_icmp_ne (t := 22) 8 rfl (by decide) (by first | exact hA _ _ | exact ⟨by decide, by decide⟩ | assumption | exact ⟨by omega, by omega⟩) (by first | exact hA _ _ | exact ⟨by decide, by decide⟩ | assumption | exact ⟨by omega, by omega⟩) (fun c_15 => ?_) (fun c_15 => by omega)
    refine r_iconst 11 rfl ?_
    refine r_istore_n 12 rfl (Nat.le_of_ble_eq_true rfl) ?_
    refine r_aload_n 13 rfl rfl ?_
    refine r_iload_n 14 rfl rfl ?_
    refine r_if_eq (t := 34) 15 rfl (by decide) (by first | exact hA _ _ | exact ⟨by decide, by decide⟩ | assumption | exact ⟨by omega, by omega⟩) (fun c_26 => ?_) (fun c_26 => by omega)
    refine r_bipush 18 rfl rfl ?_
    refine r_callv1 19 rfl l_X_21 (hp_at rfl) (Nat.le_of_ble_eq_true rfl) ?_
    refine c_R_sign hP1.1 ⟨by decide, by decide⟩ (xP_bud hP1) (fun _ => cpt rfl fin) (fun h => absurd h (by omega))
  rw [if_neg c1] at herr hok
  have e1 : xHere (xAdv A) = cx (p + 1) := by omega
  obtain ⟨hP2, f2, r2⟩ := xP_adv hP1 (by omega)
  rw [show p + 1 + 1 = p + 2 by omega] at hP2
  have here2 := xP_h hx hP2
  generalize hA2 : xAdv (xAdv A) = A2 at hP2 f2 r2 here2
  have f02 : frX A A2 := f1.tr f2
  have r02 : rsX A A2 := r1.tr r2
  obtain ⟨sn, hsn⟩ : ∃ sn : Int, sn = if cx (p + 1) = 33 then 1 else 0 := ⟨_, rfl⟩
  have hsn01 : sn = 0 ∨ sn = 1 := by rw [hsn]; split; exact Or.inr rfl; exact Or.inl rfl
  generalize hg2 : gu (gu g t (11, [iv 0, iv 0, .null, .null])) t (11, [iv sn, iv pn, .null, .null]) = g2
  have g2n : ∀ x, x ≠ t → g2 x = g x := fun x h => by rw [← hg2, gu_n _ _ h, gu_n _ _ h]
  have g2t : g2 t = (11, [iv sn, iv pn, .null, .null]) := by rw [← hg2]; exact gu_s _ _ _
  have hP2' : xP K A2 cx len env (p + 2) k (t + 1) (u + 4) := xP_t hP2 (by omega) (by omega) (ubs hb2 (by decide))
  have head : ∀ (nx : wx K M_X_choice (d + 13) Q 49 [some (.ref (xa K.n 1)), some (iv pn), some (iv sn), some (.ref t), none, none, none, none, none, none] [] (hp K.n A2 R g2 (t + 1) (u + 4))), wx K M_X_choice (d + 13) Q 0 [some (.ref (xa K.n 1)), none, none, none, none, none, none, none, none, none] [] (hp K.n A R g t u) := by
    intro nx
    by_cases c33 : cx (p + 1) = 33
    · rw [if_pos c33] at hsn
      subst hsn
      refine r_aload_n 0 rfl rfl ?_
      refine r_bipush 1 rfl rfl ?_
      refine r_bipush 2 rfl rfl ?_
      refine r_callv2 3 rfl l_X_58 (hp_at rfl) (Nat.le_of_ble_eq_true rfl) ?_
      refine c_R_take hB ⟨by decide, by decide⟩ ⟨by decide, by decide⟩ (xP_bud hP) (fun h => absurd h (by omega)) (fun h1 h2 => cp1 ?_)
      rw [eF]
      refine r_istore_n 4 rfl (Nat.le_of_ble_eq_true rfl) ?_
      refine r_aload_n 5 rfl rfl ?_
      refine r_callv0 6 rfl l_X_92 (hp_at rfl) (Nat.le_of_ble_eq_true rfl) ?_
      refine c_R_here hP1.1 (cp1 ?_)
      refine r_bipush 7 rfl rfl ?_
      refine r_icmp_ne (t := 22) 8 rfl (by decide) (by first | exact hA _ _ | exact ⟨by decide, by decide⟩ | assumption | exact ⟨by omega, by omega⟩) (by first | exact hA _ _ | exact ⟨by decide, by decide⟩ | assumption | exact ⟨by omega, by omega⟩) (fun c_15 => by omega) (fun c_15 => ?_)
      refine r_iconst 9 rfl ?_
      refine r_goto (t := 23) 10 rfl (by decide) ?_
      refine r_istore_n 12 rfl (Nat.le_of_ble_eq_true rfl) ?_
      refine r_aload_n 13 rfl rfl ?_
      refine r_iload_n 14 rfl rfl ?_
      refine r_if_eq (t := 34) 15 rfl (by decide) (by first | exact hA _ _ | exact ⟨by decide, by decide⟩ | assumption | exact ⟨by omega, by omega⟩) (fun c_26 => by omega) (fun c_26 => ?_)
      refine r_bipush 16 rfl rfl ?_
      refine r_goto (t := 36) 17 rfl (by decide) ?_
      refine r_callv1 19 rfl l_X_21 (hp_at rfl) (Nat.le_of_ble_eq_true rfl) ?_
      refine c_R_sign hP1.1 ⟨by decide, by decide⟩ (xP_bud hP1) (fun h => absurd h (by omega)) (fun _ => cp0 ?_)
      rw [hA2]
      refine r_newg (n := 4) 20 rfl n_X_116 df_11 rfl (by omega) (by omega) (by omega) ?_
      refine r_dup 21 rfl rfl ?_
      refine r_iload_n 22 rfl rfl ?_
      refine r_iload_n 23 rfl rfl ?_
      refine r_calli2 24 rfl l_X_118 (Nat.le_of_ble_eq_true rfl) ?_
      refine c_Choice_init hsn01 (by omega) (gu_s _ _ _) (cp0 ?_)
      rw [hg2]
      first | refine r_astore_n 25 rfl (Nat.le_of_ble_eq_true rfl) ?_ | refine r_astore_nN 25 rfl (Nat.le_of_ble_eq_true rfl) ?_
      exact nx
    · rw [if_neg c33] at hsn
      subst hsn
      refine r_aload_n 0 rfl rfl ?_
      refine r_bipush 1 rfl rfl ?_
      refine r_bipush 2 rfl rfl ?_
      refine r_callv2 3 rfl l_X_58 (hp_at rfl) (Nat.le_of_ble_eq_true rfl) ?_
      refine c_R_take hB ⟨by decide, by decide⟩ ⟨by decide, by decide⟩ (xP_bud hP) (fun h => absurd h (by omega)) (fun h1 h2 => cp1 ?_)
      rw [eF]
      refine r_istore_n 4 rfl (Nat.le_of_ble_eq_true rfl) ?_
      refine r_aload_n 5 rfl rfl ?_
      refine r_callv0 6 rfl l_X_92 (hp_at rfl) (Nat.le_of_ble_eq_true rfl) ?_
      refine c_R_here hP1.1 (cp1 ?_)
      refine r_bipush 7 rfl rfl ?_
      refine r_icmp_ne (t := 22) 8 rfl (by decide) (by first | exact hA _ _ | exact ⟨by decide, by decide⟩ | assumption | exact ⟨by omega, by omega⟩) (by first | exact hA _ _ | exact ⟨by decide, by decide⟩ | assumption | exact ⟨by omega, by omega⟩) (fun c_15 => ?_) (fun c_15 => by omega)
      refine r_iconst 11 rfl ?_
      refine r_istore_n 12 rfl (Nat.le_of_ble_eq_true rfl) ?_
      refine r_aload_n 13 rfl rfl ?_
      refine r_iload_n 14 rfl rfl ?_
      refine r_if_eq (t := 34) 15 rfl (by decide) (by first | exact hA _ _ | exact ⟨by decide, by decide⟩ | assumption | exact ⟨by omega, by omega⟩) (fun c_26 => ?_) (fun c_26 => by omega)
      refine r_bipush 18 rfl rfl ?_
      refine r_callv1 19 rfl l_X_21 (hp_at rfl) (Nat.le_of_ble_eq_true rfl) ?_
      refine c_R_sign hP1.1 ⟨by decide, by decide⟩ (xP_bud hP1) (fun h => absurd h (by omega)) (fun _ => cp0 ?_)
      rw [hA2]
      refine r_newg (n := 4) 20 rfl n_X_116 df_11 rfl (by omega) (by omega) (by omega) ?_
      refine r_dup 21 rfl rfl ?_
      refine r_iload_n 22 rfl rfl ?_
      refine r_iload_n 23 rfl rfl ?_
      refine r_calli2 24 rfl l_X_118 (Nat.le_of_ble_eq_true rfl) ?_
      refine c_Choice_init hsn01 (by omega) (gu_s _ _ _) (cp0 ?_)
      rw [hg2]
      first | refine r_astore_n 25 rfl (Nat.le_of_ble_eq_true rfl) ?_ | refine r_astore_nN 25 rfl (Nat.le_of_ble_eq_true rfl) ?_
      exact nx
  refine head ?_
  by_cases c3 : cx (p + 2) ≠ 123
  · rw [if_pos c3] at herr
    have fin := herr (p + 2) (t + 1) A2 _ _ _ rfl (xE_mk (g1 := g2) (u1 := u + 4) hP2' f02 (fun x hx1 hx2 => g2n x hx2) (by omega) (by omega))
    refine r_aload_n 26 rfl rfl ?_
    refine r_bipush 27 rfl rfl ?_
    refine r_callv1 28 rfl l_X_21 (hp_at rfl) (Nat.le_of_ble_eq_true rfl) ?_
    refine c_R_sign hP2'.1 ⟨by decide, by decide⟩ (xP_bud hP2') (fun _ => cpt rfl fin) (fun h => absurd h (by omega))
  rw [if_neg c3] at herr hok
  have e3 : xHere A2 = cx (p + 2) := by omega
  obtain ⟨hP4, f4, r4⟩ := xP_adv hP2' (by omega)
  rw [show p + 2 + 1 = p + 3 by omega] at hP4
  generalize hA4 : xAdv A2 = A4 at hP4 f4 r4
  have f04 : frX A A4 := f02.tr f4
  have r04 : rsX A A4 := r02.tr r4
  have hA4r := hP4.1.1
  have ho4 := hP4.2.2.2.2.2.1
  have h40 := (ho4 0 (by decide) (by decide)).2.1
  have h41 := (ho4 1 (by decide) (by decide)).2.1
  have h42 := (ho4 2 (by decide) (by decide)).2.1
  generalize hA5 : au (au (au A4 4 0 1) 4 1 1) 4 2 1 = A5
  have A5r : ∀ (j : Nat) (i : Int), A5 j i = if j = 4 ∧ i = 2 then 1 else if j = 4 ∧ i = 1 then 1 else if j = 4 ∧ i = 0 then 1 else A4 j i := fun j i => by rw [← hA5, au_ite, au_ite, au_ite]
  have f5 : frX A4 A5 := ⟨fun j i a b => by rw [A5r, if_neg (by omega), if_neg (by omega), if_neg (by omega)], by rw [← hA5]; exact rga_au (rga_au (rga_au hA4r ⟨by decide, by decide⟩) ⟨by decide, by decide⟩) ⟨by decide, by decide⟩⟩
  have hP5 : xP K A5 cx len (3 :: env) (p + 3) k (t + 1) (u + 4) := xP_of hP4 f5 (by rw [A5r, if_neg (by omega), if_neg (by omega), if_neg (by omega)]; exact hP4.2.2.2.1.1) (by omega) hP4.2.2.2.1.2.2 (by rw [A5r, if_neg (by omega), if_neg (by omega), if_neg (by omega)]; exact hP4.2.2.2.2.1.1) (by rw [List.length_cons]; omega) hk30.2.2 (by rw [← hA5]; exact og_msg ho4) (by omega) hP4.2.2.2.2.2.2.2.1 hP4.2.2.2.2.2.2.2.2
  have nx : ∀ w : Nat, w < 8 → (w : Int) = A4 4 0 + 2 * A4 4 1 + 4 * A4 4 2 → wx K M_X_choice (d + 13) Q 70 [some (.ref (xa K.n 1)), some (iv pn), some (iv sn), some (.ref t), some (iv w), some (iv (0 : Nat)), some (iv 1), some (iv (pop6 0)), none, none] [] (hp K.n A5 R g2 (t + 1) (u + 4)) := by
    intro w w8 hw
    obtain ⟨w0, w1, w2⟩ := un_4 h40 h41 h42 hw
    refine ihB env (p + 3) k (fun _ => false) A5 g2 (t + 1) (u + 4) (d + 13) Q 0 t t pn sn w (iv sn) (iv pn) .null .null (fun v => (12, [v])) hP5 (by omega) (by omega) ⟨by decide, fun x hx6 => by simp⟩ (by omega) (by omega) (by omega) (by omega) ⟨g2t, Or.inl ⟨rfl, rfl, rfl⟩⟩ (fun e a A' g' t' u' hpr hE => ?_) (fun bs p' k' v A' g' t' u' hpr hS hcF hR => ?_)
    · rw [hpr] at herr
      obtain ⟨q1, q2, q3, q4, q5, q6, q7⟩ := hE
      exact herr e a A' g' t' u' rfl ⟨(f04.tr f5).tr q1, q2, fun x hx1 hx2 => by rw [q3 x (by omega) hx2 hx2]; exact g2n x hx2, q4, by omega, by omega, q7⟩
    · rw [hpr] at hok
      obtain ⟨q1, q2, q3, q4, q5, q6, q7, q8⟩ := hS
      obtain ⟨lw, hgt, -⟩ := hcF
      have hgt := hgt rfl
      have hA' := q1.2
      obtain ⟨kk, hkk⟩ : ∃ kk : Nat, kk = (3 + (cx p - 97) + 4 * (if cx (p + 1) = 33 then 0 else 1)).toNat := ⟨_, rfl⟩
      have hkk2 : (kk : Int) = 3 + pn + 4 * (1 - sn) := by rw [hkk, hsn]; split <;> omega
      generalize hA6 : au (au (au A' 4 0 ((w % 2 : Nat) : Int)) 4 1 ((w / 2 % 2 : Nat) : Int)) 4 2 ((w / 4 % 2 : Nat) : Int) = A6
      have A6r : ∀ (j : Nat) (i : Int), A6 j i = if j = 4 ∧ i = 2 then A4 4 2 else if j = 4 ∧ i = 1 then A4 4 1 else if j = 4 ∧ i = 0 then A4 4 0 else A' j i := fun j i => by rw [← hA6, au_ite, au_ite, au_ite, w0, w1, w2]
      have f6 : frX A' A6 := ⟨fun j i a b => by rw [A6r, if_neg (by omega), if_neg (by omega), if_neg (by omega)], by rw [← hA6]; exact rga_au (rga_au (rga_au hA' ⟨by omega, by omega⟩) ⟨by omega, by omega⟩) ⟨by omega, by omega⟩⟩
      have r6 : rsX A A6 := fun v v0 v1 => by
        obtain ⟨x1, x2⟩ := r04 v v0 v1
        refine ⟨?_, ?_⟩
        · rw [A6r, if_neg (by omega), if_neg (by omega), if_neg (by omega), (q2 v v0 v1).1, A5r, if_neg (by omega), if_neg (by omega), if_neg (by omega)]; exact x1
        · rw [← x2, A6r]
          have hv3 : v = 0 ∨ v = 1 ∨ v = 2 := by omega
          rcases hv3 with rfl | rfl | rfl <;> simp
      have fin := hok (.branch kk bs (.leaf 0)) p' k' t A6 g' t' u' (by rw [hkk]) ⟨((f04.tr f5).tr q1).tr f6, r6, by rw [A6r, if_neg (by omega), if_neg (by omega), if_neg (by omega)]; exact q3, by rw [A6r, if_neg (by omega), if_neg (by omega), if_neg (by omega)]; exact q4, fun x hx1 hx2 => by rw [q5 x (by omega) hx2 hx2]; exact g2n x hx2, by omega, by omega, q8⟩ (by
        rw [lR_br, if_neg (by omega)]
        refine ⟨⟨Nat.le_refl t, by omega⟩, v, lw, ?_, (lR_fr (fun _ _ _ => rfl) (by omega) (Nat.le_refl _) bs).2 v hR⟩
        rw [hgt, show pn = (((kk - 3) % 4 : Nat) : Int) by omega]
        by_cases e7 : kk < 7
        · rw [if_pos e7, show sn = 1 by omega]
        · rw [if_neg e7, show sn = 0 by omega])
      refine r_aload_n 83 rfl rfl ?_
      refine r_iload 84 rfl rfl ?_
      refine r_callv1 85 rfl l_X_95 (hp_at rfl) (Nat.le_of_ble_eq_true rfl) ?_
      refine c_R_unguard hA' w8 (cp0 ?_)
      rw [hA6]
      first | refine r_aload_n 86 rfl rfl ?_ | refine r_aload_nN 86 rfl rfl ?_
      refine r_aret 87 rfl rfl (by first | exact Or.inl rfl | exact Or.inr ⟨_, rfl⟩) ?_
      exact fin
  refine r_aload_n 26 rfl rfl ?_
  refine r_bipush 27 rfl rfl ?_
  refine r_callv1 28 rfl l_X_21 (hp_at rfl) (Nat.le_of_ble_eq_true rfl) ?_
  refine c_R_sign hP2'.1 ⟨by decide, by decide⟩ (xP_bud hP2') (fun h => absurd h (by omega)) (fun _ => cp0 ?_)
  rw [hA4]
  refine r_aload_n 29 rfl rfl ?_
  refine r_callv0 30 rfl l_X_71 (hp_at rfl) (Nat.le_of_ble_eq_true rfl) ?_
  refine c_R_guard hA4r (fun v v0 v1 => (ho4 v v0 v1).2.1) (fun w w8 hw => cp1 ?_)
  rw [hA5]
  refine r_istore 31 rfl (Nat.le_of_ble_eq_true rfl) ?_
  refine r_iconst 32 rfl ?_
  refine r_istore 33 rfl (Nat.le_of_ble_eq_true rfl) ?_
  refine r_iconst 34 rfl ?_
  refine r_istore 35 rfl (Nat.le_of_ble_eq_true rfl) ?_
  refine r_iconst 36 rfl ?_
  refine r_istore 37 rfl (Nat.le_of_ble_eq_true rfl) ?_
  exact nx w w8 hw
end XL76


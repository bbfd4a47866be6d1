/-! the class: local -/
section XL77
variable {K : xk} {R : Nat → Int → Value} {cx : Int → Int} {len : Int}
theorem xl_step (hx : ∀ i, len ≤ i → cx i = -1) (f : Nat) (ihT : okXL K R cx len f) (ihB : okXC K R cx len f) : okXL K R cx len (f + 1) := by
  intro env p k bef A g t u D Q hP hfu hD herr hok
  obtain ⟨d, rfl⟩ : ∃ d, D = d + 14 := ⟨D - 14, by omega⟩
  have hB := hP.1
  have hA := hB.1
  obtain ⟨hb0, hb1, hb2⟩ := hP.2.2.2.2.2.2
  have hpp := hP.2.2.2.1
  have hkk := hP.2.2.2.2.1
  have ho := hP.2.2.2.2.2.1
  have here := xP_h hx hP
  have k0 : 0 ≤ A 1 3 := by omega
  have k1 : A 1 3 ≤ 30 := by omega
  have now := xE_mk (p := p) (g := g) (g1 := g) (u1 := u) (ha := t) hP (frX.rf hA) (fun _ _ _ => rfl) (Nat.le_refl t) (by omega)
  rw [pr_T] at herr hok
  refine mx_in ok_X_local rfl (Nat.le_of_ble_eq_true rfl) ?_
  by_cases c30 : k = 30
  · rw [if_pos c30] at herr
    have fin := herr p t A _ _ _ rfl now
    refine r_aload_n 0 rfl rfl ?_
    refine r_callv0 1 rfl l_X_15 (hp_at rfl) (Nat.le_of_ble_eq_true rfl) ?_
    refine c_R_kind hB k0 k1 (xP_bud hP) (fun _ => cpt rfl fin) (fun h1 h2 h3 => absurd c30 (by omega))
  rw [if_neg c30] at herr hok
  obtain ⟨hP1, f1, r1⟩ := xKt_P hP c30
  have here1 := xP_h hx hP1
  have hA1 := hP1.1.1
  by_cases c101 : cx p = 101
  · rw [if_pos c101] at hok
    have e0 : xHere A = 101 := by omega
    have eK : xKd (xHere A) = 0 := by unfold xKd; rw [if_pos e0]
    have e1 : xHere (xKt A) = 101 := by omega
    obtain ⟨hP2, f2, r2⟩ := xP_adv hP1 (by omega)
    have fin := hok (.leaf 0) (p + 1) (k + 1) t (xAdv (xKt A)) (gu g t (8, [])) (t + 1) (u + 0) rfl ⟨f1.tr f2, r1.tr r2, hP2.2.2.2.1.1, hP2.2.2.2.2.1.1, fun x _ h => gu_n g _ h, by omega, by omega, ubs hb2 (by decide)⟩ ⟨⟨Nat.le_refl t, by omega⟩, gu_s _ _ _⟩
    refine r_aload_n 0 rfl rfl ?_
    refine r_callv0 1 rfl l_X_15 (hp_at rfl) (Nat.le_of_ble_eq_true rfl) ?_
    refine c_R_kind hB k0 k1 (xP_bud hP) (fun h => absurd h (by rw [eK]; omega)) (fun h1 h2 h3 => cp1 ?_)
    rw [eK]
    refine r_tableIn (t := 32) 2 rfl ⟨by decide, by decide⟩ (by decide) (by decide) rfl (by decide) ?_
    refine r_aload_n 3 rfl rfl ?_
    refine r_bipush 4 rfl rfl ?_
    refine r_callv1 5 rfl l_X_21 (hp_at rfl) (Nat.le_of_ble_eq_true rfl) ?_
    refine c_R_sign hP1.1 ⟨by decide, by decide⟩ (xP_bud hP1) (fun h => absurd e1 h) (fun _ => cp0 ?_)
    refine r_newg (n := 0) 6 rfl n_X_98 df_8 rfl (by omega) (by omega) (by omega) ?_
    refine r_dup 7 rfl rfl ?_
    refine r_calli0 8 rfl l_X_100 (Nat.le_of_ble_eq_true rfl) ?_
    refine c_End_init (by omega) (gu_s _ _ _) (cp0 ?_)
    refine r_aret 9 rfl rfl (by first | exact Or.inl rfl | exact Or.inr ⟨_, rfl⟩) ?_
    exact fin
  rw [if_neg c101] at herr hok
  by_cases c109 : cx p = 109
  · rw [if_pos c109] at herr hok
    have e0 : xHere A = 109 := by omega
    have eK : xKd (xHere A) = 2 := by unfold xKd; rw [if_neg (by omega), if_neg (by omega), if_pos e0]
    have e1 : xHere (xKt A) = 109 := by omega
    obtain ⟨hP2, f2, r2⟩ := xP_adv hP1 (by omega)
    have here2 := xP_h hx hP2
    generalize hA2 : xAdv (xKt A) = A2 at hP2 f2 r2 here2
    have f02 : frX A A2 := f1.tr f2
    have r02 : rsX A A2 := r1.tr r2
    have go58 : ∀ nx : wx K M_X_local (d + 14) Q 64 [some (.ref (xa K.n 1)), none, none, none] [] (hp K.n A2 R g t u), wx K M_X_local (d + 14) Q 0 [some (.ref (xa K.n 1)), none, none, none] [] (hp K.n A R g t u) := by
      intro nx
      refine r_aload_n 0 rfl rfl ?_
      refine r_callv0 1 rfl l_X_15 (hp_at rfl) (Nat.le_of_ble_eq_true rfl) ?_
      refine c_R_kind hB k0 k1 (xP_bud hP) (fun h => absurd h (by rw [eK]; omega)) (fun h1 h2 h3 => cp1 ?_)
      rw [eK]
      refine r_tableIn (t := 58) 2 rfl ⟨by decide, by decide⟩ (by decide) (by decide) rfl (by decide) ?_
      refine r_aload_n 16 rfl rfl ?_
      refine r_bipush 17 rfl rfl ?_
      refine r_callv1 18 rfl l_X_21 (hp_at rfl) (Nat.le_of_ble_eq_true rfl) ?_
      refine c_R_sign hP1.1 ⟨by decide, by decide⟩ (xP_bud hP1) (fun h => absurd e1 h) (fun _ => cp0 ?_)
      rw [hA2]
      exact nx
    refine go58 ?_
    by_cases c2 : cx (p + 1) < 88 ∨ 90 < cx (p + 1)
    · rw [if_pos c2] at herr
      have fin := herr (p + 1) t A2 _ _ _ rfl (xE_mk (g1 := g) (u1 := u) hP2 f02 (fun _ _ _ => rfl) (Nat.le_refl _) (by omega))
      refine r_aload_n 19 rfl rfl ?_
      refine r_callv0 20 rfl l_X_30 (hp_at rfl) (Nat.le_of_ble_eq_true rfl) ?_
      refine c_R_variable hP2.1 (xP_bud hP2) (fun _ => cpt rfl fin) (fun h1 h2 => absurd c2 (by omega))
    rw [if_neg c2] at herr hok
    have e2 : xHere A2 = cx (p + 1) := by omega
    obtain ⟨hP3, f3, r3⟩ := xP_adv hP2 (by omega)
    rw [show p + 1 + 1 = p + 2 by omega] at hP3
    have here3 := xP_h hx hP3
    obtain ⟨v, hv⟩ : ∃ v : Int, v = cx (p + 1) - 88 := ⟨_, rfl⟩
    have eV : xHere A2 - 88 = v := by omega
    by_cases c3 : cx (p + 2) ≠ 46
    · rw [if_pos c3] at herr
      have fin := herr (p + 2) t (xAdv A2) _ _ _ rfl (xE_mk (g1 := g) (u1 := u) hP3 (f02.tr f3) (fun _ _ _ => rfl) (Nat.le_refl _) (by omega))
      refine r_aload_n 19 rfl rfl ?_
      refine r_callv0 20 rfl l_X_30 (hp_at rfl) (Nat.le_of_ble_eq_true rfl) ?_
      refine c_R_variable hP2.1 (xP_bud hP2) (fun h => absurd h (by omega)) (fun h1 h2 => cp1 ?_)
      refine r_istore_n 21 rfl (Nat.le_of_ble_eq_true rfl) ?_
      refine r_aload_n 22 rfl rfl ?_
      refine r_bipush 23 rfl rfl ?_
      refine r_callv1 24 rfl l_X_21 (hp_at rfl) (Nat.le_of_ble_eq_true rfl) ?_
      refine c_R_sign hP3.1 ⟨by decide, by decide⟩ (xP_bud hP3) (fun _ => cpt rfl fin) (fun h => absurd h (by omega))
    rw [if_neg c3] at herr hok
    have e3 : xHere (xAdv A2) = 46 := by omega
    obtain ⟨hP4, f4, r4⟩ := xP_adv hP3 (by omega)
    rw [show p + 2 + 1 = p + 3 by omega] at hP4
    generalize hA4 : xAdv (xAdv A2) = A4 at hP4 f4 r4
    have f04 : frX A A4 := (f02.tr f3).tr f4
    have r04 : rsX A A4 := (r02.tr r3).tr r4
    have hA4r := hP4.1.1
    have ho4 := hP4.2.2.2.2.2.1
    obtain ⟨v3, v4, v5⟩ := ho4 v (by omega) (by omega)
    have hcnt : env.count v ≤ env.length := List.count_le_length
    generalize hA5 : au (au A4 3 v (A4 3 v + 1)) 4 v 0 = A5
    have A5r : ∀ (j : Nat) (i : Int), A5 j i = if j = 4 ∧ i = v then 0 else if j = 3 ∧ i = v then A4 3 v + 1 else A4 j i := fun j i => by rw [← hA5, au_ite, au_ite]
    have f5 : frX A4 A5 := ⟨fun j i a b => by rw [A5r, if_neg (by omega), if_neg (by omega)], by rw [← hA5]; exact rga_au (rga_au hA4r ⟨by omega, by omega⟩) rg_0⟩
    have hP5 : xP K A5 cx len (v :: env) (p + 3) (k + 1) t u := xP_of hP4 f5 (by rw [A5r, if_neg (by omega), if_neg (by omega)]; exact hP4.2.2.2.1.1) (by omega) hP4.2.2.2.1.2.2 (by rw [A5r, if_neg (by omega), if_neg (by omega)]; exact hP4.2.2.2.2.1.1) (by rw [List.length_cons]; omega) hP4.2.2.2.2.1.2.2 (by rw [← hA5]; exact og_loop ho4 (by omega) (by omega)) hb0 hP4.2.2.2.2.2.2.2.1 hb2
    have recu : ∀ Q', mx K M_X_local (d + 13) [.ref (xa K.n 1)] (hp K.n A5 R g t u) Q' → (∀ o h', Q' o h' → cpost K M_X_local (d + 14) Q 82 [some (.ref (xa K.n 1)), some (iv v), some (iv (A4 4 v)), none] [] o h') → wx K M_X_local (d + 14) Q 64 [some (.ref (xa K.n 1)), none, none, none] [] (hp K.n A2 R g t u) := by
      intro Q' hm hpost
      refine r_aload_n 19 rfl rfl ?_
      refine r_callv0 20 rfl l_X_30 (hp_at rfl) (Nat.le_of_ble_eq_true rfl) ?_
      refine c_R_variable hP2.1 (xP_bud hP2) (fun h => absurd h (by omega)) (fun h1 h2 => cp1 ?_)
      rw [eV]
      refine r_istore_n 21 rfl (Nat.le_of_ble_eq_true rfl) ?_
      refine r_aload_n 22 rfl rfl ?_
      refine r_bipush 23 rfl rfl ?_
      refine r_callv1 24 rfl l_X_21 (hp_at rfl) (Nat.le_of_ble_eq_true rfl) ?_
      refine c_R_sign hP3.1 ⟨by decide, by decide⟩ (xP_bud hP3) (fun h => absurd e3 h) (fun _ => cp0 ?_)
      rw [hA4]
      refine r_aload_n 25 rfl rfl ?_
      refine r_iload_n 26 rfl rfl ?_
      refine r_callv1 27 rfl l_X_36 (hp_at rfl) (Nat.le_of_ble_eq_true rfl) ?_
      refine c_R_enter hA4r (by omega) (by omega) (by omega) v4 (cp1 ?_)
      rw [hA5]
      refine r_istore_n 28 rfl (Nat.le_of_ble_eq_true rfl) ?_
      refine r_aload_n 29 rfl rfl ?_
      refine r_calls1 30 rfl l_X_104 (Nat.le_of_ble_eq_true rfl) ?_
      refine mx_mono hm hpost
    refine recu _ (ihT (v :: env) (p + 3) (k + 1) (fun _ => false) A5 g t u (d + 13) (cpost K M_X_local (d + 14) Q 82 [some (.ref (xa K.n 1)), some (iv v), some (iv (A4 4 v)), none] []) hP5 (by omega) (by omega) (fun e a A' g' t' u' hpr hE => ?_) (fun τ p' k' a A' g' t' u' hpr hS hR => ?_)) (fun _ _ h => h)
    · rw [hv] at hpr
      rw [hpr] at herr
      obtain ⟨q1, q2, q3, q4, q5, q6, q7⟩ := hE
      exact cpt rfl (herr e a A' g' t' u' rfl ⟨(f04.tr f5).tr q1, q2, q3, q4, q5, by omega, q7⟩)
    · have hp1 := (pr_le cx true len hx f _ _ _ _).1 _ _ _ hpr
      rw [hv] at hpr
      rw [hpr] at hok
      obtain ⟨q1, q2, q3, q4, q5, q6, q7, q8⟩ := hS
      have hA' := q1.2
      have hai := lR_in τ hR
      have a3 : A' 3 v = A4 3 v + 1 := by rw [(q2 v (by omega) (by omega)).1, A5r, if_neg (by omega), if_pos ⟨rfl, rfl⟩]
      generalize hA6 : au (au A' 3 v (A' 3 v - 1)) 4 v (A4 4 v) = A6
      have A6r : ∀ (j : Nat) (i : Int), A6 j i = if j = 4 ∧ i = v then A4 4 v else if j = 3 ∧ i = v then A4 3 v else A' j i := fun j i => by rw [← hA6, au_ite, au_ite, a3, show A4 3 v + 1 - 1 = A4 3 v by omega]
      have f6 : frX A' A6 := ⟨fun j i a b => by rw [A6r, if_neg (by omega), if_neg (by omega)], by rw [← hA6]; exact rga_au (rga_au hA' ⟨by omega, by omega⟩) (hA4r _ _)⟩
      have r6 : rsX A A6 := fun w w0 w1 => by
        obtain ⟨x1, x2⟩ := r04 w w0 w1
        obtain ⟨y1, y2⟩ := q2 w w0 w1
        by_cases e : w = v
        · subst e
          exact ⟨by rw [A6r, if_neg (by omega), if_pos ⟨rfl, rfl⟩]; exact x1, by rw [A6r, if_pos ⟨rfl, rfl⟩]; exact x2⟩
        · exact ⟨by rw [A6r, if_neg (by omega), if_neg (by omega), y1, A5r, if_neg (by omega), if_neg (by omega)]; exact x1, by rw [A6r, if_neg (by omega), if_neg (by omega), y2, A5r, if_neg (by omega), if_neg (by omega)]; exact x2⟩
      have hb1' := hP5.2.2.2.2.2.2.2.1
      generalize hg2 : gu (gu g' t' (10, [iv 0, .null])) t' (10, [iv v, .ref a]) = g2
      have g2n : ∀ x, x ≠ t' → g2 x = g' x := fun x h => by rw [← hg2, gu_n _ _ h, gu_n _ _ h]
      have g2t : g2 t' = (10, [iv v, .ref a]) := by rw [← hg2]; exact gu_s _ _ _
      have hkv : ((cx (p + 1) - 88).toNat : Int) = v := by omega
      have fin := hok (.branch (cx (p + 1) - 88).toNat τ (.leaf 0)) p' k' t' A6 g2 (t' + 1) (u' + 2) rfl ⟨((f04.tr f5).tr q1).tr f6, r6, by rw [A6r, if_neg (by omega), if_neg (by omega)]; exact q3, by rw [A6r, if_neg (by omega), if_neg (by omega)]; exact q4, fun x hx1 hx2 => by rw [g2n x (by omega)]; exact q5 x hx1 hx2, by omega, by omega, ubs q8 (by decide)⟩ (by
        rw [lR_br, if_pos (by omega), hkv]
        exact ⟨⟨by omega, Nat.lt_succ_self _⟩, a, g2t, (lR_fr (fun x _ hx2 => g2n x (by omega)) (Nat.le_refl _) (by omega) τ).1 a hR⟩)
      refine cp1 ?_
      first | refine r_astore_n 31 rfl (Nat.le_of_ble_eq_true rfl) ?_ | refine r_astore_nN 31 rfl (Nat.le_of_ble_eq_true rfl) ?_
      refine r_aload_n 32 rfl rfl ?_
      refine r_iload_n 33 rfl rfl ?_
      refine r_iload_n 34 rfl rfl ?_
      refine r_callv2 35 rfl l_X_46 (hp_at rfl) (Nat.le_of_ble_eq_true rfl) ?_
      refine c_R_leave hA' (by omega) (by omega) v4 (cp0 ?_)
      rw [hA6]
      refine r_newg (n := 2) 36 rfl n_X_108 df_10 rfl (by omega) (by omega) (by omega) ?_
      refine r_dup 37 rfl rfl ?_
      refine r_iload_n 38 rfl rfl ?_
      first | refine r_aload_n 39 rfl rfl ?_ | refine r_aload_nN 39 rfl rfl ?_
      refine r_calli2 40 rfl l_X_110 (Nat.le_of_ble_eq_true rfl) ?_
      refine c_Loop_init (by omega) (gu_s _ _ _) (cp0 ?_)
      rw [hg2]
      refine r_aret 41 rfl rfl (by first | exact Or.inl rfl | exact Or.inr ⟨_, rfl⟩) ?_
      exact fin
  rw [if_neg c109] at herr hok
  by_cases c88 : 88 ≤ cx p ∧ cx p ≤ 90
  · rw [if_pos c88] at herr hok
    have e0 : xHere A = cx p := by omega
    have eK : xKd (xHere A) = 1 := by unfold xKd; rw [if_neg (by omega), if_pos (by omega)]
    have hst := og_stands ho (v := cx p - 88) (by omega) (by omega)
    by_cases c2 : std env (cx p - 88) false = true
    · rw [if_pos c2] at hok
      have hs := hst.mpr c2
      rw [← e0] at hs
      have e1 : xHere (xKt A) = cx p := by omega
      obtain ⟨hP2, f2, r2⟩ := xP_adv hP1 (by omega)
      generalize hg2 : gu (gu g t (9, [iv 0])) t (9, [iv (xHere (xKt A) - 88)]) = g2
      have g2n : ∀ x, x ≠ t → g2 x = g x := fun x h => by rw [← hg2, gu_n _ _ h, gu_n _ _ h]
      have g2t : g2 t = (9, [iv (xHere (xKt A) - 88)]) := by rw [← hg2]; exact gu_s _ _ _
      have fin := hok (.leaf (cx p - 88 + 1).toNat) (p + 1) (k + 1) t (xAdv (xKt A)) g2 (t + 1) (u + 1) rfl ⟨f1.tr f2, r1.tr r2, hP2.2.2.2.1.1, hP2.2.2.2.2.1.1, fun x _ h => g2n x h, by omega, by omega, ubs hb2 (by decide)⟩ ⟨⟨Nat.le_refl t, by omega⟩, by rw [if_neg (by omega), g2t, show (((cx p - 88 + 1).toNat : Nat) : Int) - 1 = xHere (xKt A) - 88 by omega]⟩
      refine r_aload_n 0 rfl rfl ?_
      refine r_callv0 1 rfl l_X_15 (hp_at rfl) (Nat.le_of_ble_eq_true rfl) ?_
      refine c_R_kind hB k0 k1 (xP_bud hP) (fun h => absurd h (by rw [eK]; intro h; rcases h with h | h | h; omega; omega; exact h.2 hs)) (fun h1 h2 h3 => cp1 ?_)
      rw [eK]
      refine r_tableIn (t := 46) 2 rfl ⟨by decide, by decide⟩ (by decide) (by decide) rfl (by decide) ?_
      refine r_newg (n := 1) 10 rfl n_X_101 df_9 rfl (by omega) (by omega) (by omega) ?_
      refine r_dup 11 rfl rfl ?_
      refine r_aload_n 12 rfl rfl ?_
      refine r_callv0 13 rfl l_X_30 (hp_at rfl) (Nat.le_of_ble_eq_true rfl) ?_
      refine c_R_variable hP1.1 ⟨by omega, by omega, ubs hb2 (by decide)⟩ (fun h => absurd h (by omega)) (fun h1 h2 => cp1 ?_)
      refine r_calli1 14 rfl l_X_103 (Nat.le_of_ble_eq_true rfl) ?_
      refine c_Variable_init (by omega) (gu_s _ _ _) (cp0 ?_)
      rw [hg2]
      refine r_aret 15 rfl rfl (by first | exact Or.inl rfl | exact Or.inr ⟨_, rfl⟩) ?_
      exact fin
    · rw [if_neg c2] at herr
      have fin := herr p t A _ _ _ rfl now
      refine r_aload_n 0 rfl rfl ?_
      refine r_callv0 1 rfl l_X_15 (hp_at rfl) (Nat.le_of_ble_eq_true rfl) ?_
      refine c_R_kind hB k0 k1 (xP_bud hP) (fun _ => cpt rfl fin) (fun h1 h2 h3 => absurd (hst.mp (by rw [← e0]; exact h3 eK)) c2)
  rw [if_neg c88] at herr hok
  by_cases c97 : 97 ≤ cx p ∧ cx p ≤ 100
  · rw [if_pos c97, if_pos rfl] at herr hok
    have e0 : xHere A = cx p := by omega
    have eK : xKd (xHere A) = 3 := by unfold xKd; rw [if_neg (by omega), if_neg (by omega), if_neg (by omega), if_pos (by omega)]
    refine r_aload_n 0 rfl rfl ?_
    refine r_callv0 1 rfl l_X_15 (hp_at rfl) (Nat.le_of_ble_eq_true rfl) ?_
    refine c_R_kind hB k0 k1 (xP_bud hP) (fun h => absurd h (by rw [eK]; omega)) (fun h1 h2 h3 => cp1 ?_)
    rw [eK]
    refine r_tableOut (t := 102) 2 rfl ⟨by decide, by decide⟩ (by decide) (by decide) ?_
    refine r_aload_n 42 rfl rfl ?_
    refine r_calls1 43 rfl l_X_113 (Nat.le_of_ble_eq_true rfl) ?_
    refine xl_msg hx f ihB hP1 (by omega) c97 (by omega) (by omega) _ rfl (fun e a A' g' t' u' hpr hE => cpt rfl (herr e a A' g' t' u' hpr ⟨f1.tr hE.1, hE.2⟩)) (fun τ p' k' a A' g' t' u' hpr hS hR => cp1 ?_)
    refine r_aret 44 rfl rfl (by first | exact Or.inl rfl | exact Or.inr ⟨_, rfl⟩) ?_
    exact hok τ p' k' a A' g' t' u' hpr ⟨f1.tr hS.1, r1.tr hS.2.1, hS.2.2⟩ hR
  rw [if_neg c97] at herr
  have fin := herr p t A _ _ _ rfl now
  have eK : xKd (xHere A) = -1 := by unfold xKd; rw [if_neg (by omega), if_neg (by omega), if_neg (by omega), if_neg (by omega)]
  refine r_aload_n 0 rfl rfl ?_
  refine r_callv0 1 rfl l_X_15 (hp_at rfl) (Nat.le_of_ble_eq_true rfl) ?_
  refine c_R_kind hB k0 k1 (xP_bud hP) (fun _ => cpt rfl fin) (fun h1 h2 h3 => absurd h1 (by rw [eK]; decide))
theorem okXL_all (hx : ∀ i, len ≤ i → cx i = -1) : ∀ f : Nat, okXL K R cx len f ∧ okXC K R cx len f
  | 0 => ⟨fun env p k bef A g t u D Q hP hfu => absurd hfu (by have := hP.2.2.2.1; omega), fun env p k bef A g t u D Q z ac hb pn sn was s p2 fv lv bc hP hfu => absurd hfu (by have := hP.2.2.2.1; omega)⟩
  | f + 1 => ⟨xl_step hx f (okXL_all hx f).1 (okXL_all hx f).2, xc_step hx f (okXL_all hx f).1 (okXL_all hx f).2⟩
end XL77


/-! the class: reading a global type, whole -/
section XG73
variable {K : xk} {R : Nat → Int → Value} {cx : Int → Int} {len : Int}
theorem xKt_P {A : Nat → Int → Int} {env : List Int} {p k : Int} {t u : Nat} (h : xP K A cx len env p k t u) (hk : k ≠ 30) : xP K (xKt A) cx len env p (k + 1) t u ∧ frX A (xKt A) ∧ rsX A (xKt A) := by
  have h' := h
  obtain ⟨⟨q1, q2, q3, q4⟩, h1, h4, ⟨h5, h6, h7⟩, ⟨h8, h9, h10⟩, h11, b0, b1, b2⟩ := h'
  have hf : frX A (xKt A) := by unfold xKt; exact frX_sc q1 (Or.inr rfl) ⟨by omega, by omega⟩
  have hs : rsX A (xKt A) := fun v _ _ => by unfold xKt; exact ⟨au_ne _ _ _ _ (by decide), au_ne _ _ _ _ (by decide)⟩
  exact ⟨xP_of h hf (by unfold xKt; rw [au_ni _ _ _ (by decide)]; exact h5) h6 h7 (by unfold xKt; rw [au_same, h8]) (by omega) (by omega) (og_rs hs h11) b0 b1 b2, hf, hs⟩
theorem un_4 {x0 x1 x2 : Int} {w : Nat} (h0 : x0 = 0 ∨ x0 = 1) (h1 : x1 = 0 ∨ x1 = 1) (h2 : x2 = 0 ∨ x2 = 1) (hw : (w : Int) = x0 + 2 * x1 + 4 * x2) : ((w % 2 : Nat) : Int) = x0 ∧ ((w / 2 % 2 : Nat) : Int) = x1 ∧ ((w / 4 % 2 : Nat) : Int) = x2 := by omega
theorem xg_msg (hx : ∀ i, len ≤ i → cx i = -1) (f : Nat) (ihB : okXM K R cx len f) {env : List Int} {p k : Int} {A : Nat → Int → Int} {g : Nat → Nat × List Value} {t u D : Nat} {Q : Outcome → xh → Prop} (hP : xP K A cx len env p k t u) (hel : (env.length : Int) + 1 ≤ k) (hc : 97 ≤ cx p ∧ cx p ≤ 100) (hfu : len - p < f + 1) (hD : 2 * f + 13 ≤ D)
    (rs : Int ⊕ (Tr × Int × Int)) (hrs : rs = if cx (p + 1) ≠ 62 then .inl (p + 1) else if cx (p + 2) = cx p ∨ cx (p + 2) < 97 ∨ 100 < cx (p + 2) then .inl (p + 2) else if cx (p + 3) ≠ 123 then .inl (p + 3)
         else match pr cx false f true (3 :: env) (p + 4) k (fun _ => false) with
          | .inl e => .inl e
          | .inr (bs, p', k') => .inr (.branch (3 + (cx p - 97) + 4 * (cx (p + 2) - 97)).toNat bs (.leaf 0), p', k'))
    (herr : ∀ e a A' g' t' u', rs = .inl e → xE K g t t A p e a A' g' t' u' → Q (.threw a) (hp K.n A' R g' t' u'))
    (hok : ∀ τ p' k' a A' g' t' u', rs = .inr (τ, p', k') → xS K g t t A p p' k' A' g' t' u' → (gR g' t t' τ).1 a → Q (.returned (some (.ref a))) (hp K.n A' R g' t' u')) : mx K M_X_message D [.ref (xa K.n 1)] (hp K.n A R g t u) Q := by
  obtain ⟨d, rfl⟩ : ∃ d, D = d + 13 := ⟨D - 13, by omega⟩
  subst hrs
  have hB := hP.1
  have hA := hB.1
  obtain ⟨hb0, hb1, hb2⟩ := hP.2.2.2.2.2.2
  have hpp := hP.2.2.2.1
  have hk30 := hP.2.2.2.2.1
  have here := xP_h hx hP
  have e0 : xHere A = cx p := by omega
  obtain ⟨hP1, f1, r1⟩ := xP_adv hP (by omega)
  have here1 := xP_h hx hP1
  obtain ⟨fm, hfm⟩ : ∃ fm : Int, fm = cx p - 97 := ⟨_, rfl⟩
  have eF : xHere A - 97 = fm := by omega
  refine mx_in ok_X_message rfl (Nat.le_of_ble_eq_true rfl) ?_
  by_cases c1 : cx (p + 1) ≠ 62
  · rw [if_pos c1] at herr
    have fin := herr (p + 1) t (xAdv A) _ _ _ rfl (xE_mk (g1 := g) (u1 := u) hP1 f1 (fun _ _ _ => rfl) (Nat.le_refl _) (by omega))
    refine r_aload_n 0 rfl rfl ?_
    refine r_bipush 1 rfl rfl ?_
    refine r_bipush 2 rfl rfl ?_
    refine r_callv2 3 rfl l_X_58 (hp_at rfl) (Nat.le_of_ble_eq_true rfl) ?_
    refine c_R_take hB ⟨by decide, by decide⟩ ⟨by decide, by decide⟩ (xP_bud hP) (fun h => absurd h (by omega)) (fun h1 h2 => cp1 ?_)
    refine r_istore_n 4 rfl (Nat.le_of_ble_eq_true rfl) ?_
    refine r_aload_n 5 rfl rfl ?_
    refine r_bipush 6 rfl rfl ?_
    refine r_callv1 7 rfl l_X_21 (hp_at rfl) (Nat.le_of_ble_eq_true rfl) ?_
    refine c_R_sign hP1.1 ⟨by decide, by decide⟩ (xP_bud hP1) (fun _ => cpt rfl fin) (fun h => absurd h (by omega))
  rw [if_neg c1] at herr hok
  have e1 : xHere (xAdv A) = cx (p + 1) := by omega
  obtain ⟨hP2, f2, r2⟩ := xP_adv hP1 (by omega)
  rw [show p + 1 + 1 = p + 2 by omega] at hP2
  have here2 := xP_h hx hP2
  generalize hA2 : xAdv (xAdv A) = A2 at hP2 f2 r2 here2
  have f02 : frX A A2 := f1.tr f2
  have r02 : rsX A A2 := r1.tr r2
  generalize hg1 : gu g t (6, [iv 0, iv 0, .null]) = g1
  have g1n : ∀ x, x ≠ t → g1 x = g x := fun x h => by rw [← hg1]; exact gu_n g _ h
  have g1t : g1 t = (6, [iv 0, iv 0, .null]) := by rw [← hg1]; exact gu_s _ _ _
  have hP2' : xP K A2 cx len env (p + 2) k (t + 1) (u + 3) := xP_t hP2 (by omega) (by omega) (ubs hb2 (by decide))
  by_cases c2 : cx (p + 2) = cx p ∨ cx (p + 2) < 97 ∨ 100 < cx (p + 2)
  · rw [if_pos c2] at herr
    have fin := herr (p + 2) (t + 1) A2 _ _ _ rfl (xE_mk (g1 := g1) (u1 := u + 3) hP2' f02 (fun x hx1 hx2 => g1n x hx2) (by omega) (by omega))
    refine r_aload_n 0 rfl rfl ?_
    refine r_bipush 1 rfl rfl ?_
    refine r_bipush 2 rfl rfl ?_
    refine r_callv2 3 rfl l_X_58 (hp_at rfl) (Nat.le_of_ble_eq_true rfl) ?_
    refine c_R_take hB ⟨by decide, by decide⟩ ⟨by decide, by decide⟩ (xP_bud hP) (fun h => absurd h (by omega)) (fun h1 h2 => cp1 ?_)
    rw [eF]
    refine r_istore_n 4 rfl (Nat.le_of_ble_eq_true rfl) ?_
    refine r_aload_n 5 rfl rfl ?_
    refine r_bipush 6 rfl rfl ?_
    refine r_callv1 7 rfl l_X_21 (hp_at rfl) (Nat.le_of_ble_eq_true rfl) ?_
    refine c_R_sign hP1.1 ⟨by decide, by decide⟩ (xP_bud hP1) (fun h => absurd h (by omega)) (fun _ => cp0 ?_)
    rw [hA2]
    refine r_newg (n := 3) 8 rfl n_X_62 df_6 rfl (by omega) (by omega) (by omega) ?_
    rw [hg1]
    refine r_dup 9 rfl rfl ?_
    refine r_iload_n 10 rfl rfl ?_
    refine r_aload_n 11 rfl rfl ?_
    refine r_iload_n 12 rfl rfl ?_
    refine r_callv1 13 rfl l_X_64 (hp_at rfl) (Nat.le_of_ble_eq_true rfl) ?_
    refine c_R_other hP2'.1 ⟨by omega, by omega⟩ (xP_bud hP2') (fun _ => cpt rfl fin) (fun h1 h2 h3 => absurd c2 (by omega))
  rw [if_neg c2] at herr hok
  have e2 : xHere A2 = cx (p + 2) := by omega
  obtain ⟨to, hto⟩ : ∃ to : Int, to = cx (p + 2) - 97 := ⟨_, rfl⟩
  have eT : xHere A2 - 97 = to := by omega
  obtain ⟨hP3, f3, r3⟩ := xP_adv hP2' (by omega)
  rw [show p + 2 + 1 = p + 3 by omega] at hP3
  have here3 := xP_h hx hP3
  generalize hg2 : gu g1 t (6, [iv fm, iv to, .null]) = g2
  have g2n : ∀ x, x ≠ t → g2 x = g x := fun x h => by rw [← hg2, gu_n g1 _ h]; exact g1n x h
  have g2t : g2 t = (6, [iv fm, iv to, .null]) := by rw [← hg2]; exact gu_s _ _ _
  have head : ∀ (nx : wx K M_X_message (d + 13) Q 29 [some (.ref (xa K.n 1)), some (iv fm), some (.ref t), none, none, none, none, none, none, none, none] [] (hp K.n (xAdv A2) R g2 (t + 1) (u + 3))), wx K M_X_message (d + 13) Q 0 [some (.ref (xa K.n 1)), none, none, none, none, none, none, none, none, none, none] [] (hp K.n A R g t u) := by
    intro nx
    refine r_aload_n 0 rfl rfl ?_
    refine r_bipush 1 rfl rfl ?_
    refine r_bipush 2 rfl rfl ?_
    refine r_callv2 3 rfl l_X_58 (hp_at rfl) (Nat.le_of_ble_eq_true rfl) ?_
    refine c_R_take hB ⟨by decide, by decide⟩ ⟨by decide, by decide⟩ (xP_bud hP) (fun h => absurd h (by omega)) (fun h1 h2 => cp1 ?_)
    rw [eF]
    refine r_istore_n 4 rfl (Nat.le_of_ble_eq_true rfl) ?_
    refine r_aload_n 5 rfl rfl ?_
    refine r_bipush 6 rfl rfl ?_
    refine r_callv1 7 rfl l_X_21 (hp_at rfl) (Nat.le_of_ble_eq_true rfl) ?_
    refine c_R_sign hP1.1 ⟨by decide, by decide⟩ (xP_bud hP1) (fun h => absurd h (by omega)) (fun _ => cp0 ?_)
    rw [hA2]
    refine r_newg (n := 3) 8 rfl n_X_62 df_6 rfl (by omega) (by omega) (by omega) ?_
    rw [hg1]
    refine r_dup 9 rfl rfl ?_
    refine r_iload_n 10 rfl rfl ?_
    refine r_aload_n 11 rfl rfl ?_
    refine r_iload_n 12 rfl rfl ?_
    refine r_callv1 13 rfl l_X_64 (hp_at rfl) (Nat.le_of_ble_eq_true rfl) ?_
    refine c_R_other hP2'.1 ⟨by omega, by omega⟩ (xP_bud hP2') (fun h => absurd h (by omega)) (fun h1 h2 h3 => cp1 ?_)
    rw [eT]
    refine r_calli2 14 rfl l_X_68 (Nat.le_of_ble_eq_true rfl) ?_
    refine c_GlobalMessage_init (by omega) g1t (cp0 ?_)
    rw [hg2]
    first | refine r_astore_n 15 rfl (Nat.le_of_ble_eq_true rfl) ?_ | refine r_astore_nN 15 rfl (Nat.le_of_ble_eq_true rfl) ?_
    exact nx
  refine head ?_
  by_cases c3 : cx (p + 3) ≠ 123
  · rw [if_pos c3] at herr
    have fin := herr (p + 3) (t + 1) (xAdv A2) _ _ _ rfl (xE_mk (g1 := g2) (u1 := u + 3) hP3 (f02.tr f3) (fun x hx1 hx2 => g2n x hx2) (by omega) (by omega))
    refine r_aload_n 16 rfl rfl ?_
    refine r_bipush 17 rfl rfl ?_
    refine r_callv1 18 rfl l_X_21 (hp_at rfl) (Nat.le_of_ble_eq_true rfl) ?_
    refine c_R_sign hP3.1 ⟨by decide, by decide⟩ (xP_bud hP3) (fun _ => cpt rfl fin) (fun h => absurd h (by omega))
  rw [if_neg c3] at herr hok
  have e3 : xHere (xAdv A2) = cx (p + 3) := by omega
  obtain ⟨hP4, f4, r4⟩ := xP_adv hP3 (by omega)
  rw [show p + 3 + 1 = p + 4 by omega] at hP4
  generalize hA4 : xAdv (xAdv A2) = A4 at hP4 f4 r4
  have f04 : frX A A4 := (f02.tr f3).tr f4
  have r04 : rsX A A4 := (r02.tr r3).tr r4
  have hA4r := hP4.1.1
  have ho4 := hP4.2.2.2.2.2.1
  have h40 := (ho4 0 (by decide) (by decide)).2.1
  have h41 := (ho4 1 (by decide) (by decide)).2.1
  have h42 := (ho4 2 (by decide) (by decide)).2.1
  generalize hA5 : au (au (au A4 4 0 1) 4 1 1) 4 2 1 = A5
  have A5r : ∀ (j : Nat) (i : Int), A5 j i = if j = 4 ∧ i = 2 then 1 else if j = 4 ∧ i = 1 then 1 else if j = 4 ∧ i = 0 then 1 else A4 j i := fun j i => by rw [← hA5, au_ite, au_ite, au_ite]
  have f5 : frX A4 A5 := ⟨fun j i a b => by rw [A5r, if_neg (by omega), if_neg (by omega), if_neg (by omega)], by rw [← hA5]; exact rga_au (rga_au (rga_au hA4r ⟨by decide, by decide⟩) ⟨by decide, by decide⟩) ⟨by decide, by decide⟩⟩
  have hP5 : xP K A5 cx len (3 :: env) (p + 4) k (t + 1) (u + 3) := xP_of hP4 f5 (by rw [A5r, if_neg (by omega), if_neg (by omega), if_neg (by omega)]; exact hP4.2.2.2.1.1) (by omega) hP4.2.2.2.1.2.2 (by rw [A5r, if_neg (by omega), if_neg (by omega), if_neg (by omega)]; exact hP4.2.2.2.2.1.1) (by rw [List.length_cons]; omega) hk30.2.2 (by rw [← hA5]; exact og_msg ho4) (by omega) hP4.2.2.2.2.2.2.2.1 hP4.2.2.2.2.2.2.2.2
  -- behind the branches
  have nx : ∀ w : Nat, w < 8 → (w : Int) = A4 4 0 + 2 * A4 4 1 + 4 * A4 4 2 → wx K M_X_message (d + 13) Q 52 [some (.ref (xa K.n 1)), some (iv fm), some (.ref t), some (iv w), some .null, some (iv (0 : Nat)), some (iv 1), some (iv (pop6 0)), none, none, none] [] (hp K.n A5 R g2 (t + 1) (u + 3)) := by
    intro w w8 hw
    obtain ⟨w0, w1, w2⟩ := un_4 h40 h41 h42 hw
    refine ihB env (p + 4) k (fun _ => false) A5 g2 (t + 1) (u + 3) (d + 13) Q 0 t t fm w (fun v => (6, [iv fm, iv to, v])) .null hP5 (by omega) (by omega) ⟨by decide, fun x hx6 => by simp⟩ (by omega) ⟨by omega, by omega, g2t⟩ (Or.inl ⟨rfl, rfl, fm, to, rfl⟩) (fun e a A' g' t' u' hpr hE => ?_) (fun bs p' k' v A' g' t' u' hpr hS hgt hR => ?_)
    · rw [hpr] at herr
      obtain ⟨q1, q2, q3, q4, q5, q6, q7⟩ := hE
      exact herr e a A' g' t' u' rfl ⟨(f04.tr f5).tr q1, q2, fun x hx1 hx2 => by rw [q3 x (by omega) hx2]; exact g2n x hx2, q4, by omega, by omega, q7⟩
    · rw [hpr] at hok
      obtain ⟨q1, q2, q3, q4, q5, q6, q7, q8⟩ := hS
      have hA' := q1.2
      obtain ⟨kk, hkk⟩ : ∃ kk : Nat, kk = (3 + (cx p - 97) + 4 * (cx (p + 2) - 97)).toNat := ⟨_, rfl⟩
      generalize hA6 : au (au (au A' 4 0 ((w % 2 : Nat) : Int)) 4 1 ((w / 2 % 2 : Nat) : Int)) 4 2 ((w / 4 % 2 : Nat) : Int) = A6
      have A6r : ∀ (j : Nat) (i : Int), A6 j i = if j = 4 ∧ i = 2 then A4 4 2 else if j = 4 ∧ i = 1 then A4 4 1 else if j = 4 ∧ i = 0 then A4 4 0 else A' j i := fun j i => by rw [← hA6, au_ite, au_ite, au_ite, w0, w1, w2]
      have f6 : frX A' A6 := ⟨fun j i a b => by rw [A6r, if_neg (by omega), if_neg (by omega), if_neg (by omega)], by rw [← hA6]; exact rga_au (rga_au (rga_au hA' ⟨by omega, by omega⟩) ⟨by omega, by omega⟩) ⟨by omega, by omega⟩⟩
      have r6 : rsX A A6 := fun v v0 v1 => by
        obtain ⟨x1, x2⟩ := r04 v v0 v1
        refine ⟨?_, ?_⟩
        · rw [A6r, if_neg (by omega), if_neg (by omega), if_neg (by omega), (q2 v v0 v1).1, A5r, if_neg (by omega), if_neg (by omega), if_neg (by omega)]; exact x1
        · rw [← x2, A6r]
          have hv3 : v = 0 ∨ v = 1 ∨ v = 2 := by omega
          rcases hv3 with rfl | rfl | rfl <;> simp
      have fin := hok (.branch kk bs (.leaf 0)) p' k' t A6 g' t' u' (by rw [hkk]) ⟨((f04.tr f5).tr q1).tr f6, r6, by rw [A6r, if_neg (by omega), if_neg (by omega), if_neg (by omega)]; exact q3, by rw [A6r, if_neg (by omega), if_neg (by omega), if_neg (by omega)]; exact q4, fun x hx1 hx2 => by rw [q5 x (by omega) hx2]; exact g2n x hx2, by omega, by omega, q8⟩ (by
        rw [gR_br, if_neg (by omega)]
        exact ⟨⟨Nat.le_refl t, by omega⟩, v, by rw [hgt, show fm = (((kk - 3) % 4 : Nat) : Int) by omega, show to = (((kk - 3) / 4 : Nat) : Int) by omega], (gR_fr (fun _ _ _ => rfl) (by omega) (Nat.le_refl _) bs).2 v hR⟩)
      refine r_aload_n 88 rfl rfl ?_
      refine r_iload_n 89 rfl rfl ?_
      refine r_callv1 90 rfl l_X_95 (hp_at rfl) (Nat.le_of_ble_eq_true rfl) ?_
      refine c_R_unguard hA' w8 (cp0 ?_)
      rw [hA6]
      first | refine r_aload_n 91 rfl rfl ?_ | refine r_aload_nN 91 rfl rfl ?_
      refine r_aret 92 rfl rfl (by first | exact Or.inl rfl | exact Or.inr ⟨_, rfl⟩) ?_
      exact fin
  refine r_aload_n 16 rfl rfl ?_
  refine r_bipush 17 rfl rfl ?_
  refine r_callv1 18 rfl l_X_21 (hp_at rfl) (Nat.le_of_ble_eq_true rfl) ?_
  refine c_R_sign hP3.1 ⟨by decide, by decide⟩ (xP_bud hP3) (fun h => absurd h (by omega)) (fun _ => cp0 ?_)
  rw [hA4]
  refine r_aload_n 19 rfl rfl ?_
  refine r_callv0 20 rfl l_X_71 (hp_at rfl) (Nat.le_of_ble_eq_true rfl) ?_
  refine c_R_guard hA4r (fun v v0 v1 => (ho4 v v0 v1).2.1) (fun w w8 hw => cp1 ?_)
  rw [hA5]
  refine r_istore_n 21 rfl (Nat.le_of_ble_eq_true rfl) ?_
  refine r_null 22 rfl ?_
  first | refine r_astore 23 rfl (Nat.le_of_ble_eq_true rfl) ?_ | refine r_astoreN 23 rfl (Nat.le_of_ble_eq_true rfl) ?_
  refine r_iconst 24 rfl ?_
  refine r_istore 25 rfl (Nat.le_of_ble_eq_true rfl) ?_
  refine r_iconst 26 rfl ?_
  refine r_istore 27 rfl (Nat.le_of_ble_eq_true rfl) ?_
  refine r_iconst 28 rfl ?_
  refine r_istore 29 rfl (Nat.le_of_ble_eq_true rfl) ?_
  exact nx w w8 hw
end XG73


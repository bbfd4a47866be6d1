/-! the class: part, whole -/
section XP86
variable {K : xk} {A : Nat → Int → Int} {R : Nat → Int → Value}
theorem xpt_lf {r : Int} (k : Nat) : okPT K A R r (.leaf k) := by
  intro D a lo t1 g t u Q hw hD hlo ht1 hR hb hn hs
  obtain ⟨d, rfl⟩ : ∃ d, D = d + 12 := ⟨D - 12, by omega⟩
  have hai := gR_in _ hR
  obtain ⟨bb0, bb1, bb2⟩ := hb
  rw [gR_lf] at hR
  have h1 : (wP (.leaf k)).1 = 1 := rfl
  unfold sel4
  dsimp only
  by_cases e : k = 0
  · rw [if_pos e]
    have fin := hs (.leaf k) t (gu g t (8, [])) (t + 1) (u + 0) rfl ⟨fun x hx => gu_n g _ (by omega), by omega, by omega, ubs bb2 (by decide)⟩ (by rw [lQ_lf, if_pos e]; exact ⟨⟨Nat.le_refl t, Nat.lt_succ_self t⟩, gu_s _ _ _⟩)
    refine mx_in ok_GlobalEnd_part rfl (Nat.le_of_ble_eq_true rfl) ?_
    refine r_newg (n := 0) 0 rfl n_GlobalEnd_7 df_8 rfl (by omega) (by omega) (by omega) ?_
    refine r_dup 1 rfl rfl ?_
    refine r_calli0 2 rfl l_GlobalEnd_9 (Nat.le_of_ble_eq_true rfl) ?_
    refine c_End_init (by omega) (gu_s _ _ _) (cp0 ?_)
    refine r_aret 3 rfl rfl (by first | exact Or.inl rfl | exact Or.inr ⟨_, rfl⟩) ?_
    exact fin
  · rw [if_neg e] at hR ⊢
    have hga := hR.2
    generalize hg1 : gu g t (9, [iv 0]) = g1
    have g1a : g1 a = (4, [iv ((k : Int) - 1)]) := by rw [← hg1, gu_n _ _ (by omega)]; exact hga
    have g1t : g1 t = (9, [iv 0]) := by rw [← hg1]; exact gu_s _ _ _
    have fin := hs (.leaf k) t (gu g1 t (9, [iv ((k : Int) - 1)])) (t + 1) (u + 1) rfl ⟨fun x hx => by rw [gu_n _ _ (by omega), ← hg1, gu_n _ _ (by omega)], by omega, by omega, ubs bb2 (by decide)⟩ (by rw [lQ_lf, if_neg e]; exact ⟨⟨Nat.le_refl t, Nat.lt_succ_self t⟩, gu_s _ _ _⟩)
    refine mx_in ok_GlobalVariable_part rfl (Nat.le_of_ble_eq_true rfl) ?_
    refine r_newg (n := 1) 0 rfl n_GlobalVariable_13 df_9 rfl (by omega) (by omega) (by omega) ?_
    rw [hg1]
    refine r_dup 1 rfl rfl ?_
    refine r_aload_n 2 rfl rfl ?_
    refine r_getg 3 rfl f_GlobalVariable_7 (by omega) g1a rfl ?_
    refine r_calli1 4 rfl l_GlobalVariable_15 (Nat.le_of_ble_eq_true rfl) ?_
    refine c_Variable_init (by omega) g1t (cp0 ?_)
    refine r_aret 5 rfl rfl (by first | exact Or.inl rfl | exact Or.inr ⟨_, rfl⟩) ?_
    exact fin
theorem xpt_br {r : Int} (hr : rg r) {k : Nat} {l q : Tr} (ihT : okPT K A R r l) (ih1 : okP1 K A R r l) (ih2 : ∀ k' τ' q', l = .branch k' τ' q' → okPT K A R r τ' ∧ okP2 K A R r q') : okPT K A R r (.branch k l q) := by
  intro D a lo t1 g t u Q hw hD hlo ht1 hR hb hn hs
  have hai := gR_in _ hR
  have hR0 := hR
  have hw0 := hw
  have hsz := szT_br k l q
  have hwp : (wP (.branch k l q)).1 = 1 + (if k < 3 then (wP l).1 else (wP l).2.1) := rfl
  obtain ⟨bb0, bb1, bb2⟩ := hb
  rw [gR_br] at hR
  rw [wfT_br] at hw
  rw [pt_br] at hn hs
  have hsel : sel4 (.branch k l q) M_GlobalEnd_part M_GlobalVariable_part M_GlobalLoop_part M_GlobalMessage_part = if k < 3 then M_GlobalLoop_part else M_GlobalMessage_part := rfl
  rw [hsel]
  by_cases h3 : k < 3
  · rw [if_pos h3] at hR hw hsz hwp hn hs ⊢
    obtain ⟨-, c, hga, hRc⟩ := hR
    obtain ⟨d, rfl⟩ : ∃ d, D = d + 12 := ⟨D - 12, by omega⟩
    have hci := gR_in l hRc
    have hN : ∀ Q', Q' (.returned (some (iv (bi (nmP r (.branch k l q)).1)))) (hp K.n A R g t u) → mx K M_GlobalLoop_names (d + 11) [.ref a, iv r] (hp K.n A R g t u) Q' := fun Q' h => by
      have := (xn_all (K := K) (A := A) (R := R) (g := g) (t := t) (u := u) hr hlo (.branch k l q)).1 (d + 11) a Q' hw0 (by omega) hR0 h
      have e : sel4 (.branch k l q) M_GlobalEnd_names M_GlobalVariable_names M_GlobalLoop_names M_GlobalMessage_names = M_GlobalLoop_names := if_pos h3
      rw [e] at this; exact this
    have hL : ∀ Q', Q' (.returned (some (iv (lz (lsP (.branch k l q)).1)))) (hp K.n A R g t u) → mx K M_GlobalLoop_loose (d + 11) [.ref a] (hp K.n A R g t u) Q' := fun Q' h => by
      have := (xl_all (K := K) (A := A) (R := R) (g := g) (t := t) (u := u) hlo (.branch k l q)).1 (d + 11) a Q' hw0 (by omega) hR0 h
      have e : sel4 (.branch k l q) M_GlobalEnd_loose M_GlobalVariable_loose M_GlobalLoop_loose M_GlobalMessage_loose = M_GlobalLoop_loose := if_pos h3
      rw [e] at this; exact this
    have hnb := bi_01 (nmP r (.branch k l q)).1
    have hz0 := lz_0 (lsP (.branch k l q)).1
    have hz8 := lz_lt (lsP (.branch k l q)).1
    have hrb := bi_rg (nmP r (.branch k l q)).1
    -- the part is a loop
    have loop : wx K M_GlobalLoop_part (d + 12) Q 23 [some (.ref a), some (iv r)] [] (hp K.n A R g t u) ∨ ¬ tch r (.branch k l q) = true := by
      by_cases ht : tch r (.branch k l q) = true
      · left
        rw [if_pos ht] at hn hs
        generalize hg1 : gu g t (10, [iv 0, .null]) = g1
        have g1n : ∀ x, x < t → g1 x = g x := fun x h => by rw [← hg1]; exact gu_n g _ (by omega)
        have g1t : g1 t = (10, [iv 0, .null]) := by rw [← hg1]; exact gu_s _ _ _
        have g1a : g1 a = (5, [iv k, .ref c]) := by rw [g1n a (by omega)]; exact hga
        have hRc1 : (gR g1 lo t1 l).1 c := (gR_fr (fun x _ hx => g1n x (by omega)) (Nat.le_refl _) (Nat.le_refl _) l).1 c hRc
        have call : ∀ Q', mx K (sel4 l M_GlobalEnd_part M_GlobalVariable_part M_GlobalLoop_part M_GlobalMessage_part) (d + 11) [.ref c, iv r] (hp K.n A R g1 (t + 1) (u + 2)) Q' → (∀ o h', Q' o h' → cpost K M_GlobalLoop_part (d + 12) Q 36 [some (.ref a), some (iv r)] [iv k, .ref t, .ref t] o h') → wx K M_GlobalLoop_part (d + 12) Q 23 [some (.ref a), some (iv r)] [] (hp K.n A R g t u) := by
          intro Q' hm hpost
          refine r_newg (n := 2) 11 rfl n_GlobalLoop_30 df_10 rfl (by omega) (by omega) (by omega) ?_
          rw [hg1]
          refine r_dup 12 rfl rfl ?_
          refine r_aload_n 13 rfl rfl ?_
          refine r_getg 14 rfl f_GlobalLoop_7 (by omega) g1a rfl ?_
          refine r_aload_n 15 rfl rfl ?_
          refine r_getg 16 rfl f_GlobalLoop_13 (by omega) g1a rfl ?_
          refine r_iload_n 17 rfl rfl ?_
          refine r_callT1 18 rfl ⟨u_GlobalLoop_32_GlobalEnd, u_GlobalLoop_32_GlobalVariable, u_GlobalLoop_32_GlobalLoop, u_GlobalLoop_32_GlobalMessage⟩ (by omega) hRc1 (Nat.le_of_ble_eq_true rfl) ?_
          refine mx_mono hm hpost
        refine call _ (ihT (d + 11) c lo t1 g1 (t + 1) (u + 2) (cpost K M_GlobalLoop_part (d + 12) Q 36 [some (.ref a), some (iv r)] [iv k, .ref t, .ref t]) hw (by omega) hlo (by omega) hRc1 ⟨by omega, by omega, ubs bb2 (by decide)⟩ (fun e g' t' u' q1 q2 => ?_) (fun γ c3 g' t' u' q1 q2 q3 => cp1 ?_)) (fun _ _ h => h)
        · obtain ⟨z1, z2, z3, z4, z5⟩ := q2
          exact cpt rfl (hn e g' t' u' (by rw [q1]; rfl) ⟨fun x hx => by rw [z1 x (by omega)]; exact g1n x hx, z2, by omega, by omega, z5⟩)
        · obtain ⟨z1, z2, z3, z4⟩ := q2
          have g't : g' t = (10, [iv 0, .null]) := by rw [z1 t (by omega)]; exact g1t
          have hc3 := lQ_in γ q3
          have htt : t < t' := by have := hc3.1; have := hc3.2; omega
          have fin := hs (.branch k γ (.leaf 0)) t (gu g' t (10, [iv k, .ref c3])) t' u' (by rw [q1]; rfl) ⟨fun x hx => by rw [gu_n _ _ (by omega), z1 x (by omega)]; exact g1n x hx, by omega, by omega, z4⟩ (by
            rw [lQ_br, if_pos h3]
            refine ⟨⟨Nat.le_refl t, htt⟩, c3, gu_s _ _ _, (lQ_fr (fun x hx => ⟨⟨by have := hx.1; omega, hx.2⟩, gu_n _ _ (by have := hx.1; omega)⟩) γ).1 c3 q3⟩)
          refine r_calli2 19 rfl l_GlobalLoop_36 (Nat.le_of_ble_eq_true rfl) ?_
          refine c_Loop_init (by omega) g't (cp0 ?_)
          refine r_aret 20 rfl rfl (by first | exact Or.inl rfl | exact Or.inr ⟨_, rfl⟩) ?_
          exact fin
      · exact Or.inr ht
    have htd : tch r (.branch k l q) = ((nmP r (.branch k l q)).1 || (lsP (.branch k l q)).1 0 || (lsP (.branch k l q)).1 1 || (lsP (.branch k l q)).1 2) := rfl
    refine mx_in ok_GlobalLoop_part rfl (Nat.le_of_ble_eq_true rfl) ?_
    rcases hnb with ⟨n1, n2⟩ | ⟨n1, n2⟩
    · have ht : tch r (.branch k l q) = true := by rw [htd, n1]; simp
      rcases loop with lp | lp
      · refine r_aload_n 0 rfl rfl ?_
        refine r_iload_n 1 rfl rfl ?_
        refine r_callv1 2 rfl l_GlobalLoop_25 (hpg (by omega) hga) (Nat.le_of_ble_eq_true rfl) ?_
        refine hN _ (cp1 ?_)
        rw [n2]
        refine r_if_ne (t := 23) 3 rfl (by decide) (by first | exact hA _ _ | exact ⟨by decide, by decide⟩ | assumption | exact ⟨by omega, by omega⟩) (fun c_5 => ?_) (fun c_5 => by omega)
        exact lp
      · exact absurd ht lp
    · by_cases hz : lz (lsP (.branch k l q)).1 = 0
      · obtain ⟨l0, l1, l2⟩ := hz0.mp hz
        have ht : ¬ tch r (.branch k l q) = true := by rw [htd, n1, l0, l1, l2]; decide
        rw [if_neg ht] at hs
        have fin := hs (.leaf 0) t (gu g t (8, [])) (t + 1) (u + 0) rfl ⟨fun x hx => gu_n g _ (by omega), by omega, by omega, ubs bb2 (by decide)⟩ ⟨⟨Nat.le_refl t, Nat.lt_succ_self t⟩, gu_s _ _ _⟩
        refine r_aload_n 0 rfl rfl ?_
        refine r_iload_n 1 rfl rfl ?_
        refine r_callv1 2 rfl l_GlobalLoop_25 (hpg (by omega) hga) (Nat.le_of_ble_eq_true rfl) ?_
        refine hN _ (cp1 ?_)
        rw [n2]
        refine r_if_ne (t := 23) 3 rfl (by decide) (by first | exact hA _ _ | exact ⟨by decide, by decide⟩ | assumption | exact ⟨by omega, by omega⟩) (fun c_5 => by omega) (fun c_5 => ?_)
        refine r_aload_n 4 rfl rfl ?_
        refine r_callv0 5 rfl l_GlobalLoop_26 (hpg (by omega) hga) (Nat.le_of_ble_eq_true rfl) ?_
        refine hL _ (cp1 ?_)
        rw [hz]
        refine r_if_ne (t := 23) 6 rfl (by decide) (by first | exact hA _ _ | exact ⟨by decide, by decide⟩ | assumption | exact ⟨by omega, by omega⟩) (fun c_12 => by omega) (fun c_12 => ?_)
        refine r_newg (n := 0) 7 rfl n_GlobalLoop_27 df_8 rfl (by omega) (by omega) (by omega) ?_
        refine r_dup 8 rfl rfl ?_
        refine r_calli0 9 rfl l_GlobalLoop_29 (Nat.le_of_ble_eq_true rfl) ?_
        refine c_End_init (by omega) (gu_s _ _ _) (cp0 ?_)
        refine r_aret 10 rfl rfl (by first | exact Or.inl rfl | exact Or.inr ⟨_, rfl⟩) ?_
        exact fin
      · have ht : tch r (.branch k l q) = true := by
          rw [htd, n1, Bool.false_or]
          cases x0 : (lsP (.branch k l q)).1 0 with
          | true => rfl
          | false =>
            cases x1 : (lsP (.branch k l q)).1 1 with
            | true => rfl
            | false =>
              cases x2 : (lsP (.branch k l q)).1 2 with
              | true => rfl
              | false => exact absurd (hz0.mpr ⟨x0, x1, x2⟩) hz
        rcases loop with lp | lp
        · refine r_aload_n 0 rfl rfl ?_
          refine r_iload_n 1 rfl rfl ?_
          refine r_callv1 2 rfl l_GlobalLoop_25 (hpg (by omega) hga) (Nat.le_of_ble_eq_true rfl) ?_
          refine hN _ (cp1 ?_)
          rw [n2]
          refine r_if_ne (t := 23) 3 rfl (by decide) (by first | exact hA _ _ | exact ⟨by decide, by decide⟩ | assumption | exact ⟨by omega, by omega⟩) (fun c_5 => by omega) (fun c_5 => ?_)
          refine r_aload_n 4 rfl rfl ?_
          refine r_callv0 5 rfl l_GlobalLoop_26 (hpg (by omega) hga) (Nat.le_of_ble_eq_true rfl) ?_
          refine hL _ (cp1 ?_)
          refine r_if_ne (t := 23) 6 rfl (by decide) (by first | exact hA _ _ | exact ⟨by decide, by decide⟩ | assumption | exact ⟨by omega, by omega⟩) (fun c_12 => ?_) (fun c_12 => by omega)
          exact lp
        · exact absurd ht lp
  · rw [if_neg h3] at hR hw hsz hwp hn hs ⊢
    obtain ⟨-, v, hga, hRv⟩ := hR
    obtain ⟨d, rfl⟩ : ∃ d, D = d + 13 := ⟨D - 13, by have := hw.2.2; have := lenB_sz l; omega⟩
    have hF := wP_F l
    have hlen := lenB_le l hw.2.1
    have hvv := gR_v l hRv
    -- a choice
    have mine : ∀ (sA pA : Int) (kk : Nat), 3 ≤ kk → sA = (if kk < 7 then 1 else 0) → pA = ((kk - 3) % 4 : Nat) → (∀ e g' t' u', (pt r l).2.1.map (fun x => (.branch kk x (.leaf 0) : Tr)) = none → mgE K g t (7 * (wP (.branch k l q)).1) e g' t' u' → Q (.threw e) (hp K.n A R g' t' u')) → (∀ σ c g' t' u', (pt r l).2.1.map (fun x => (.branch kk x (.leaf 0) : Tr)) = some σ → mgS K g t (7 * (wP (.branch k l q)).1) g' t' u' → (lQ g' (nw t t') σ).1 c → Q (.returned (some (.ref c))) (hp K.n A R g' t' u')) → wx K M_GlobalMessage_part (d + 13) Q 102 [some (.ref a), some (iv r), none, none] [.ref t] (hp K.n A R (gu (gu g t (11, [iv 0, iv 0, .null, .null])) t (11, [iv sA, iv pA, .null, .null])) (t + 1) (u + 4)) := by
      intro sA pA kk hkk hsA hpA hn hs
      generalize hg2 : gu (gu g t (11, [iv 0, iv 0, .null, .null])) t (11, [iv sA, iv pA, .null, .null]) = g2
      have g2n : ∀ x, x < t → g2 x = g x := fun x h => by rw [← hg2, gu_n _ _ (by omega), gu_n _ _ (by omega)]
      have g2t : g2 t = (11, [iv sA, iv pA, .null, .null]) := by rw [← hg2]; exact gu_s _ _ _
      have g2a : g2 a = (6, [iv ((k - 3) % 4 : Nat), iv ((k - 3) / 4 : Nat), v]) := by rw [g2n a (by omega)]; exact hga
      have n108 := ih1 (d + 13) a t lo t1 (.leaf 0) [t] g2 t (t + 1) (u + 4) (iv sA) (iv pA) v Q hw.2.1 (by omega) hlo ht1 bb0 (by omega) (fun x hx => by rw [List.mem_singleton] at hx; omega) (List.mem_singleton.mpr rfl) ((gR_fr (fun x _ hx => g2n x (by omega)) (Nat.le_refl _) (Nat.le_refl _) l).2 v hRv) (Or.inl ⟨rfl, g2t⟩) ⟨by omega, by omega, ubs bb2 (by decide)⟩ (fun e g' t' u' z1 z2 z3 z4 z5 z6 z7 z8 => hn e g' t' u' (by rw [z1]; rfl) ⟨fun x hx => by rw [z2 x hx]; exact g2n x hx, ⟨z3, z4, z5⟩, by omega, by omega, z8⟩) (fun x g' t' u' S' z1 z2 z3 z4 z5 z6 z7 z8 => hs (.branch kk x (.leaf 0)) t g' t' u' (by rw [z1]; rfl) ⟨fun x hx => by rw [z2 x hx]; exact g2n x hx, by omega, by omega, z5⟩ (by
          obtain ⟨v', z', y1, y2⟩ := bL_lQ (P' := nw t t') (fun y hy => ⟨hy.1, hy.2.1⟩) (fun y hy => z6 y hy) z8
          rw [lQ_br, if_neg (by omega)]
          exact ⟨⟨Nat.le_refl t, by omega⟩, v', z', by rw [y1, hsA, hpA], y2⟩))
      rcases hvv with f | ⟨b', f⟩
      · subst f
        first | refine r_astore_n 52 rfl (Nat.le_of_ble_eq_true rfl) ?_ | refine r_astore_nN 52 rfl (Nat.le_of_ble_eq_true rfl) ?_
        refine r_aload_n 53 rfl rfl ?_
        refine r_getg 54 rfl f_GlobalMessage_16 (by omega) g2a rfl ?_
        first | refine r_astore_n 55 rfl (Nat.le_of_ble_eq_true rfl) ?_ | refine r_astore_nN 55 rfl (Nat.le_of_ble_eq_true rfl) ?_
        exact n108
      · subst f
        first | refine r_astore_n 52 rfl (Nat.le_of_ble_eq_true rfl) ?_ | refine r_astore_nN 52 rfl (Nat.le_of_ble_eq_true rfl) ?_
        refine r_aload_n 53 rfl rfl ?_
        refine r_getg 54 rfl f_GlobalMessage_16 (by omega) g2a rfl ?_
        first | refine r_astore_n 55 rfl (Nat.le_of_ble_eq_true rfl) ?_ | refine r_astore_nN 55 rfl (Nat.le_of_ble_eq_true rfl) ?_
        exact n108
    have gn1 : ∀ x, x < t → gu g t (11, [iv 0, iv 0, .null, .null]) x = g x := fun x h => gu_n _ _ (by omega)
    have hga1 : gu g t (11, [iv 0, iv 0, .null, .null]) a = (6, [iv ((k - 3) % 4 : Nat), iv ((k - 3) / 4 : Nat), v]) := by rw [gn1 a (by omega)]; exact hga
    refine mx_in ok_GlobalMessage_part rfl (Nat.le_of_ble_eq_true rfl) ?_
    by_cases c1 : (((k - 3) % 4 : Nat) : Int) = r
    · rw [if_pos c1] at hn hs
      have n102 := mine 1 ((k - 3) / 4 : Nat) (3 + (k - 3) / 4) (by omega) (by rw [if_pos (by omega)]) (by congr 1; omega) hn hs
      refine r_iload_n 0 rfl rfl ?_
      refine r_aload_n 1 rfl rfl ?_
      refine r_getg 2 rfl f_GlobalMessage_7 (by omega) hga rfl ?_
      refine r_icmp_eq (t := 63) 3 rfl (by decide) (by first | exact hA _ _ | exact ⟨by decide, by decide⟩ | assumption | exact ⟨by omega, by omega⟩) (by first | exact hA _ _ | exact ⟨by decide, by decide⟩ | assumption | exact ⟨by omega, by omega⟩) (fun c_5 => ?_) (fun c_5 => by omega)
      refine r_newg (n := 4) 33 rfl n_GlobalMessage_47 df_11 rfl (by omega) (by omega) (by omega) ?_
      refine r_dup 34 rfl rfl ?_
      refine r_iload_n 35 rfl rfl ?_
      refine r_aload_n 36 rfl rfl ?_
      refine r_getg 37 rfl f_GlobalMessage_7 (by omega) hga1 rfl ?_
      refine r_icmp_ne (t := 79) 38 rfl (by decide) (by first | exact hA _ _ | exact ⟨by decide, by decide⟩ | assumption | exact ⟨by omega, by omega⟩) (by first | exact hA _ _ | exact ⟨by decide, by decide⟩ | assumption | exact ⟨by omega, by omega⟩) (fun c_72 => by omega) (fun c_72 => ?_)
      refine r_iconst 39 rfl ?_
      refine r_goto (t := 80) 40 rfl (by decide) ?_
      refine r_iload_n 42 rfl rfl ?_
      refine r_aload_n 43 rfl rfl ?_
      refine r_getg 44 rfl f_GlobalMessage_7 (by omega) hga1 rfl ?_
      refine r_icmp_ne (t := 95) 45 rfl (by decide) (by first | exact hA _ _ | exact ⟨by decide, by decide⟩ | assumption | exact ⟨by omega, by omega⟩) (by first | exact hA _ _ | exact ⟨by decide, by decide⟩ | assumption | exact ⟨by omega, by omega⟩) (fun c_85 => by omega) (fun c_85 => ?_)
      refine r_aload_n 46 rfl rfl ?_
      refine r_getg 47 rfl f_GlobalMessage_13 (by omega) hga1 rfl ?_
      refine r_goto (t := 99) 48 rfl (by decide) ?_
      refine r_calli2 51 rfl l_GlobalMessage_49 (Nat.le_of_ble_eq_true rfl) ?_
      refine c_Choice_init (Or.inr rfl) (by omega) (gu_s _ _ _) (cp0 ?_)
      exact n102
    rw [if_neg c1] at hn hs
    by_cases c2 : (((k - 3) / 4 : Nat) : Int) = r
    · rw [if_pos c2] at hn hs
      have n102 := mine 0 ((k - 3) % 4 : Nat) (7 + (k - 3) % 4) (by omega) (by rw [if_neg (by omega)]) (by congr 1; omega) hn hs
      refine r_iload_n 0 rfl rfl ?_
      refine r_aload_n 1 rfl rfl ?_
      refine r_getg 2 rfl f_GlobalMessage_7 (by omega) hga rfl ?_
      refine r_icmp_eq (t := 63) 3 rfl (by decide) (by first | exact hA _ _ | exact ⟨by decide, by decide⟩ | assumption | exact ⟨by omega, by omega⟩) (by first | exact hA _ _ | exact ⟨by decide, by decide⟩ | assumption | exact ⟨by omega, by omega⟩) (fun c_5 => by omega) (fun c_5 => ?_)
      refine r_iload_n 4 rfl rfl ?_
      refine r_aload_n 5 rfl rfl ?_
      refine r_getg 6 rfl f_GlobalMessage_13 (by omega) hga rfl ?_
      refine r_icmp_eq (t := 63) 7 rfl (by decide) (by first | exact hA _ _ | exact ⟨by decide, by decide⟩ | assumption | exact ⟨by omega, by omega⟩) (by first | exact hA _ _ | exact ⟨by decide, by decide⟩ | assumption | exact ⟨by omega, by omega⟩) (fun c_13 => ?_) (fun c_13 => by omega)
      refine r_newg (n := 4) 33 rfl n_GlobalMessage_47 df_11 rfl (by omega) (by omega) (by omega) ?_
      refine r_dup 34 rfl rfl ?_
      refine r_iload_n 35 rfl rfl ?_
      refine r_aload_n 36 rfl rfl ?_
      refine r_getg 37 rfl f_GlobalMessage_7 (by omega) hga1 rfl ?_
      refine r_icmp_ne (t := 79) 38 rfl (by decide) (by first | exact hA _ _ | exact ⟨by decide, by decide⟩ | assumption | exact ⟨by omega, by omega⟩) (by first | exact hA _ _ | exact ⟨by decide, by decide⟩ | assumption | exact ⟨by omega, by omega⟩) (fun c_72 => ?_) (fun c_72 => by omega)
      refine r_iconst 41 rfl ?_
      refine r_iload_n 42 rfl rfl ?_
      refine r_aload_n 43 rfl rfl ?_
      refine r_getg 44 rfl f_GlobalMessage_7 (by omega) hga1 rfl ?_
      refine r_icmp_ne (t := 95) 45 rfl (by decide) (by first | exact hA _ _ | exact ⟨by decide, by decide⟩ | assumption | exact ⟨by omega, by omega⟩) (by first | exact hA _ _ | exact ⟨by decide, by decide⟩ | assumption | exact ⟨by omega, by omega⟩) (fun c_85 => ?_) (fun c_85 => by omega)
      refine r_aload_n 49 rfl rfl ?_
      refine r_getg 50 rfl f_GlobalMessage_7 (by omega) hga1 rfl ?_
      refine r_calli2 51 rfl l_GlobalMessage_49 (Nat.le_of_ble_eq_true rfl) ?_
      refine c_Choice_init (Or.inl rfl) (by omega) (gu_s _ _ _) (cp0 ?_)
      exact n102
    rw [if_neg c2] at hn hs
    cases l with
    | leaf k' => exact absurd rfl hw.2.2
    | branch k' τ' q' =>
      obtain ⟨iT, i2⟩ := ih2 k' τ' q' rfl
      have hwB := hw.2.1
      rw [wfB_br] at hwB
      rw [gR_brB] at hRv
      obtain ⟨b1, c, w, e1, e2, e3, e4, e5⟩ := hRv
      subst e1
      have hci := gR_in τ' e4
      have hszB := szB_br k' τ' q'
      have hsw := swB_br k' τ' q'
      have hmF : mcF (.branch k' τ' q') = mcR q' := rfl
      rw [ptF_br] at hn hs
      have call : ∀ Q', mx K (sel4 τ' M_GlobalEnd_part M_GlobalVariable_part M_GlobalLoop_part M_GlobalMessage_part) (d + 12) [.ref c, iv r] (hp K.n A R g t u) Q' → (∀ o h', Q' o h' → cpost K M_GlobalMessage_part (d + 13) Q 24 [some (.ref a), some (iv r), none, none] [] o h') → wx K M_GlobalMessage_part (d + 13) Q 0 [some (.ref a), some (iv r), none, none] [] (hp K.n A R g t u) := by
        intro Q' hm hpost
        refine r_iload_n 0 rfl rfl ?_
        refine r_aload_n 1 rfl rfl ?_
        refine r_getg 2 rfl f_GlobalMessage_7 (by omega) hga rfl ?_
        refine r_icmp_eq (t := 63) 3 rfl (by decide) (by first | exact hA _ _ | exact ⟨by decide, by decide⟩ | assumption | exact ⟨by omega, by omega⟩) (by first | exact hA _ _ | exact ⟨by decide, by decide⟩ | assumption | exact ⟨by omega, by omega⟩) (fun c_5 => by omega) (fun c_5 => ?_)
        refine r_iload_n 4 rfl rfl ?_
        refine r_aload_n 5 rfl rfl ?_
        refine r_getg 6 rfl f_GlobalMessage_13 (by omega) hga rfl ?_
        refine r_icmp_eq (t := 63) 7 rfl (by decide) (by first | exact hA _ _ | exact ⟨by decide, by decide⟩ | assumption | exact ⟨by omega, by omega⟩) (by first | exact hA _ _ | exact ⟨by decide, by decide⟩ | assumption | exact ⟨by omega, by omega⟩) (fun c_13 => by omega) (fun c_13 => ?_)
        refine r_aload_n 8 rfl rfl ?_
        refine r_getg 9 rfl f_GlobalMessage_16 (by omega) hga rfl ?_
        refine r_getg 10 rfl f_GlobalMessage_20 (by omega) e3 rfl ?_
        refine r_iload_n 11 rfl rfl ?_
        refine r_callT1 12 rfl ⟨u_GlobalMessage_37_GlobalEnd, u_GlobalMessage_37_GlobalVariable, u_GlobalMessage_37_GlobalLoop, u_GlobalMessage_37_GlobalMessage⟩ (by omega) e4 (Nat.le_of_ble_eq_true rfl) ?_
        refine mx_mono hm hpost
      refine call _ (iT (d + 12) c lo t1 g t u (cpost K M_GlobalMessage_part (d + 13) Q 24 [some (.ref a), some (iv r), none, none] []) hwB.2.2.1 (by omega) hlo ht1 e4 ⟨bb0, by omega, bb2⟩ (fun e g' t' u' q1 q2 => ?_) (fun ρ c3 g' t' u' q1 q2 q3 => cp1 ?_)) (fun _ _ h => h)
      · obtain ⟨z1, z2, z3, z4, z5⟩ := q2
        exact cpt rfl (hn e g' t' u' (by rw [q1]; rfl) ⟨z1, z2, z3, by omega, z5⟩)
      · obtain ⟨z1, z2, z3, z4⟩ := q2
        obtain ⟨wρ, lρ, zρ⟩ := (pt_ok r τ').1 hwB.2.2.1 ρ q1
        have n36 := i2 (d + 13) a c3 lo t1 ρ g' t t' u' w Q hwB.2.2.2 wρ lρ (by omega) hlo ht1 bb0 z2 ((gR_fr (fun x _ hx => z1 x (by omega)) (Nat.le_refl _) (Nat.le_refl _) q').2 w e5) q3 ⟨by omega, by omega, z4⟩ (fun e g2 t3 u3 x1 x2 x3 x4 x5 x6 x7 x8 => hn e g2 t3 u3 (by rw [q1]; exact x1) ⟨fun x hx => by rw [x2 x hx]; exact z1 x hx, ⟨x3, x4, x5⟩, by omega, by omega, x8⟩) (fun x c5 g2 t3 u3 x1 x2 x3 x4 x5 x6 => hs x c5 g2 t3 u3 (by rw [q1]; exact x1) ⟨fun x hx => by rw [x2 x hx]; exact z1 x hx, by omega, by omega, x5⟩ x6)
        have g'a : g' a = (6, [iv ((k - 3) % 4 : Nat), iv ((k - 3) / 4 : Nat), .ref b1]) := by rw [z1 a (by omega)]; exact hga
        have g'b : g' b1 = (7, [iv (k' / 3 : Nat), iv (k' % 3 : Nat), .ref c, w]) := by rw [z1 b1 (Nat.lt_of_lt_of_le e2.2 ht1)]; exact e3
        have hb10 : K.n + 62 ≤ b1 := Nat.le_trans hlo e2.1
        rcases gR_v q' e5 with f | ⟨b', f⟩
        · subst f
          first | refine r_astore_n 13 rfl (Nat.le_of_ble_eq_true rfl) ?_ | refine r_astore_nN 13 rfl (Nat.le_of_ble_eq_true rfl) ?_
          refine r_aload_n 14 rfl rfl ?_
          refine r_getg 15 rfl f_GlobalMessage_16 (by omega) g'a rfl ?_
          refine r_getg 16 rfl f_GlobalMessage_30 (by omega) g'b rfl ?_
          first | refine r_astore_n 17 rfl (Nat.le_of_ble_eq_true rfl) ?_ | refine r_astore_nN 17 rfl (Nat.le_of_ble_eq_true rfl) ?_
          exact n36
        · subst f
          first | refine r_astore_n 13 rfl (Nat.le_of_ble_eq_true rfl) ?_ | refine r_astore_nN 13 rfl (Nat.le_of_ble_eq_true rfl) ?_
          refine r_aload_n 14 rfl rfl ?_
          refine r_getg 15 rfl f_GlobalMessage_16 (by omega) g'a rfl ?_
          refine r_getg 16 rfl f_GlobalMessage_30 (by omega) g'b rfl ?_
          first | refine r_astore_n 17 rfl (Nat.le_of_ble_eq_true rfl) ?_ | refine r_astore_nN 17 rfl (Nat.le_of_ble_eq_true rfl) ?_
          exact n36
theorem okP_all {r : Int} (hr : rg r) : ∀ τ : Tr, (okPT K A R r τ ∧ okP1 K A R r τ ∧ okP2 K A R r τ) ∧ ∀ k' τ' q', τ = .branch k' τ' q' → okPT K A R r τ' ∧ okP2 K A R r q' := by
  intro τ
  induction τ with
  | leaf k => exact ⟨⟨xpt_lf k, xp1_lf k, xp2_lf k⟩, fun k' τ' q' h => by cases h⟩
  | branch k l q ihl ihq =>
    refine ⟨⟨xpt_br hr ihl.1.1 ihl.1.2.1 ihl.2, xp1_br hr ihl.1.1 ihq.1.2.1, xp2_br hr ihl.1.1 ihq.1.2.2⟩, fun k' τ' q' h => ?_⟩
    cases h
    exact ⟨ihl.1.1, ihq.1.2.2⟩
/-- partOf: null where there is none -/
theorem c_X_partOf {r : Int} {τ : Tr} {a lo t1 d t u : Nat} {g : Nat → Nat × List Value} {Q : Outcome → xh → Prop} (hr : rg r) (hw : (wfP τ).1) (hz : szT τ ≤ 30) (hlo : K.n + 62 ≤ lo) (ht1 : t1 ≤ t) (hR : (gR g lo t1 τ).1 a) (hb : bud K t u (7 * (wP τ).1 + 1))
    (hn : ∀ g' t' u', (pt r τ).1 = none → (∀ x, x < t → g' x = g x) → t ≤ t' → t' ≤ t + 7 * (wP τ).1 + 1 → u' + 7 * (K.n + 600128) ≤ 7301098 + 7 * t' → Q (.returned (some .null)) (hp K.n A R g' t' u'))
    (hs : ∀ σ c g' t' u', (pt r τ).1 = some σ → mgS K g t (7 * (wP τ).1) g' t' u' → (lQ g' (nw t t') σ).1 c → Q (.returned (some (.ref c))) (hp K.n A R g' t' u')) : mx K M_X_partOf (d + 80) [.ref a, iv r] (hp K.n A R g t u) Q := by
  have hai := gR_in _ hR
  have caught : ∀ (e : Nat) (L1 : Option Value) (g' : Nat → Nat × List Value) (t' u' : Nat), Q (.returned (some .null)) (hp K.n A R g' t' u') → wx K M_X_partOf (d + 80) Q 6 [some (.ref a), some (iv r), L1] [.ref e] (hp K.n A R g' t' u') := by
    intro e L1 g' t' u' fin
    first | refine r_astore_n 4 rfl (Nat.le_of_ble_eq_true rfl) ?_ | refine r_astore_nN 4 rfl (Nat.le_of_ble_eq_true rfl) ?_
    refine r_null 5 rfl ?_
    refine r_aret 6 rfl rfl (by first | exact Or.inl rfl | exact Or.inr ⟨_, rfl⟩) ?_
    exact fin
  refine mx_in ok_X_partOf rfl (Nat.le_of_ble_eq_true rfl) ?_
  refine r_aload_n 0 rfl rfl ?_
  refine r_iload_n 1 rfl rfl ?_
  refine r_callT1 2 rfl ⟨u_X_208_GlobalEnd, u_X_208_GlobalVariable, u_X_208_GlobalLoop, u_X_208_GlobalMessage⟩ (by omega) hR (Nat.le_of_ble_eq_true rfl) ?_
  refine (okP_all hr τ).1.1 (d + 79) a lo t1 g t u _ hw (by omega) hlo ht1 hR hb (fun e g' t' u' h1 h2 => cpc "java/lang/UnsupportedOperationException" rfl ⟨by decide, by decide⟩ (by decide) w_uoe (hpg h2.2.1.2.1 h2.2.1.1) (by decide) (by decide) k_uoe (caught e _ g' t' u' (hn g' t' u' h1 h2.1 h2.2.2.1 h2.2.2.2.1 h2.2.2.2.2))) (fun σ c g' t' u' h1 h2 h3 => cp1 ?_)
  refine r_aret 3 rfl rfl (by first | exact Or.inl rfl | exact Or.inr ⟨_, rfl⟩) ?_
  exact hs σ c g' t' u' h1 h2 h3
end XP86


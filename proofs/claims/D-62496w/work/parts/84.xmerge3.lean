/-! the class: merged, all types -/
section XM84
variable {K : xk} {A : Nat → Int → Int} {R : Nat → Int → Value}
theorem fltX (a : Tr) : ∀ (l : Tr) (x : Int), hasL a x = true → hasL (flt a l) x = false
  | .leaf _, x, _ => rfl
  | .branch k τ r, x, h => by
    rw [flt_br]
    split
    · exact fltX a r x h
    · rename_i e
      rw [hasL_br, fltX a r x h, Bool.or_false, decide_eq_false_iff_not]
      intro e2
      rw [← e2] at h
      exact e h
theorem mg_fit {l l' : Tr} (hw : (wfP l).2) (hw' : (wfP l').2) : lenB l + lenB (flt l l') ≤ 6 ∧ sF (fun _ τ => szT τ) l' l ≤ szB l' := by
  have h1 := lenB_le (apL l (flt l l')) (apL_wf l (flt l l') hw (flt_wf l l' hw') (fun x h => fltX l l' x h))
  rw [apL_len] at h1
  have h2 := sF_le (fun _ τ => szT τ) l hw l'
  rw [wF_sz l'] at h2
  exact ⟨h1, by omega⟩
theorem xmg_br {k : Nat} {l q : Tr} (ihT : okMg K A R l) (ihB : okM1 K A R l) : okMg K A R (.branch k l q) := by
  intro D a b β P g t u Q hw hw' hk hk' hD hP hRa hRb hb hn hs
  have hsz := szT_br k l q
  have hb1 : bud K t u 1 := ⟨hb.1, by have := hb.2.1; omega, hb.2.2⟩
  obtain ⟨bb0, bb1, bb2⟩ := hb
  have now : mgE K g t (7 * szT β) t (gu g t (31, [])) (t + 1) (u + 6) := mgE_now hb1
  have hPb := hP b (lQ_in β hRb)
  have hPa := hP a (lQ_in _ hRa)
  have hPa0 := lQ_in _ hRa
  have hPb0 := lQ_in β hRb
  rw [lQ_br] at hRa
  rw [wfT_br] at hw
  rw [lkT_br] at hk
  have hsel : sel4 (.branch k l q) M_End_merged M_Variable_merged M_Loop_merged M_Choice_merged = if k < 3 then M_Loop_merged else M_Choice_merged := rfl
  rw [hsel]
  by_cases h3 : k < 3
  · rw [if_pos h3] at hRa hw hk hsz ⊢
    obtain ⟨-, c, hga, hRc⟩ := hRa
    obtain ⟨d, rfl⟩ : ∃ d, D = d + 9 := ⟨D - 9, by have := szT_pos l; omega⟩
    refine mx_in ok_Loop_merged rfl (Nat.le_of_ble_eq_true rfl) ?_
    rcases lQ_cls β hRb with ⟨h1, h2⟩ | ⟨k', h0, h1, h2⟩ | ⟨k', l', r', c', h0, h1, h2, hR'⟩ | ⟨k', l', r', v', z', h0, h1, h2, hR'⟩
    · have fin := hn t _ _ _ (by subst h1; rfl) now
      first | refine r_aload_n 0 rfl rfl ?_ | refine r_aload_nN 0 rfl rfl ?_
      refine r_instN 1 rfl n_Loop_8 (hpg (by omega) h2) (by decide) ⟨_, _, rfl, rfl, by decide⟩ ?_
      refine r_if_eq (t := 21) 2 rfl (by decide) (by first | exact hA _ _ | exact ⟨by decide, by decide⟩ | assumption | exact ⟨by omega, by omega⟩) (fun c_4 => ?_) (fun c_4 => by omega)
      refine r_throwg 9 rfl rfl rfl rfl t_Loop_17 rfl (Nat.le_of_ble_eq_true rfl) (by omega) (by omega) (by omega) (by omega) ?_
      exact fin
    · have fin := hn t _ _ _ (by subst h1; rfl) now
      first | refine r_aload_n 0 rfl rfl ?_ | refine r_aload_nN 0 rfl rfl ?_
      refine r_instN 1 rfl n_Loop_8 (hpg (by omega) h2) (by decide) ⟨_, _, rfl, rfl, by decide⟩ ?_
      refine r_if_eq (t := 21) 2 rfl (by decide) (by first | exact hA _ _ | exact ⟨by decide, by decide⟩ | assumption | exact ⟨by omega, by omega⟩) (fun c_4 => ?_) (fun c_4 => by omega)
      refine r_throwg 9 rfl rfl rfl rfl t_Loop_17 rfl (Nat.le_of_ble_eq_true rfl) (by omega) (by omega) (by omega) (by omega) ?_
      exact fin
    · subst h1
      rw [mg_br] at hn hs
      by_cases ek : k = k'
      · subst ek
        rw [if_neg (fun h => h rfl), if_pos h3] at hn hs
        have hszb := szT_br k l' r'
        rw [if_pos h3] at hszb
        rw [wfT_br, if_pos h3] at hw'
        rw [lkT_br, if_pos h3] at hk'
        generalize hg1 : gu g t (10, [iv 0, .null]) = g1
        have g1n : ∀ x, x < t → g1 x = g x := fun x h => by rw [← hg1]; exact gu_n g _ (by omega)
        have g1t : g1 t = (10, [iv 0, .null]) := by rw [← hg1]; exact gu_s _ _ _
        have hRc1 : (lQ g1 P l).1 c := (lQ_fr (fun x hx => ⟨hx, g1n x (hP x hx).2⟩) l).1 c hRc
        have hRc1' : (lQ g1 P l').1 c' := (lQ_fr (fun x hx => ⟨hx, g1n x (hP x hx).2⟩) l').1 c' hR'
        have hPc := hP c (lQ_in l hRc)
        have h2' : g1 b = (10, [iv k, .ref c']) := by rw [g1n b hPb.2]; exact h2
        have hga' : g1 a = (10, [iv k, .ref c]) := by rw [g1n a hPa.2]; exact hga
        have call : ∀ Q', mx K (sel4 l M_End_merged M_Variable_merged M_Loop_merged M_Choice_merged) (d + 8) [.ref c, .ref c'] (hp K.n A R g1 (t + 1) (u + 2)) Q' → (∀ o h', Q' o h' → cpost K M_Loop_merged (d + 9) Q 48 [some (.ref a), some (.ref b)] [iv k, .ref t, .ref t] o h') → wx K M_Loop_merged (d + 9) Q 0 [some (.ref a), some (.ref b)] [] (hp K.n A R g t u) := by
          intro Q' hm hpost
          first | refine r_aload_n 0 rfl rfl ?_ | refine r_aload_nN 0 rfl rfl ?_
          refine r_instY 1 rfl n_Loop_8 (hpg (by omega) h2) ?_
          refine r_if_eq (t := 21) 2 rfl (by decide) (by first | exact hA _ _ | exact ⟨by decide, by decide⟩ | assumption | exact ⟨by omega, by omega⟩) (fun c_4 => by omega) (fun c_4 => ?_)
          first | refine r_aload_n 3 rfl rfl ?_ | refine r_aload_nN 3 rfl rfl ?_
          refine r_cast 4 rfl n_Loop_8 (hpg (by omega) h2) ?_
          refine r_getg 5 rfl f_Loop_7 (by omega) h2 rfl ?_
          refine r_aload_n 6 rfl rfl ?_
          refine r_getg 7 rfl f_Loop_7 (by omega) hga rfl ?_
          refine r_icmp_eq (t := 29) 8 rfl (by decide) (by first | exact hA _ _ | exact ⟨by decide, by decide⟩ | assumption | exact ⟨by omega, by omega⟩) (by first | exact hA _ _ | exact ⟨by decide, by decide⟩ | assumption | exact ⟨by omega, by omega⟩) (fun c_18 => ?_) (fun c_18 => by omega)
          refine r_newg (n := 2) 13 rfl n_Loop_8 df_10 rfl (by omega) (by omega) (by omega) ?_
          rw [hg1]
          refine r_dup 14 rfl rfl ?_
          refine r_aload_n 15 rfl rfl ?_
          refine r_getg 16 rfl f_Loop_7 (by omega) hga' rfl ?_
          refine r_aload_n 17 rfl rfl ?_
          refine r_getg 18 rfl f_Loop_13 (by omega) hga' rfl ?_
          first | refine r_aload_n 19 rfl rfl ?_ | refine r_aload_nN 19 rfl rfl ?_
          refine r_cast 20 rfl n_Loop_8 (hpg (by omega) h2') ?_
          refine r_getg 21 rfl f_Loop_13 (by omega) h2' rfl ?_
          refine r_callL1 22 rfl ⟨u_Loop_20_End, u_Loop_20_Variable, u_Loop_20_Loop, u_Loop_20_Choice⟩ (by omega) hRc1 (Nat.le_of_ble_eq_true rfl) ?_
          refine mx_mono hm hpost
        refine call _ (ihT (d + 8) c c' l' P g1 (t + 1) (u + 2) (cpost K M_Loop_merged (d + 9) Q 48 [some (.ref a), some (.ref b)] [iv k, .ref t, .ref t]) hw hw' hk hk' (by omega) (fun x hx => ⟨(hP x hx).1, by have := hP x hx; omega⟩) hRc1 hRc1' ⟨by omega, by omega, ubs bb2 (by decide)⟩ (fun e g' t' u' q1 q2 => ?_) (fun γ c3 g' t' u' q1 q2 q3 => cp1 ?_)) (fun _ _ h => h)
        · obtain ⟨z1, z2, z3, z4, z5⟩ := q2
          exact cpt rfl (hn e g' t' u' (by rw [q1]; rfl) ⟨fun x hx => by rw [z1 x (by omega)]; exact g1n x hx, z2, by omega, by omega, z5⟩)
        · obtain ⟨z1, z2, z3, z4⟩ := q2
          have g't : g' t = (10, [iv 0, .null]) := by rw [z1 t (by omega)]; exact g1t
          have hc3 := lQ_in γ q3
          have fin := hs (.branch k γ (.leaf 0)) t (gu g' t (10, [iv k, .ref c3])) t' u' (by rw [q1]; rfl) ⟨fun x hx => by rw [gu_n _ _ (by omega), z1 x (by omega)]; exact g1n x hx, by omega, by omega, z4⟩ (by
            rw [lQ_br, if_pos h3]
            refine ⟨Or.inr ⟨Nat.le_refl t, by omega⟩, c3, gu_s _ _ _, (lQ_fr (fun x hx => ?_) γ).1 c3 q3⟩
            rcases hx with hx | hx
            · exact ⟨Or.inl hx, gu_n _ _ (by have := hP x hx; omega)⟩
            · exact ⟨Or.inr ⟨by omega, hx.2⟩, gu_n _ _ (by omega)⟩)
          refine r_calli2 23 rfl l_Loop_24 (Nat.le_of_ble_eq_true rfl) ?_
          refine c_Loop_init (by omega) g't (cp0 ?_)
          refine r_aret 24 rfl rfl (by first | exact Or.inl rfl | exact Or.inr ⟨_, rfl⟩) ?_
          exact fin
      · rw [if_pos ek] at hn
        have fin := hn t _ _ _ rfl now
        first | refine r_aload_n 0 rfl rfl ?_ | refine r_aload_nN 0 rfl rfl ?_
        refine r_instY 1 rfl n_Loop_8 (hpg (by omega) h2) ?_
        refine r_if_eq (t := 21) 2 rfl (by decide) (by first | exact hA _ _ | exact ⟨by decide, by decide⟩ | assumption | exact ⟨by omega, by omega⟩) (fun c_4 => by omega) (fun c_4 => ?_)
        first | refine r_aload_n 3 rfl rfl ?_ | refine r_aload_nN 3 rfl rfl ?_
        refine r_cast 4 rfl n_Loop_8 (hpg (by omega) h2) ?_
        refine r_getg 5 rfl f_Loop_7 (by omega) h2 rfl ?_
        refine r_aload_n 6 rfl rfl ?_
        refine r_getg 7 rfl f_Loop_7 (by omega) hga rfl ?_
        refine r_icmp_eq (t := 29) 8 rfl (by decide) (by first | exact hA _ _ | exact ⟨by decide, by decide⟩ | assumption | exact ⟨by omega, by omega⟩) (by first | exact hA _ _ | exact ⟨by decide, by decide⟩ | assumption | exact ⟨by omega, by omega⟩) (fun c_18 => by omega) (fun c_18 => ?_)
        refine r_throwg 9 rfl rfl rfl rfl t_Loop_17 rfl (Nat.le_of_ble_eq_true rfl) (by omega) (by omega) (by omega) (by omega) ?_
        exact fin
    · have fin := hn t _ _ _ (by subst h1; rw [mg_br, if_pos (by omega)]) now
      first | refine r_aload_n 0 rfl rfl ?_ | refine r_aload_nN 0 rfl rfl ?_
      refine r_instN 1 rfl n_Loop_8 (hpg (by omega) h2) (by decide) ⟨_, _, rfl, rfl, by decide⟩ ?_
      refine r_if_eq (t := 21) 2 rfl (by decide) (by first | exact hA _ _ | exact ⟨by decide, by decide⟩ | assumption | exact ⟨by omega, by omega⟩) (fun c_4 => ?_) (fun c_4 => by omega)
      refine r_throwg 9 rfl rfl rfl rfl t_Loop_17 rfl (Nat.le_of_ble_eq_true rfl) (by omega) (by omega) (by omega) (by omega) ?_
      exact fin
  · rw [if_neg h3] at hRa hw hk hsz ⊢
    obtain ⟨-, va, za, hga, hRl⟩ := hRa
    obtain ⟨d, rfl⟩ : ∃ d, D = d + 9 := ⟨D - 9, by omega⟩
    refine mx_in ok_Choice_merged rfl (Nat.le_of_ble_eq_true rfl) ?_
    rcases lQ_cls β hRb with ⟨h1, h2⟩ | ⟨k', h0, h1, h2⟩ | ⟨k', l', r', c', h0, h1, h2, hR'⟩ | ⟨k', l', r', vb, zb, h0, h1, h2, hR'⟩
    · have fin := hn t _ _ _ (by subst h1; rfl) now
      first | refine r_aload_n 0 rfl rfl ?_ | refine r_aload_nN 0 rfl rfl ?_
      refine r_instN 1 rfl n_Choice_8 (hpg (by omega) h2) (by decide) ⟨_, _, rfl, rfl, by decide⟩ ?_
      refine r_if_ne (t := 15) 2 rfl (by decide) (by first | exact hA _ _ | exact ⟨by decide, by decide⟩ | assumption | exact ⟨by omega, by omega⟩) (fun c_4 => by omega) (fun c_4 => ?_)
      refine r_throwg 3 rfl rfl rfl rfl t_Choice_35 rfl (Nat.le_of_ble_eq_true rfl) (by omega) (by omega) (by omega) (by omega) ?_
      exact fin
    · have fin := hn t _ _ _ (by subst h1; rfl) now
      first | refine r_aload_n 0 rfl rfl ?_ | refine r_aload_nN 0 rfl rfl ?_
      refine r_instN 1 rfl n_Choice_8 (hpg (by omega) h2) (by decide) ⟨_, _, rfl, rfl, by decide⟩ ?_
      refine r_if_ne (t := 15) 2 rfl (by decide) (by first | exact hA _ _ | exact ⟨by decide, by decide⟩ | assumption | exact ⟨by omega, by omega⟩) (fun c_4 => by omega) (fun c_4 => ?_)
      refine r_throwg 3 rfl rfl rfl rfl t_Choice_35 rfl (Nat.le_of_ble_eq_true rfl) (by omega) (by omega) (by omega) (by omega) ?_
      exact fin
    · have fin := hn t _ _ _ (by subst h1; rw [mg_br, if_pos (by omega)]) now
      first | refine r_aload_n 0 rfl rfl ?_ | refine r_aload_nN 0 rfl rfl ?_
      refine r_instN 1 rfl n_Choice_8 (hpg (by omega) h2) (by decide) ⟨_, _, rfl, rfl, by decide⟩ ?_
      refine r_if_ne (t := 15) 2 rfl (by decide) (by first | exact hA _ _ | exact ⟨by decide, by decide⟩ | assumption | exact ⟨by omega, by omega⟩) (fun c_4 => by omega) (fun c_4 => ?_)
      refine r_throwg 3 rfl rfl rfl rfl t_Choice_35 rfl (Nat.le_of_ble_eq_true rfl) (by omega) (by omega) (by omega) (by omega) ?_
      exact fin
    · subst h1
      have hszb := szT_br k' l' r'
      rw [if_neg h0] at hszb
      rw [wfT_br, if_neg h0] at hw'
      rw [lkT_br, if_neg h0] at hk'
      rw [mg_br] at hn hs
      obtain ⟨sA, hsA⟩ : ∃ sA : Int, sA = if k < 7 then 1 else 0 := ⟨_, rfl⟩
      obtain ⟨sB, hsB⟩ : ∃ sB : Int, sB = if k' < 7 then 1 else 0 := ⟨_, rfl⟩
      rw [← hsA] at hga
      rw [← hsB] at h2
      have rA : (sA = 1 ∧ k < 7) ∨ (sA = 0 ∧ ¬ k < 7) := by rw [hsA]; split; exact Or.inl ⟨rfl, by assumption⟩; exact Or.inr ⟨rfl, by assumption⟩
      have rB : (sB = 1 ∧ k' < 7) ∨ (sB = 0 ∧ ¬ k' < 7) := by rw [hsB]; split; exact Or.inl ⟨rfl, by assumption⟩; exact Or.inr ⟨rfl, by assumption⟩
      by_cases es : sB = sA
      case neg =>
        rw [if_pos (fun h => es (by subst h; rw [hsA, hsB]))] at hn
        have fin := hn t _ _ _ rfl now
        first | refine r_aload_n 0 rfl rfl ?_ | refine r_aload_nN 0 rfl rfl ?_
        refine r_instY 1 rfl n_Choice_8 (hpg (by omega) h2) ?_
        refine r_if_ne (t := 15) 2 rfl (by decide) (by first | exact hA _ _ | exact ⟨by decide, by decide⟩ | assumption | exact ⟨by omega, by omega⟩) (fun c_4 => ?_) (fun c_4 => by omega)
        first | refine r_aload_n 7 rfl rfl ?_ | refine r_aload_nN 7 rfl rfl ?_
        refine r_cast 8 rfl n_Choice_8 (hpg (by omega) h2) ?_
        first | refine r_astore_n 9 rfl (Nat.le_of_ble_eq_true rfl) ?_ | refine r_astore_nN 9 rfl (Nat.le_of_ble_eq_true rfl) ?_
        first | refine r_aload_n 10 rfl rfl ?_ | refine r_aload_nN 10 rfl rfl ?_
        refine r_getg 11 rfl f_Choice_7 (by omega) h2 rfl ?_
        refine r_aload_n 12 rfl rfl ?_
        refine r_getg 13 rfl f_Choice_7 (by omega) hga rfl ?_
        refine r_icmp_ne (t := 42) 14 rfl (by decide) (by first | exact hA _ _ | exact ⟨by decide, by decide⟩ | assumption | exact ⟨by omega, by omega⟩) (by first | exact hA _ _ | exact ⟨by decide, by decide⟩ | assumption | exact ⟨by omega, by omega⟩) (fun c_28 => ?_) (fun c_28 => by omega)
        refine r_throwg 20 rfl rfl rfl rfl t_Choice_35 rfl (Nat.le_of_ble_eq_true rfl) (by omega) (by omega) (by omega) (by omega) ?_
        exact fin
      by_cases ep : (k' - 3) % 4 = (k - 3) % 4
      case neg =>
        rw [if_pos (fun h => ep (by rw [h]))] at hn
        have fin := hn t _ _ _ rfl now
        first | refine r_aload_n 0 rfl rfl ?_ | refine r_aload_nN 0 rfl rfl ?_
        refine r_instY 1 rfl n_Choice_8 (hpg (by omega) h2) ?_
        refine r_if_ne (t := 15) 2 rfl (by decide) (by first | exact hA _ _ | exact ⟨by decide, by decide⟩ | assumption | exact ⟨by omega, by omega⟩) (fun c_4 => ?_) (fun c_4 => by omega)
        first | refine r_aload_n 7 rfl rfl ?_ | refine r_aload_nN 7 rfl rfl ?_
        refine r_cast 8 rfl n_Choice_8 (hpg (by omega) h2) ?_
        first | refine r_astore_n 9 rfl (Nat.le_of_ble_eq_true rfl) ?_ | refine r_astore_nN 9 rfl (Nat.le_of_ble_eq_true rfl) ?_
        first | refine r_aload_n 10 rfl rfl ?_ | refine r_aload_nN 10 rfl rfl ?_
        refine r_getg 11 rfl f_Choice_7 (by omega) h2 rfl ?_
        refine r_aload_n 12 rfl rfl ?_
        refine r_getg 13 rfl f_Choice_7 (by omega) hga rfl ?_
        refine r_icmp_ne (t := 42) 14 rfl (by decide) (by first | exact hA _ _ | exact ⟨by decide, by decide⟩ | assumption | exact ⟨by omega, by omega⟩) (by first | exact hA _ _ | exact ⟨by decide, by decide⟩ | assumption | exact ⟨by omega, by omega⟩) (fun c_28 => by omega) (fun c_28 => ?_)
        first | refine r_aload_n 15 rfl rfl ?_ | refine r_aload_nN 15 rfl rfl ?_
        refine r_getg 16 rfl f_Choice_13 (by omega) h2 rfl ?_
        refine r_aload_n 17 rfl rfl ?_
        refine r_getg 18 rfl f_Choice_13 (by omega) hga rfl ?_
        refine r_icmp_eq (t := 50) 19 rfl (by decide) (by first | exact hA _ _ | exact ⟨by decide, by decide⟩ | assumption | exact ⟨by omega, by omega⟩) (by first | exact hA _ _ | exact ⟨by decide, by decide⟩ | assumption | exact ⟨by omega, by omega⟩) (fun c_39 => by omega) (fun c_39 => ?_)
        refine r_throwg 20 rfl rfl rfl rfl t_Choice_35 rfl (Nat.le_of_ble_eq_true rfl) (by omega) (by omega) (by omega) (by omega) ?_
        exact fin
      have ek : k = k' := by omega
      subst ek
      rw [if_neg (fun h => h rfl), if_neg h3] at hn hs
      have hbi : sA = bi (decide (k < 7)) := by
        rcases rA with ⟨e1, e2⟩ | ⟨e1, e2⟩
        · rw [e1, decide_eq_true e2]; rfl
        · rw [e1, decide_eq_false e2]; rfl
      have hs01 : sA = 0 ∨ sA = 1 := by omega
      have hsBA : sB = sA := es
      rw [hsBA] at h2
      obtain ⟨m1, m2⟩ := mg_fit hw.2.1 hw'.2.1
      generalize hg2 : gu (gu g t (11, [iv 0, iv 0, .null, .null])) t (11, [iv sA, iv ((k - 3) % 4 : Nat), .null, .null]) = g2
      have g2n : ∀ x, x < t → g2 x = g x := fun x h => by rw [← hg2, gu_n _ _ (by omega), gu_n _ _ (by omega)]
      have g2t : g2 t = (11, [iv sA, iv ((k - 3) % 4 : Nat), .null, .null]) := by rw [← hg2]; exact gu_s _ _ _
      have gn1 : ∀ x, x < t → gu g t (11, [iv 0, iv 0, .null, .null]) x = g x := fun x h => gu_n _ _ (by omega)
      have hga1 : gu g t (11, [iv 0, iv 0, .null, .null]) a = (11, [iv sA, iv ((k - 3) % 4 : Nat), va, za]) := by rw [gn1 a hPa.2]; exact hga
      have hga2 : g2 a = (11, [iv (bi (decide (k < 7))), iv ((k - 3) % 4 : Nat), va, za]) := by rw [g2n a hPa.2, ← hbi]; exact hga
      have hgb2 : g2 b = (11, [iv sA, iv ((k - 3) % 4 : Nat), vb, zb]) := by rw [g2n b hPb.2]; exact h2
      have hRl2 : (lQ g2 P l).2 va := (lQ_fr (fun x hx => ⟨hx, g2n x (hP x hx).2⟩) l).2 va hRl
      have hRl2' : (lQ g2 P l').2 vb := (lQ_fr (fun x hx => ⟨hx, g2n x (hP x hx).2⟩) l').2 vb hR'
      have n72 : wx K M_Choice_merged (d + 9) Q 72 [some (.ref a), some (.ref b), some (.ref b), some (.ref t), some va, none] [] (hp K.n A R g2 (t + 1) (u + 4)) := by
        refine ihB (d + 9) a b t (decide (k < 7)) l' (.leaf 0) P [t] g2 t (t + 1) (u + 4) va va za vb zb (iv sA) (iv ((k - 3) % 4 : Nat)) (iv ((k - 3) % 4 : Nat)) Q hw.2.1 hw'.2.1 hk.2 hk'.2 (by omega) hP bb0 (by omega) (fun x hx => by rw [List.mem_singleton] at hx; omega) (List.mem_singleton.mpr rfl) hPa0 hPb0 hga2 hgb2 hRl2' hRl2 (Or.inl ⟨rfl, by rw [← hbi]; exact g2t⟩) ⟨by omega, by omega, ubs bb2 (by decide)⟩ (fun e g' t' u' q1 q2 q3 q4 q5 q6 q7 q8 => hn e g' t' u' ?_ ⟨fun x hx => by rw [q2 x hx]; exact g2n x hx, ⟨q3, q4, q5⟩, by omega, by omega, q8⟩) (fun x g3 t3 u3 S3 q1 q2 q3 q4 q5 q6 q7 q8 => ?_)
        · split
          · rfl
          · rw [q1]; rfl
        · rw [show apL (.leaf 0) x = x from rfl] at q8
          have g3P : ∀ y, P y → g3 y = g2 y := fun y hy => q2 y (hP y hy).2
          have hga3 : g3 a = (11, [iv (bi (decide (k < 7))), iv ((k - 3) % 4 : Nat), va, za]) := by rw [g3P a hPa0]; exact hga2
          have hgb3 : g3 b = (11, [iv sA, iv ((k - 3) % 4 : Nat), vb, zb]) := by rw [g3P b hPb0]; exact hgb2
          have hRl3' := (lQ_fr (fun x hx => ⟨hx, g3P x hx⟩) l').2 vb hRl2'
          have n180 := xm2 (K := K) (A := A) (R := R) (D' := d) (a := a) (b := b) (ac := t) (sb := decide (k < 7)) (l := l) (P := P) (t0 := t) (va := va) (za := za) (pn := iv ((k - 3) % 4 : Nat)) (Q := Q) hw.2.1 hP bb0 hPa0 l' x S3 g3 t3 u3 vb hw'.2.1 (by omega) q6 q7 hga3 ((lQ_fr (fun x hx => ⟨hx, g3P x hx⟩) l).2 va hRl2) hRl3' q8 ⟨by omega, by omega, q5⟩ (fun e g' t' u' z1 z2 z3 z4 z5 z6 z7 z8 z9 => hn e g' t' u' ?_ ⟨fun x hx => by rw [z3 x hx, q2 x hx]; exact g2n x hx, ⟨z4, z5, z6⟩, by omega, by omega, z9⟩) (fun g' t' u' S' z1 z2 z3 z4 z5 z6 z7 z8 => ?_)
          · rcases lQ_v l' hR' with f | ⟨b', f⟩
            · subst f
              first | refine r_aload_n 77 rfl rfl ?_ | refine r_aload_nN 77 rfl rfl ?_
              refine r_getg 78 rfl f_Choice_26 (by omega) hgb3 rfl ?_
              first | refine r_astore 79 rfl (Nat.le_of_ble_eq_true rfl) ?_ | refine r_astoreN 79 rfl (Nat.le_of_ble_eq_true rfl) ?_
              exact n180
            · subst f
              first | refine r_aload_n 77 rfl rfl ?_ | refine r_aload_nN 77 rfl rfl ?_
              refine r_getg 78 rfl f_Choice_26 (by omega) hgb3 rfl ?_
              first | refine r_astore 79 rfl (Nat.le_of_ble_eq_true rfl) ?_ | refine r_astoreN 79 rfl (Nat.le_of_ble_eq_true rfl) ?_
              exact n180
          · rw [decide_eq_true_eq] at z1
            rw [decide_eq_true z1] at q1
            rw [if_pos ⟨z1, fun h => z2 ((mg_len hw.2.1 hw'.2.1 q1).mp h)⟩]
          · obtain ⟨v, z, y1, y2⟩ := bL_lQ (P' := fun y => P y ∨ (t ≤ y ∧ y < t')) (fun y hy => by rcases hy with hy | hy; exact Or.inl hy; exact Or.inr ⟨hy.1, hy.2.1⟩) (fun y hy => Or.inr (z6 y hy)) z8
            refine hs (.branch k (apL x (flt l l')) (.leaf 0)) t g' t' u' ?_ ⟨fun x hx => by rw [z2 x hx, q2 x hx]; exact g2n x hx, by omega, by omega, z5⟩ ?_
            · rw [if_neg (fun h => h.2 ((mg_len hw.2.1 hw'.2.1 (by have := q1; rw [decide_eq_true h.1] at this; exact this)).mpr (z1 (decide_eq_true h.1)))), q1]
              rfl
            · rw [lQ_br, if_neg h3]
              exact ⟨Or.inr ⟨Nat.le_refl t, by omega⟩, v, z, by rw [y1, ← hbi, hsA], y2⟩
      have hva := lQ_v l hRl
      have n66 : wx K M_Choice_merged (d + 9) Q 66 [some (.ref a), some (.ref b), some (.ref b), some (.ref t), none, none] [] (hp K.n A R g2 (t + 1) (u + 4)) := by
        rcases hva with f | ⟨b', f⟩
        · subst f
          refine r_aload_n 32 rfl rfl ?_
          refine r_getg 33 rfl f_Choice_26 (by omega) hga2 rfl ?_
          first | refine r_astore 34 rfl (Nat.le_of_ble_eq_true rfl) ?_ | refine r_astoreN 34 rfl (Nat.le_of_ble_eq_true rfl) ?_
          exact n72
        · subst f
          refine r_aload_n 32 rfl rfl ?_
          refine r_getg 33 rfl f_Choice_26 (by omega) hga2 rfl ?_
          first | refine r_astore 34 rfl (Nat.le_of_ble_eq_true rfl) ?_ | refine r_astoreN 34 rfl (Nat.le_of_ble_eq_true rfl) ?_
          exact n72
      first | refine r_aload_n 0 rfl rfl ?_ | refine r_aload_nN 0 rfl rfl ?_
      refine r_instY 1 rfl n_Choice_8 (hpg (by omega) h2) ?_
      refine r_if_ne (t := 15) 2 rfl (by decide) (by first | exact hA _ _ | exact ⟨by decide, by decide⟩ | assumption | exact ⟨by omega, by omega⟩) (fun c_4 => ?_) (fun c_4 => by omega)
      first | refine r_aload_n 7 rfl rfl ?_ | refine r_aload_nN 7 rfl rfl ?_
      refine r_cast 8 rfl n_Choice_8 (hpg (by omega) h2) ?_
      first | refine r_astore_n 9 rfl (Nat.le_of_ble_eq_true rfl) ?_ | refine r_astore_nN 9 rfl (Nat.le_of_ble_eq_true rfl) ?_
      first | refine r_aload_n 10 rfl rfl ?_ | refine r_aload_nN 10 rfl rfl ?_
      refine r_getg 11 rfl f_Choice_7 (by omega) h2 rfl ?_
      refine r_aload_n 12 rfl rfl ?_
      refine r_getg 13 rfl f_Choice_7 (by omega) hga rfl ?_
      refine r_icmp_ne (t := 42) 14 rfl (by decide) (by first | exact hA _ _ | exact ⟨by decide, by decide⟩ | assumption | exact ⟨by omega, by omega⟩) (by first | exact hA _ _ | exact ⟨by decide, by decide⟩ | assumption | exact ⟨by omega, by omega⟩) (fun c_28 => by omega) (fun c_28 => ?_)
      first | refine r_aload_n 15 rfl rfl ?_ | refine r_aload_nN 15 rfl rfl ?_
      refine r_getg 16 rfl f_Choice_13 (by omega) h2 rfl ?_
      refine r_aload_n 17 rfl rfl ?_
      refine r_getg 18 rfl f_Choice_13 (by omega) hga rfl ?_
      refine r_icmp_eq (t := 50) 19 rfl (by decide) (by first | exact hA _ _ | exact ⟨by decide, by decide⟩ | assumption | exact ⟨by omega, by omega⟩) (by first | exact hA _ _ | exact ⟨by decide, by decide⟩ | assumption | exact ⟨by omega, by omega⟩) (fun c_39 => ?_) (fun c_39 => by omega)
      refine r_newg (n := 4) 24 rfl n_Choice_8 df_11 rfl (by omega) (by omega) (by omega) ?_
      refine r_dup 25 rfl rfl ?_
      refine r_aload_n 26 rfl rfl ?_
      refine r_getg 27 rfl f_Choice_7 (by omega) hga1 rfl ?_
      refine r_aload_n 28 rfl rfl ?_
      refine r_getg 29 rfl f_Choice_13 (by omega) hga1 rfl ?_
      refine r_calli2 30 rfl l_Choice_38 (Nat.le_of_ble_eq_true rfl) ?_
      refine c_Choice_init hs01 (by omega) (gu_s _ _ _) (cp0 ?_)
      rw [hg2]
      first | refine r_astore_n 31 rfl (Nat.le_of_ble_eq_true rfl) ?_ | refine r_astore_nN 31 rfl (Nat.le_of_ble_eq_true rfl) ?_
      exact n66
theorem okMg_all : ∀ τ : Tr, okMg K A R τ ∧ okM1 K A R τ := by
  intro τ
  induction τ with
  | leaf k => exact ⟨xmg_lf k, xm1_lf k⟩
  | branch k l q ihl ihq => exact ⟨xmg_br ihl.1 ihl.2, xm1_br ihl.1 ihq.2⟩
end XM84


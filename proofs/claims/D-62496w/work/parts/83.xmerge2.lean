/-! the class: merged, whole -/
section XM83
variable {K : xk} {A : Nat → Int → Int} {R : Nat → Int → Value}
theorem xm2 {D' a b ac : Nat} {sb : Bool} {l : Tr} {P : Nat → Prop} {t0 : Nat} {va za pn : Value} {Q : Outcome → xh → Prop} (hwl : (wfP l).2) (hP : ∀ x, P x → K.n + 62 ≤ x ∧ x < t0) (ht0 : K.n + 62 ≤ t0) (hPa : P a) :
    ∀ (r : Tr) (pre : Tr) (S : List Nat) (g : Nat → Nat × List Value) (t u : Nat) (v : Value), (wfP r).2 → t0 ≤ t → (∀ x, x ∈ S → t0 ≤ x ∧ x < t) → ac ∈ S → g a = (11, [iv (bi sb), pn, va, za]) → (lQ g P l).2 va → (lQ g P r).2 v → bL g (fun x => P x ∨ (t0 ≤ x ∧ x < t ∧ x ∉ S)) S ac (iv (bi sb)) pn pre → bud K t u (lenB (flt l r) + 1) →
      (∀ e g' t' u', sb = true → flt l r ≠ .leaf 0 → (∀ x, x < t0 → g' x = g x) → g' e = (31, []) → K.n + 62 ≤ e → e < t' → t ≤ t' → t' ≤ t + lenB (flt l r) + 1 → u' + 7 * (K.n + 600128) ≤ 7301098 + 7 * t' → Q (.threw e) (hp K.n A R g' t' u')) →
      (∀ g' t' u' S', (sb = true → flt l r = .leaf 0) → (∀ x, x < t0 → g' x = g x) → t ≤ t' → t' ≤ t + lenB (flt l r) → u' + 7 * (K.n + 600128) ≤ 7301098 + 7 * t' → (∀ x, x ∈ S' → t0 ≤ x ∧ x < t') → ac ∈ S' → bL g' (fun x => P x ∨ (t0 ≤ x ∧ x < t' ∧ x ∉ S')) S' ac (iv (bi sb)) pn (apL pre (flt l r)) → Q (.returned (some (.ref ac))) (hp K.n A R g' t' u')) →
      wx K M_Choice_merged (D' + 9) Q 180 [some (.ref a), some (.ref b), some (.ref b), some (.ref ac), some v, none] [] (hp K.n A R g t u) := by
  have hPa' := hP a hPa
  have hPn : ∀ x, P x → K.n + 62 ≤ x := fun x hx => (hP x hx).1
  have hrb := bi_rg sb
  intro r
  induction r with
  | leaf k =>
    intro pre S g t u v hw ht hS hac hga hl hR hbL hb hn hs
    replace hR : v = .null := hR
    subst hR
    have fin := hs g t u S (fun _ => rfl) (fun _ _ => rfl) (Nat.le_refl _) (by omega) hb.2.2 hS hac (by rw [show flt l (.leaf k) = .leaf 0 from rfl, bL_0 hbL]; exact hbL)
    first | refine r_aload 80 rfl rfl ?_ | refine r_aloadN 80 rfl rfl ?_
    refine r_ifnullN (t := 244) 81 rfl (by decide) ?_
    first | refine r_aload_n 107 rfl rfl ?_ | refine r_aload_nN 107 rfl rfl ?_
    refine r_aret 108 rfl rfl (by first | exact Or.inl rfl | exact Or.inr ⟨_, rfl⟩) ?_
    exact fin
  | branch k τ q _ ihq =>
    intro pre S g t u v hw ht hS hac hga hl hR hbL hb hn hs
    rw [wfB_br] at hw
    rw [lQ_brB] at hR
    obtain ⟨b1, c, w, e1, e2, e3, e4, e5⟩ := hR
    subst e1
    have hPb1 := hP b1 e2
    have hSP : ∀ x, P x → x ∉ S := fun x hx h => by have := hS x h; have := hP x hx; omega
    have hacS := hS ac hac
    obtain ⟨bb0, bb1, bb2⟩ := hb
    have hh := fdL_has l (k / 3)
    rw [flt_br] at hn hs bb1
    have step : ∀ (g1 : Nat → Nat × List Value) (t1 u1 : Nat) (w' : Value), w' = w → g1 b1 = g b1 → wx K M_Choice_merged (D' + 9) Q 180 [some (.ref a), some (.ref b), some (.ref b), some (.ref ac), some w', none] [] (hp K.n A R g1 t1 u1) → wx K M_Choice_merged (D' + 9) Q 234 [some (.ref a), some (.ref b), some (.ref b), some (.ref ac), some (.ref b1), none] [] (hp K.n A R g1 t1 u1) := by
      intro g1 t1 u1 w' hw' hg1 nx
      subst hw'
      rw [e3] at hg1
      rcases lQ_v q e5 with f | ⟨b', f⟩
      · subst f
        first | refine r_aload 103 rfl rfl ?_ | refine r_aloadN 103 rfl rfl ?_
        refine r_getg 104 rfl f_Choice_29 (by omega) hg1 rfl ?_
        first | refine r_astore 105 rfl (Nat.le_of_ble_eq_true rfl) ?_ | refine r_astoreN 105 rfl (Nat.le_of_ble_eq_true rfl) ?_
        refine r_goto (t := 180) 106 rfl (by decide) ?_
        exact nx
      · subst f
        first | refine r_aload 103 rfl rfl ?_ | refine r_aloadN 103 rfl rfl ?_
        refine r_getg 104 rfl f_Choice_29 (by omega) hg1 rfl ?_
        first | refine r_astore 105 rfl (Nat.le_of_ble_eq_true rfl) ?_ | refine r_astoreN 105 rfl (Nat.le_of_ble_eq_true rfl) ?_
        refine r_goto (t := 180) 106 rfl (by decide) ?_
        exact nx
    cases hf : fdL l (k / 3) with
    | some pr =>
      rw [hf] at hh
      have hh' : hasL l (k / 3 : Nat) = true := hh.symm
      rw [if_pos hh'] at hn hs bb1
      have nx := step g t u w rfl rfl (ihq pre S g t u w hw.2.2.2 ht hS hac hga hl e5 hbL ⟨bb0, bb1, bb2⟩ hn hs)
      first | refine r_aload 80 rfl rfl ?_ | refine r_aloadN 80 rfl rfl ?_
      refine r_ifnull 81 rfl ?_
      refine r_aload_n 82 rfl rfl ?_
      first | refine r_aload 83 rfl rfl ?_ | refine r_aloadN 83 rfl rfl ?_
      refine r_getg 84 rfl f_Choice_32 (by omega) e3 rfl ?_
      refine r_callv1 85 rfl l_Choice_41 (hpg (by omega) hga) (Nat.le_of_ble_eq_true rfl) ?_
      refine c_Choice_of hPn (by omega) hw.1 hwl hga hl (fun h => absurd (hf.symm.trans h) (by intro h; cases h)) (fun k' τ' b2 c2 w2 h f1 f2 f3 => cp1 ?_)
      refine r_ifnull 86 rfl ?_
      refine r_goto (t := 234) 87 rfl (by decide) ?_
      exact nx
    | none =>
      rw [hf] at hh
      have hh' : ¬ hasL l (k / 3 : Nat) = true := by rw [← hh]; decide
      rw [if_neg hh'] at hn hs bb1
      have hlen := lenB_br k τ (flt l q)
      rcases bi_01 sb with ⟨h1, h2⟩ | ⟨h1, h2⟩
      · have fin := hn t (gu g t (31, [])) (t + 1) (u + 6) h1 (by intro h; cases h) (fun x hx => gu_n g _ (by omega)) (gu_s _ _ _) bb0 (by omega) (by omega) (by omega) (ubs bb2 (by decide))
        first | refine r_aload 80 rfl rfl ?_ | refine r_aloadN 80 rfl rfl ?_
        refine r_ifnull 81 rfl ?_
        refine r_aload_n 82 rfl rfl ?_
        first | refine r_aload 83 rfl rfl ?_ | refine r_aloadN 83 rfl rfl ?_
        refine r_getg 84 rfl f_Choice_32 (by omega) e3 rfl ?_
        refine r_callv1 85 rfl l_Choice_41 (hpg (by omega) hga) (Nat.le_of_ble_eq_true rfl) ?_
        refine c_Choice_of hPn (by omega) hw.1 hwl hga hl (fun _ => cp1 ?_) (fun k' τ' b2 c2 w2 h => absurd (hf.symm.trans h) (by intro h; cases h))
        refine r_ifnullN (t := 200) 86 rfl (by decide) ?_
        refine r_aload_n 88 rfl rfl ?_
        refine r_getg 89 rfl f_Choice_7 (by omega) hga rfl ?_
        refine r_if_eq (t := 215) 90 rfl (by decide) (by first | exact hA _ _ | exact ⟨by decide, by decide⟩ | assumption | exact ⟨by omega, by omega⟩) (fun c_204 => by omega) (fun c_204 => ?_)
        refine r_throwg 91 rfl rfl rfl rfl t_Choice_35 rfl (Nat.le_of_ble_eq_true rfl) (by omega) (by omega) (by omega) (by omega) ?_
        exact fin
      · have nx : ∀ g1, (∀ x, x < t → x ∉ S → g1 x = g x) → bL g1 (fun x => P x ∨ (t0 ≤ x ∧ x < t ∧ x ∉ S)) (t :: S) ac (iv (bi sb)) pn (apL pre (.branch k τ (.leaf 0))) → wx K M_Choice_merged (D' + 9) Q 234 [some (.ref a), some (.ref b), some (.ref b), some (.ref ac), some (.ref b1), none] [] (hp K.n A R g1 (t + 1) (u + 4)) := fun g1 k1 k2 => by
          have g1P : ∀ x, P x → g1 x = g x := fun x hx => k1 x (by have := hP x hx; omega) (hSP x hx)
          have g10 : ∀ x, x < t0 → g1 x = g x := fun x hx => k1 x (by omega) (fun h => by have := hS x h; omega)
          refine step g1 (t + 1) (u + 4) w rfl (g1P b1 e2) (ihq (apL pre (.branch k τ (.leaf 0))) (t :: S) g1 (t + 1) (u + 4) w hw.2.2.2 (by omega) (fun x hx => ?_) (List.mem_cons_of_mem _ hac) (by rw [g1P a hPa]; exact hga) ((lQ_fr (fun x hx => ⟨hx, g1P x hx⟩) l).2 va hl) ((lQ_fr (fun x hx => ⟨hx, g1P x hx⟩) q).2 w e5) (bL_fr (List.mem_cons_of_mem _ hac) (fun x hx => ⟨?_, rfl⟩) (fun _ _ => rfl) k2) ⟨by omega, by omega, ubs bb2 (by decide)⟩ (fun e g' t' u' q1 => absurd (h1.symm.trans q1) (by decide)) (fun g' t' u' S' q1 q2 q3 q4 q5 q6 q7 q8 => hs g' t' u' S' (fun q => absurd (h1.symm.trans q) (by decide)) (fun x hx => by rw [q2 x hx]; exact g10 x hx) (by omega) (by omega) q5 q6 q7 (by rw [apL_as] at q8; exact q8)))
          · rcases List.mem_cons.mp hx with h | h
            · omega
            · have := hS x h; omega
          · rcases hx with hx | hx
            · exact Or.inl hx
            · refine Or.inr ⟨hx.1, by omega, fun h => ?_⟩
              rcases List.mem_cons.mp h with h | h
              · omega
              · exact hx.2.2 h
        obtain ⟨av, hav⟩ : ∃ av : Value × Value, g ac = (11, [iv (bi sb), pn, av.1, av.2]) := by
          rcases hbL with ⟨-, h⟩ | ⟨fv, hb', h, -⟩
          · exact ⟨(_, _), h⟩
          · exact ⟨(_, _), h⟩
        first | refine r_aload 80 rfl rfl ?_ | refine r_aloadN 80 rfl rfl ?_
        refine r_ifnull 81 rfl ?_
        refine r_aload_n 82 rfl rfl ?_
        first | refine r_aload 83 rfl rfl ?_ | refine r_aloadN 83 rfl rfl ?_
        refine r_getg 84 rfl f_Choice_32 (by omega) e3 rfl ?_
        refine r_callv1 85 rfl l_Choice_41 (hpg (by omega) hga) (Nat.le_of_ble_eq_true rfl) ?_
        refine c_Choice_of hPn (by omega) hw.1 hwl hga hl (fun _ => cp1 ?_) (fun k' τ' b2 c2 w2 h => absurd (hf.symm.trans h) (by intro h; cases h))
        refine r_ifnullN (t := 200) 86 rfl (by decide) ?_
        refine r_aload_n 88 rfl rfl ?_
        refine r_getg 89 rfl f_Choice_7 (by omega) hga rfl ?_
        refine r_if_eq (t := 215) 90 rfl (by decide) (by first | exact hA _ _ | exact ⟨by decide, by decide⟩ | assumption | exact ⟨by omega, by omega⟩) (fun c_204 => ?_) (fun c_204 => by omega)
        first | refine r_aload_n 95 rfl rfl ?_ | refine r_aload_nN 95 rfl rfl ?_
        first | refine r_aload 96 rfl rfl ?_ | refine r_aloadN 96 rfl rfl ?_
        refine r_getg 97 rfl f_Choice_32 (by omega) e3 rfl ?_
        first | refine r_aload 98 rfl rfl ?_ | refine r_aloadN 98 rfl rfl ?_
        refine r_getg 99 rfl f_Choice_45 (by omega) e3 rfl ?_
        first | refine r_aload 100 rfl rfl ?_ | refine r_aloadN 100 rfl rfl ?_
        refine r_getg 101 rfl f_Choice_48 (by omega) e3 rfl ?_
        refine r_callv3 102 rfl l_Choice_56 (hpg (by omega) hav) (Nat.le_of_ble_eq_true rfl) ?_
        refine c_Choice_addB ⟨bb0, by omega, bb2⟩ hac (fun x hx => by have := hS x hx; omega) (fun x hx => by rcases hx with hx | hx; exact ⟨by have := hP x hx; omega, hSP x hx⟩; exact ⟨hx.2.1, hx.2.2⟩) hbL ((lQ_fr (fun x hx => ⟨Or.inl hx, rfl⟩) τ).1 c e4) (fun g1 k1 k2 => cp0 ?_)
        exact nx g1 k1 k2
/-- what an object is -/
theorem lQ_cls {g : Nat → Nat × List Value} {P : Nat → Prop} (β : Tr) {b : Nat} (h : (lQ g P β).1 b) : (β = .leaf 0 ∧ g b = (8, [])) ∨ (∃ k, k ≠ 0 ∧ β = .leaf k ∧ g b = (9, [iv ((k : Int) - 1)])) ∨ (∃ k l r c, k < 3 ∧ β = .branch k l r ∧ g b = (10, [iv k, .ref c]) ∧ (lQ g P l).1 c) ∨ ∃ k l r v z, ¬ k < 3 ∧ β = .branch k l r ∧ g b = (11, [iv (if k < 7 then 1 else 0), iv ((k - 3) % 4 : Nat), v, z]) ∧ (lQ g P l).2 v := by
  cases β with
  | leaf k =>
    rw [lQ_lf] at h
    by_cases e : k = 0
    · rw [if_pos e] at h; exact Or.inl ⟨by rw [e], h.2⟩
    · rw [if_neg e] at h; exact Or.inr (Or.inl ⟨k, e, rfl, h.2⟩)
  | branch k l r =>
    rw [lQ_br] at h
    by_cases e : k < 3
    · rw [if_pos e] at h
      obtain ⟨-, c, h1, h2⟩ := h
      exact Or.inr (Or.inr (Or.inl ⟨k, l, r, c, e, rfl, h1, h2⟩))
    · rw [if_neg e] at h
      obtain ⟨-, v, z, h1, h2⟩ := h
      exact Or.inr (Or.inr (Or.inr ⟨k, l, r, v, z, e, rfl, h1, h2⟩))
theorem xmg_lf (k : Nat) : okMg K A R (.leaf k) := by
  intro D a b β P g t u Q hw hw' hk hk' hD hP hRa hRb hb hn hs
  obtain ⟨d, rfl⟩ : ∃ d, D = d + 8 := ⟨D - 8, by omega⟩
  have hb1 : bud K t u 1 := ⟨hb.1, by have := hb.2.1; omega, hb.2.2⟩
  obtain ⟨bb0, bb1, bb2⟩ := hb1
  have now : mgE K g t (7 * szT β) t (gu g t (31, [])) (t + 1) (u + 6) := mgE_now ⟨bb0, bb1, bb2⟩
  have hPb := hP b (lQ_in β hRb)
  have hPa := hP a (lQ_in _ hRa)
  have self : mgS K g t (7 * szT β) g t u := ⟨fun _ _ => rfl, Nat.le_refl _, by omega, bb2⟩
  have hRa' : (lQ g (fun x => P x ∨ (t ≤ x ∧ x < t)) (.leaf k)).1 a := (lQ_fr (fun x hx => ⟨Or.inl hx, rfl⟩) (.leaf k)).1 a hRa
  rw [lQ_lf] at hRa
  rw [wfT_leaf] at hw
  unfold sel4
  dsimp only
  by_cases e : k = 0
  · rw [if_pos e]
    subst e
    refine mx_in ok_End_merged rfl (Nat.le_of_ble_eq_true rfl) ?_
    rcases lQ_cls β hRb with ⟨h1, h2⟩ | ⟨k', h0, h1, h2⟩ | ⟨k', l', r', c', h0, h1, h2, h3⟩ | ⟨k', l', r', v', z', h0, h1, h2, h3⟩
    · have fin := hs (.leaf 0) a g t u (by subst h1; rfl) self hRa'
      first | refine r_aload_n 0 rfl rfl ?_ | refine r_aload_nN 0 rfl rfl ?_
      refine r_instY 1 rfl n_End_7 (hpg (by omega) h2) ?_
      refine r_if_ne (t := 15) 2 rfl (by decide) (by first | exact hA _ _ | exact ⟨by decide, by decide⟩ | assumption | exact ⟨by omega, by omega⟩) (fun c_4 => ?_) (fun c_4 => by omega)
      refine r_aload_n 7 rfl rfl ?_
      refine r_aret 8 rfl rfl (by first | exact Or.inl rfl | exact Or.inr ⟨_, rfl⟩) ?_
      exact fin
    all_goals (have fin := hn t _ _ _ (by subst h1; first | rfl | exact if_neg (fun h => h0 h.symm)) now)
    · first | refine r_aload_n 0 rfl rfl ?_ | refine r_aload_nN 0 rfl rfl ?_
      refine r_instN 1 rfl n_End_7 (hpg (by omega) h2) (by decide) ⟨_, _, rfl, rfl, by decide⟩ ?_
      refine r_if_ne (t := 15) 2 rfl (by decide) (by first | exact hA _ _ | exact ⟨by decide, by decide⟩ | assumption | exact ⟨by omega, by omega⟩) (fun c_4 => by omega) (fun c_4 => ?_)
      refine r_throwg 3 rfl rfl rfl rfl t_End_9 rfl (Nat.le_of_ble_eq_true rfl) (by omega) (by omega) (by omega) (by omega) ?_
      exact fin
    · first | refine r_aload_n 0 rfl rfl ?_ | refine r_aload_nN 0 rfl rfl ?_
      refine r_instN 1 rfl n_End_7 (hpg (by omega) h2) (by decide) ⟨_, _, rfl, rfl, by decide⟩ ?_
      refine r_if_ne (t := 15) 2 rfl (by decide) (by first | exact hA _ _ | exact ⟨by decide, by decide⟩ | assumption | exact ⟨by omega, by omega⟩) (fun c_4 => by omega) (fun c_4 => ?_)
      refine r_throwg 3 rfl rfl rfl rfl t_End_9 rfl (Nat.le_of_ble_eq_true rfl) (by omega) (by omega) (by omega) (by omega) ?_
      exact fin
    · first | refine r_aload_n 0 rfl rfl ?_ | refine r_aload_nN 0 rfl rfl ?_
      refine r_instN 1 rfl n_End_7 (hpg (by omega) h2) (by decide) ⟨_, _, rfl, rfl, by decide⟩ ?_
      refine r_if_ne (t := 15) 2 rfl (by decide) (by first | exact hA _ _ | exact ⟨by decide, by decide⟩ | assumption | exact ⟨by omega, by omega⟩) (fun c_4 => by omega) (fun c_4 => ?_)
      refine r_throwg 3 rfl rfl rfl rfl t_End_9 rfl (Nat.le_of_ble_eq_true rfl) (by omega) (by omega) (by omega) (by omega) ?_
      exact fin
  · rw [if_neg e] at hRa ⊢
    have hga := hRa.2
    refine mx_in ok_Variable_merged rfl (Nat.le_of_ble_eq_true rfl) ?_
    rcases lQ_cls β hRb with ⟨h1, h2⟩ | ⟨k', h0, h1, h2⟩ | ⟨k', l', r', c', h0, h1, h2, h3⟩ | ⟨k', l', r', v', z', h0, h1, h2, h3⟩
    · have fin := hn t _ _ _ (by subst h1; exact if_neg e) now
      first | refine r_aload_n 0 rfl rfl ?_ | refine r_aload_nN 0 rfl rfl ?_
      refine r_instN 1 rfl n_Variable_8 (hpg (by omega) h2) (by decide) ⟨_, _, rfl, rfl, by decide⟩ ?_
      refine r_if_eq (t := 21) 2 rfl (by decide) (by first | exact hA _ _ | exact ⟨by decide, by decide⟩ | assumption | exact ⟨by omega, by omega⟩) (fun c_4 => ?_) (fun c_4 => by omega)
      refine r_throwg 9 rfl rfl rfl rfl t_Variable_13 rfl (Nat.le_of_ble_eq_true rfl) (by omega) (by omega) (by omega) (by omega) ?_
      exact fin
    · have hk3 : k' ≤ 3 := by subst h1; exact hw'
      by_cases ek : k = k'
      · have fin := hs (.leaf k) a g t u (by subst h1; exact if_pos ek) self hRa'
        first | refine r_aload_n 0 rfl rfl ?_ | refine r_aload_nN 0 rfl rfl ?_
        refine r_instY 1 rfl n_Variable_8 (hpg (by omega) h2) ?_
        refine r_if_eq (t := 21) 2 rfl (by decide) (by first | exact hA _ _ | exact ⟨by decide, by decide⟩ | assumption | exact ⟨by omega, by omega⟩) (fun c_4 => by omega) (fun c_4 => ?_)
        first | refine r_aload_n 3 rfl rfl ?_ | refine r_aload_nN 3 rfl rfl ?_
        refine r_cast 4 rfl n_Variable_8 (hpg (by omega) h2) ?_
        refine r_getg 5 rfl f_Variable_7 (by omega) h2 rfl ?_
        refine r_aload_n 6 rfl rfl ?_
        refine r_getg 7 rfl f_Variable_7 (by omega) hga rfl ?_
        refine r_icmp_eq (t := 29) 8 rfl (by decide) (by first | exact hA _ _ | exact ⟨by decide, by decide⟩ | assumption | exact ⟨by omega, by omega⟩) (by first | exact hA _ _ | exact ⟨by decide, by decide⟩ | assumption | exact ⟨by omega, by omega⟩) (fun c_18 => ?_) (fun c_18 => by omega)
        refine r_aload_n 13 rfl rfl ?_
        refine r_aret 14 rfl rfl (by first | exact Or.inl rfl | exact Or.inr ⟨_, rfl⟩) ?_
        exact fin
      · have fin := hn t _ _ _ (by subst h1; exact if_neg ek) now
        first | refine r_aload_n 0 rfl rfl ?_ | refine r_aload_nN 0 rfl rfl ?_
        refine r_instY 1 rfl n_Variable_8 (hpg (by omega) h2) ?_
        refine r_if_eq (t := 21) 2 rfl (by decide) (by first | exact hA _ _ | exact ⟨by decide, by decide⟩ | assumption | exact ⟨by omega, by omega⟩) (fun c_4 => by omega) (fun c_4 => ?_)
        first | refine r_aload_n 3 rfl rfl ?_ | refine r_aload_nN 3 rfl rfl ?_
        refine r_cast 4 rfl n_Variable_8 (hpg (by omega) h2) ?_
        refine r_getg 5 rfl f_Variable_7 (by omega) h2 rfl ?_
        refine r_aload_n 6 rfl rfl ?_
        refine r_getg 7 rfl f_Variable_7 (by omega) hga rfl ?_
        refine r_icmp_eq (t := 29) 8 rfl (by decide) (by first | exact hA _ _ | exact ⟨by decide, by decide⟩ | assumption | exact ⟨by omega, by omega⟩) (by first | exact hA _ _ | exact ⟨by decide, by decide⟩ | assumption | exact ⟨by omega, by omega⟩) (fun c_18 => by omega) (fun c_18 => ?_)
        refine r_throwg 9 rfl rfl rfl rfl t_Variable_13 rfl (Nat.le_of_ble_eq_true rfl) (by omega) (by omega) (by omega) (by omega) ?_
        exact fin
    all_goals (have fin := hn t _ _ _ (by subst h1; rfl) now)
    · first | refine r_aload_n 0 rfl rfl ?_ | refine r_aload_nN 0 rfl rfl ?_
      refine r_instN 1 rfl n_Variable_8 (hpg (by omega) h2) (by decide) ⟨_, _, rfl, rfl, by decide⟩ ?_
      refine r_if_eq (t := 21) 2 rfl (by decide) (by first | exact hA _ _ | exact ⟨by decide, by decide⟩ | assumption | exact ⟨by omega, by omega⟩) (fun c_4 => ?_) (fun c_4 => by omega)
      refine r_throwg 9 rfl rfl rfl rfl t_Variable_13 rfl (Nat.le_of_ble_eq_true rfl) (by omega) (by omega) (by omega) (by omega) ?_
      exact fin
    · first | refine r_aload_n 0 rfl rfl ?_ | refine r_aload_nN 0 rfl rfl ?_
      refine r_instN 1 rfl n_Variable_8 (hpg (by omega) h2) (by decide) ⟨_, _, rfl, rfl, by decide⟩ ?_
      refine r_if_eq (t := 21) 2 rfl (by decide) (by first | exact hA _ _ | exact ⟨by decide, by decide⟩ | assumption | exact ⟨by omega, by omega⟩) (fun c_4 => ?_) (fun c_4 => by omega)
      refine r_throwg 9 rfl rfl rfl rfl t_Variable_13 rfl (Nat.le_of_ble_eq_true rfl) (by omega) (by omega) (by omega) (by omega) ?_
      exact fin
end XM83


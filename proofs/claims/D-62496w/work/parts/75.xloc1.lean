/-! the class: reading a local type -/
section XL75
variable {K : xk} {R : Nat → Int → Value} {cx : Int → Int} {len : Int}
theorem c_Choice_addN {A : Nat → Int → Int} {g : Nat → Nat × List Value} {t u d : Nat} {Q : Outcome → xh → Prop} {c ty : Nat} {la so : Int} {s pn : Value} (hb : bud K t u 1) (hc0 : K.n + 62 ≤ c) (hct : c < t) (hc : g c = (11, [s, pn, .null, .null]))
    (hq : Q (.returned none) (hp K.n A R (gu (gu g t (12, [iv la, iv so, .ref ty, .null])) c (11, [s, pn, .ref t, .ref t])) (t + 1) (u + 4))) : mx K M_Choice_add (d + 2) [.ref c, iv la, iv so, .ref ty] (hp K.n A R g t u) Q := by
  obtain ⟨b0, b1, b2⟩ := hb
  generalize hg1 : gu g t (12, [iv 0, iv 0, .null, .null]) = g1
  have g1t : g1 t = (12, [iv 0, iv 0, .null, .null]) := by rw [← hg1]; exact gu_s _ _ _
  have e2 : gu g1 t (12, [iv la, iv so, .ref ty, .null]) = gu g t (12, [iv la, iv so, .ref ty, .null]) := by rw [← hg1, gu_gu]
  generalize hg2 : gu g t (12, [iv la, iv so, .ref ty, .null]) = g2 at hq e2
  have g2c : g2 c = (11, [s, pn, .null, .null]) := by rw [← hg2, gu_n _ _ (by omega)]; exact hc
  have e3 : gu (gu g2 c (11, [s, pn, .ref t, .null])) c (11, [s, pn, .ref t, .ref t]) = gu g2 c (11, [s, pn, .ref t, .ref t]) := gu_gu _ _ _ _
  refine mx_in ok_Choice_add rfl (Nat.le_of_ble_eq_true rfl) ?_
  refine r_newg (n := 4) 0 rfl n_Choice_17 df_12 rfl (by omega) (by omega) (by omega) ?_
  rw [hg1]
  refine r_dup 1 rfl rfl ?_
  refine r_iload_n 2 rfl rfl ?_
  refine r_iload_n 3 rfl rfl ?_
  first | refine r_aload_n 4 rfl rfl ?_ | refine r_aload_nN 4 rfl rfl ?_
  refine r_calli3 5 rfl l_Choice_19 (Nat.le_of_ble_eq_true rfl) ?_
  refine c_Branch_init (by omega) g1t (cp0 ?_)
  rw [e2]
  first | refine r_astore 6 rfl (Nat.le_of_ble_eq_true rfl) ?_ | refine r_astoreN 6 rfl (Nat.le_of_ble_eq_true rfl) ?_
  refine r_aload_n 7 rfl rfl ?_
  refine r_getg 8 rfl f_Choice_22 (by omega) g2c rfl ?_
  refine r_ifnonnullN 9 rfl ?_
  refine r_aload_n 10 rfl rfl ?_
  first | refine r_aload 11 rfl rfl ?_ | refine r_aloadN 11 rfl rfl ?_
  refine r_putg 12 rfl f_Choice_26 (by omega) g2c (by first | rfl | assumption) (by first | rfl | assumption) ?_
  refine r_goto (t := 37) 13 rfl (by decide) ?_
  refine r_aload_n 18 rfl rfl ?_
  first | refine r_aload 19 rfl rfl ?_ | refine r_aloadN 19 rfl rfl ?_
  refine r_putg 20 rfl f_Choice_22 (by omega) (gu_s _ _ _) (by first | rfl | assumption) (by first | rfl | assumption) ?_
  rw [gu_gu]
  refine r_ret 21 rfl rfl ?_
  exact hq
theorem c_Choice_addR {A : Nat → Int → Int} {g : Nat → Nat × List Value} {t u d : Nat} {Q : Outcome → xh → Prop} {c b ty : Nat} {la so : Int} {s pn fv x y z : Value} (hb : bud K t u 1) (hc0 : K.n + 62 ≤ c) (hct : c < t) (hc : g c = (11, [s, pn, fv, .ref b])) (hb0 : K.n + 62 ≤ b) (hbt : b < t) (hbc : b ≠ c) (hbg : g b = (12, [x, y, z, .null]))
    (hq : Q (.returned none) (hp K.n A R (gu (gu (gu g t (12, [iv la, iv so, .ref ty, .null])) b (12, [x, y, z, .ref t])) c (11, [s, pn, fv, .ref t])) (t + 1) (u + 4))) : mx K M_Choice_add (d + 2) [.ref c, iv la, iv so, .ref ty] (hp K.n A R g t u) Q := by
  obtain ⟨b0, b1, b2⟩ := hb
  generalize hg1 : gu g t (12, [iv 0, iv 0, .null, .null]) = g1
  have g1t : g1 t = (12, [iv 0, iv 0, .null, .null]) := by rw [← hg1]; exact gu_s _ _ _
  have e2 : gu g1 t (12, [iv la, iv so, .ref ty, .null]) = gu g t (12, [iv la, iv so, .ref ty, .null]) := by rw [← hg1, gu_gu]
  generalize hg2 : gu g t (12, [iv la, iv so, .ref ty, .null]) = g2 at hq e2
  have g2c : g2 c = (11, [s, pn, fv, .ref b]) := by rw [← hg2, gu_n _ _ (by omega)]; exact hc
  have g2b : g2 b = (12, [x, y, z, .null]) := by rw [← hg2, gu_n _ _ (by omega)]; exact hbg
  have g3c : gu g2 b (12, [x, y, z, .ref t]) c = (11, [s, pn, fv, .ref b]) := by rw [gu_n _ _ (fun h => hbc h.symm)]; exact g2c
  refine mx_in ok_Choice_add rfl (Nat.le_of_ble_eq_true rfl) ?_
  refine r_newg (n := 4) 0 rfl n_Choice_17 df_12 rfl (by omega) (by omega) (by omega) ?_
  rw [hg1]
  refine r_dup 1 rfl rfl ?_
  refine r_iload_n 2 rfl rfl ?_
  refine r_iload_n 3 rfl rfl ?_
  first | refine r_aload_n 4 rfl rfl ?_ | refine r_aload_nN 4 rfl rfl ?_
  refine r_calli3 5 rfl l_Choice_19 (Nat.le_of_ble_eq_true rfl) ?_
  refine c_Branch_init (by omega) g1t (cp0 ?_)
  rw [e2]
  first | refine r_astore 6 rfl (Nat.le_of_ble_eq_true rfl) ?_ | refine r_astoreN 6 rfl (Nat.le_of_ble_eq_true rfl) ?_
  refine r_aload_n 7 rfl rfl ?_
  refine r_getg 8 rfl f_Choice_22 (by omega) g2c rfl ?_
  refine r_ifnonnull (t := 28) 9 rfl (by decide) ?_
  refine r_aload_n 14 rfl rfl ?_
  refine r_getg 15 rfl f_Choice_22 (by omega) g2c rfl ?_
  first | refine r_aload 16 rfl rfl ?_ | refine r_aloadN 16 rfl rfl ?_
  refine r_putg 17 rfl f_Choice_29 (by omega) g2b (by first | rfl | assumption) (by first | rfl | assumption) ?_
  refine r_aload_n 18 rfl rfl ?_
  first | refine r_aload 19 rfl rfl ?_ | refine r_aloadN 19 rfl rfl ?_
  refine r_putg 20 rfl f_Choice_22 (by omega) g3c (by first | rfl | assumption) (by first | rfl | assumption) ?_
  refine r_ret 21 rfl rfl ?_
  exact hq
/-- a choice under way -/
def cH (g : Nat → Nat × List Value) (ac : Nat) (s pn fv lv : Value) (hb : Nat) (bc : Value → Nat × List Value) : Prop := g ac = (11, [s, pn, fv, lv]) ∧ ((lv = .null ∧ fv = .null ∧ hb = ac) ∨ (lv = .ref hb ∧ hb ≠ ac ∧ g hb = bc .null ∧ ∃ (x y : Int) (c' : Nat), bc = fun v => (12, [iv x, iv y, .ref c', v])))
def cF (g' : Nat → Nat × List Value) (ac : Nat) (s pn fv lv : Value) (hb : Nat) (bc : Value → Nat × List Value) (v : Value) : Prop := ∃ lw, (lv = .null → g' ac = (11, [s, pn, v, lw])) ∧ (lv ≠ .null → g' ac = (11, [s, pn, fv, lw]) ∧ g' hb = bc v)
def yE (K : xk) (g : Nat → Nat × List Value) (t ha hb : Nat) (A : Nat → Int → Int) (p e : Int) (a : Nat) (A' : Nat → Int → Int) (g' : Nat → Nat × List Value) (t' u' : Nat) : Prop := frX A A' ∧ A' 1 2 = e ∧ (∀ x, x < t → x ≠ ha → x ≠ hb → g' x = g x) ∧ (g' a = (30, []) ∧ K.n + 62 ≤ a ∧ a < t') ∧ t ≤ t' ∧ (t' : Int) ≤ t + (e - p) + 1 ∧ u' + 7 * (K.n + 600128) ≤ 7301098 + 7 * t'
def yS (K : xk) (g : Nat → Nat × List Value) (t ha hb : Nat) (A : Nat → Int → Int) (p p' k' : Int) (A' : Nat → Int → Int) (g' : Nat → Nat × List Value) (t' u' : Nat) : Prop := frX A A' ∧ rsX A A' ∧ A' 1 2 = p' ∧ A' 1 3 = k' ∧ (∀ x, x < t → x ≠ ha → x ≠ hb → g' x = g x) ∧ t ≤ t' ∧ (t' : Int) ≤ t + (p' - p) ∧ u' + 7 * (K.n + 600128) ≤ 7301098 + 7 * t'
theorem yE_mk {A A' : Nat → Int → Int} {env : List Int} {p e k : Int} {g g1 : Nat → Nat × List Value} {t t1 u1 ha hb : Nat} (h : xP K A' cx len env e k t1 u1) (hf : frX A A') (hg : ∀ x, x < t → x ≠ ha → x ≠ hb → g1 x = g x) (ht : t ≤ t1) (hbb : (t1 : Int) ≤ t + (e - p)) : yE K g t ha hb A p e t1 A' (xt g1 t1) (t1 + 1) (u1 + 6) := by
  obtain ⟨-, -, -, ⟨h3, -, -⟩, -, -, a, b, c⟩ := h
  have q1 : ((t1 + 1 : Nat) : Int) ≤ t + (e - p) + 1 := by omega
  have q2 : u1 + 6 + 7 * (K.n + 600128) ≤ 7301098 + 7 * (t1 + 1) := ubs c (by decide)
  exact ⟨hf, h3, fun x hx hn hm => by rw [xt_n g1 (by omega)]; exact hg x hx hn hm, ⟨xt_s _ _, a, Nat.lt_succ_self _⟩, Nat.le_succ_of_le ht, q1, q2⟩
def okXL (K : xk) (R : Nat → Int → Value) (cx : Int → Int) (len : Int) (f : Nat) : Prop := ∀ (env : List Int) (p k : Int) (bef : Int → Bool) (A : Nat → Int → Int) (g : Nat → Nat × List Value) (t u D : Nat) (Q : Outcome → xh → Prop), xP K A cx len env p k t u → len - p < f → 2 * f + 12 ≤ D →
  (∀ e a A' g' t' u', pr cx true f false env p k bef = .inl e → xE K g t t A p e a A' g' t' u' → Q (.threw a) (hp K.n A' R g' t' u')) →
  (∀ τ p' k' a A' g' t' u', pr cx true f false env p k bef = .inr (τ, p', k') → xS K g t t A p p' k' A' g' t' u' → (lR g' t t' τ).1 a → Q (.returned (some (.ref a))) (hp K.n A' R g' t' u')) → mx K M_X_local D [.ref (xa K.n 1)] (hp K.n A R g t u) Q
def okXC (K : xk) (R : Nat → Int → Value) (cx : Int → Int) (len : Int) (f : Nat) : Prop := ∀ (env : List Int) (p k : Int) (bef : Int → Bool) (A : Nat → Int → Int) (g : Nat → Nat × List Value) (t u D : Nat) (Q : Outcome → xh → Prop) (z ac hb : Nat) (pn sn was : Int) (s p2 fv lv : Value) (bc : Value → Nat × List Value), xP K A cx len (3 :: env) p k t u → len - p < f → 2 * f + 11 ≤ D → bz bef z → K.n + 62 ≤ ac → ac < t → K.n + 62 ≤ hb → hb < t → cH g ac s p2 fv lv hb bc →
  (∀ e a A' g' t' u', pr cx true f true (3 :: env) p k bef = .inl e → yE K g t ac hb A p e a A' g' t' u' → Q (.threw a) (hp K.n A' R g' t' u')) →
  (∀ bs p' k' v A' g' t' u', pr cx true f true (3 :: env) p k bef = .inr (bs, p', k') → yS K g t ac hb A p p' k' A' g' t' u' → cF g' ac s p2 fv lv hb bc v → (lR g' t t' bs).2 v → wx K M_X_choice D Q 162 [some (.ref (xa K.n 1)), some (iv pn), some (iv sn), some (.ref ac), some (iv was), none, none, none, none, none] [] (hp K.n A' R g' t' u')) →
  wx K M_X_choice D Q 70 [some (.ref (xa K.n 1)), some (iv pn), some (iv sn), some (.ref ac), some (iv was), some (iv z), some (iv 1), some (iv (pop6 z)), none, none] [] (hp K.n A R g t u)
theorem xc_exit {d : Nat} {Q : Outcome → xh → Prop} {ac : Nat} {pn sn was tn : Int} {v5 v8 v9 : Value} {h : xh} (t0 : 0 ≤ tn) (t1 : tn ≤ 7) (hq : wx K M_X_choice d Q 156 [some (.ref (xa K.n 1)), some (iv pn), some (iv sn), some (.ref ac), some (iv was), none, none, none, none, none] [] h) :
    wx K M_X_choice d Q 70 [some (.ref (xa K.n 1)), some (iv pn), some (iv sn), some (.ref ac), some (iv was), some v5, some (iv 0), some (iv tn), some v8, some v9] [] h := by
  have hnx : wx K M_X_choice d Q 156 [some (.ref (xa K.n 1)), some (iv pn), some (iv sn), some (.ref ac), some (iv was), some v5, some (iv 0), some (iv tn), some v8, some v9] [] h := wx_t (pre := [some (.ref (xa K.n 1)), some (iv pn), some (iv sn), some (.ref ac), some (iv was)]) (tl := [some v5, some (iv 0), some (iv tn), some v8, some v9]) hq
  by_cases c : 6 < tn
  · refine r_iload 38 rfl rfl ?_
    refine r_bipush 39 rfl rfl ?_
    refine r_icmp_gt (t := 156) 40 rfl (by decide) (by first | exact hA _ _ | exact ⟨by decide, by decide⟩ | assumption | exact ⟨by omega, by omega⟩) (by first | exact hA _ _ | exact ⟨by decide, by decide⟩ | assumption | exact ⟨by omega, by omega⟩) (fun c_74 => ?_) (fun c_74 => by omega)
    exact hnx
  · refine r_iload 38 rfl rfl ?_
    refine r_bipush 39 rfl rfl ?_
    refine r_icmp_gt (t := 156) 40 rfl (by decide) (by first | exact hA _ _ | exact ⟨by decide, by decide⟩ | assumption | exact ⟨by omega, by omega⟩) (by first | exact hA _ _ | exact ⟨by decide, by decide⟩ | assumption | exact ⟨by omega, by omega⟩) (fun c_74 => by omega) (fun c_74 => ?_)
    refine r_iload 41 rfl rfl ?_
    refine r_if_eq (t := 156) 42 rfl (by decide) (by first | exact hA _ _ | exact ⟨by decide, by decide⟩ | assumption | exact ⟨by omega, by omega⟩) (fun c_79 => ?_) (fun c_79 => by omega)
    exact hnx
theorem xc_step (hx : ∀ i, len ≤ i → cx i = -1) (f : Nat) (ihT : okXL K R cx len f) (ihB : okXC K R cx len f) : okXC K R cx len (f + 1) := by
  intro env p k bef A g t u D Q z ac hb pn sn was s p2 fv lv bc hP hfu hD hbz ham hact hhb hhbt hcH herr hok
  obtain ⟨d, rfl⟩ : ∃ d, D = d + 13 := ⟨D - 13, by omega⟩
  have hbz' := hbz
  obtain ⟨hz64, hbz2⟩ := hbz'
  have hpop := pop6_le z
  have hB := hP.1
  have hA := hB.1
  obtain ⟨hb0, hb1, hb2⟩ := hP.2.2.2.2.2.2
  have hpp := hP.2.2.2.1
  have here := xP_h hx hP
  rw [pr_B] at herr hok
  by_cases c1 : cx p < 102 ∨ 107 < cx p ∨ bef (cx p - 102) = true
  · rw [if_pos c1] at herr
    have fin := herr p t A _ _ _ rfl (yE_mk (g1 := g) (u1 := u) hP (frX.rf hA) (fun _ _ _ _ => rfl) (Nat.le_refl _) (by omega))
    have habs : 102 ≤ xHere A → xHere A ≤ 107 → z / 2 ^ (xHere A - 102).toNat % 2 = 0 → False := fun h1 h2 h3 => by
      have e : xHere A = cx p := by omega
      rw [e] at h1 h2 h3
      have := (hbz2 (cx p - 102).toNat (by omega))
      rw [show (((cx p - 102).toNat : Nat) : Int) = cx p - 102 by omega] at this
      rcases c1 with c | c | c
      · omega
      · omega
      · have := this.mp c; omega
    refine r_iload 38 rfl rfl ?_
    refine r_bipush 39 rfl rfl ?_
    refine r_icmp_gt (t := 156) 40 rfl (by decide) (by first | exact hA _ _ | exact ⟨by decide, by decide⟩ | assumption | exact ⟨by omega, by omega⟩) (by first | exact hA _ _ | exact ⟨by decide, by decide⟩ | assumption | exact ⟨by omega, by omega⟩) (fun c_74 => by omega) (fun c_74 => ?_)
    refine r_iload 41 rfl rfl ?_
    refine r_if_eq (t := 156) 42 rfl (by decide) (by first | exact hA _ _ | exact ⟨by decide, by decide⟩ | assumption | exact ⟨by omega, by omega⟩) (fun c_79 => by omega) (fun c_79 => ?_)
    refine r_aload_n 43 rfl rfl ?_
    refine r_iload 44 rfl rfl ?_
    refine r_callv1 45 rfl l_X_74 (hp_at rfl) (Nat.le_of_ble_eq_true rfl) ?_
    refine c_R_label hB hz64 (xP_bud hP) (fun _ => cpt rfl fin) (fun h1 h2 h3 => absurd (habs h1 h2 h3) id)
  rw [if_neg c1] at herr hok
  have e0 : xHere A = cx p := by omega
  have hp0 : p < len := by omega
  obtain ⟨hP1, f1, r1⟩ := xP_adv hP hp0
  have here1 := xP_h hx hP1
  obtain ⟨lb, hlb⟩ : ∃ lb : Nat, (lb : Int) = cx p - 102 := ⟨(cx p - 102).toNat, by omega⟩
  have hlb6 : lb < 6 := by omega
  have hbit : z / 2 ^ lb % 2 = 0 := by
    have h1 := hbz2 lb hlb6
    have h2 : ¬ bef (lb : Int) = true := fun h => c1 (Or.inr (Or.inr (by rw [← hlb]; exact h)))
    have h3 : ¬ z / 2 ^ lb % 2 = 1 := fun h => h2 (h1.mpr h)
    omega
  obtain ⟨hbz3, hpop3⟩ := bz_add hbz hlb6 hbit
  have hnl : ¬ (xHere A < 102 ∨ 107 < xHere A ∨ z / 2 ^ (xHere A - 102).toNat % 2 = 1) := by
    rw [e0, show (cx p - 102).toNat = lb by omega]; omega
  have eL : xHere A - 102 = (lb : Int) := by omega
  have hA1 := hP1.1.1
  by_cases c2 : cx (p + 1) < 48 ∨ 50 < cx (p + 1)
  · rw [if_pos c2] at herr
    have fin := herr (p + 1) t (xAdv A) _ _ _ rfl (yE_mk (g1 := g) (u1 := u) hP1 f1 (fun _ _ _ _ => rfl) (Nat.le_refl _) (by omega))
    refine r_iload 38 rfl rfl ?_
    refine r_bipush 39 rfl rfl ?_
    refine r_icmp_gt (t := 156) 40 rfl (by decide) (by first | exact hA _ _ | exact ⟨by decide, by decide⟩ | assumption | exact ⟨by omega, by omega⟩) (by first | exact hA _ _ | exact ⟨by decide, by decide⟩ | assumption | exact ⟨by omega, by omega⟩) (fun c_74 => by omega) (fun c_74 => ?_)
    refine r_iload 41 rfl rfl ?_
    refine r_if_eq (t := 156) 42 rfl (by decide) (by first | exact hA _ _ | exact ⟨by decide, by decide⟩ | assumption | exact ⟨by omega, by omega⟩) (fun c_79 => by omega) (fun c_79 => ?_)
    refine r_aload_n 43 rfl rfl ?_
    refine r_iload 44 rfl rfl ?_
    refine r_callv1 45 rfl l_X_74 (hp_at rfl) (Nat.le_of_ble_eq_true rfl) ?_
    refine c_R_label hB hz64 (xP_bud hP) (fun h => absurd h hnl) (fun h1 h2 h3 => cp1 ?_)
    rw [eL]
    refine r_istore 46 rfl (Nat.le_of_ble_eq_true rfl) ?_
    refine r_iload 47 rfl rfl ?_
    refine r_iconst 48 rfl ?_
    refine r_iload 49 rfl rfl ?_
    refine r_ishl 50 _ rfl (shl_i lb hlb6) ?_
    refine r_ior 51 _ rfl (or_i z hz64 _ (Nat.pow_lt_pow_right (by decide) hlb6)) ?_
    refine r_istore 52 rfl (Nat.le_of_ble_eq_true rfl) ?_
    refine r_aload_n 53 rfl rfl ?_
    refine r_callv0 54 rfl l_X_77 (hp_at rfl) (Nat.le_of_ble_eq_true rfl) ?_
    refine c_R_sort hP1.1 (xP_bud hP1) (fun _ => cpt rfl fin) (fun h1 h2 => absurd c2 (by omega))
  rw [if_neg c2] at herr hok
  have e1 : xHere (xAdv A) = cx (p + 1) := by omega
  obtain ⟨hP2, f2, r2⟩ := xP_adv hP1 (by omega)
  have here2 := xP_h hx hP2
  rw [show p + 1 + 1 = p + 2 by omega] at hP2 here2
  obtain ⟨so, hso⟩ : ∃ so : Int, so = cx (p + 1) - 48 := ⟨_, rfl⟩
  have eS : xHere (xAdv A) - 48 = so := by omega
  have hA2 := hP2.1.1
  by_cases c3 : cx (p + 2) ≠ 58
  · rw [if_pos c3] at herr
    have fin := herr (p + 2) t (xAdv (xAdv A)) _ _ _ rfl (yE_mk (g1 := g) (u1 := u) hP2 (f1.tr f2) (fun _ _ _ _ => rfl) (Nat.le_refl _) (by omega))
    refine r_iload 38 rfl rfl ?_
    refine r_bipush 39 rfl rfl ?_
    refine r_icmp_gt (t := 156) 40 rfl (by decide) (by first | exact hA _ _ | exact ⟨by decide, by decide⟩ | assumption | exact ⟨by omega, by omega⟩) (by first | exact hA _ _ | exact ⟨by decide, by decide⟩ | assumption | exact ⟨by omega, by omega⟩) (fun c_74 => by omega) (fun c_74 => ?_)
    refine r_iload 41 rfl rfl ?_
    refine r_if_eq (t := 156) 42 rfl (by decide) (by first | exact hA _ _ | exact ⟨by decide, by decide⟩ | assumption | exact ⟨by omega, by omega⟩) (fun c_79 => by omega) (fun c_79 => ?_)
    refine r_aload_n 43 rfl rfl ?_
    refine r_iload 44 rfl rfl ?_
    refine r_callv1 45 rfl l_X_74 (hp_at rfl) (Nat.le_of_ble_eq_true rfl) ?_
    refine c_R_label hB hz64 (xP_bud hP) (fun h => absurd h hnl) (fun h1 h2 h3 => cp1 ?_)
    rw [eL]
    refine r_istore 46 rfl (Nat.le_of_ble_eq_true rfl) ?_
    refine r_iload 47 rfl rfl ?_
    refine r_iconst 48 rfl ?_
    refine r_iload 49 rfl rfl ?_
    refine r_ishl 50 _ rfl (shl_i lb hlb6) ?_
    refine r_ior 51 _ rfl (or_i z hz64 _ (Nat.pow_lt_pow_right (by decide) hlb6)) ?_
    refine r_istore 52 rfl (Nat.le_of_ble_eq_true rfl) ?_
    refine r_aload_n 53 rfl rfl ?_
    refine r_callv0 54 rfl l_X_77 (hp_at rfl) (Nat.le_of_ble_eq_true rfl) ?_
    refine c_R_sort hP1.1 (xP_bud hP1) (fun h => absurd h (by omega)) (fun h1 h2 => cp1 ?_)
    rw [eS]
    refine r_istore 55 rfl (Nat.le_of_ble_eq_true rfl) ?_
    refine r_aload_n 56 rfl rfl ?_
    refine r_bipush 57 rfl rfl ?_
    refine r_callv1 58 rfl l_X_21 (hp_at rfl) (Nat.le_of_ble_eq_true rfl) ?_
    refine c_R_sign hP2.1 ⟨by decide, by decide⟩ (xP_bud hP2) (fun _ => cpt rfl fin) (fun h => absurd h (by omega))
  rw [if_neg c3] at herr hok
  have e2 : xHere (xAdv (xAdv A)) = cx (p + 2) := by omega
  obtain ⟨hP3, f3, r3⟩ := xP_adv hP2 (by omega)
  rw [show p + 2 + 1 = p + 3 by omega] at hP3
  generalize hA3 : xAdv (xAdv (xAdv A)) = A3 at hP3 f3 r3
  have f03 : frX A A3 := (f1.tr f2).tr f3
  have r03 : rsX A A3 := (r1.tr r2).tr r3
  have hk3 := hP.2.2.2.2.1
  have enter : ∀ Q', mx K M_X_local (d + 12) [.ref (xa K.n 1)] (hp K.n A3 R g t u) Q' → (∀ o h', Q' o h' → cpost K M_X_choice (d + 13) Q 117 [some (.ref (xa K.n 1)), some (iv pn), some (iv sn), some (.ref ac), some (iv was), some (iv ((z ||| 2 ^ lb : Nat) : Int)), some (iv 1), some (iv (pop6 z)), some (iv lb), some (iv so)] [iv so, iv lb, .ref ac] o h') → wx K M_X_choice (d + 13) Q 70 [some (.ref (xa K.n 1)), some (iv pn), some (iv sn), some (.ref ac), some (iv was), some (iv z), some (iv 1), some (iv (pop6 z)), none, none] [] (hp K.n A R g t u) := by
    intro Q' hm hpost
    refine r_iload 38 rfl rfl ?_
    refine r_bipush 39 rfl rfl ?_
    refine r_icmp_gt (t := 156) 40 rfl (by decide) (by first | exact hA _ _ | exact ⟨by decide, by decide⟩ | assumption | exact ⟨by omega, by omega⟩) (by first | exact hA _ _ | exact ⟨by decide, by decide⟩ | assumption | exact ⟨by omega, by omega⟩) (fun c_74 => by omega) (fun c_74 => ?_)
    refine r_iload 41 rfl rfl ?_
    refine r_if_eq (t := 156) 42 rfl (by decide) (by first | exact hA _ _ | exact ⟨by decide, by decide⟩ | assumption | exact ⟨by omega, by omega⟩) (fun c_79 => by omega) (fun c_79 => ?_)
    refine r_aload_n 43 rfl rfl ?_
    refine r_iload 44 rfl rfl ?_
    refine r_callv1 45 rfl l_X_74 (hp_at rfl) (Nat.le_of_ble_eq_true rfl) ?_
    refine c_R_label hB hz64 (xP_bud hP) (fun h => absurd h hnl) (fun h1 h2 h3 => cp1 ?_)
    rw [eL]
    refine r_istore 46 rfl (Nat.le_of_ble_eq_true rfl) ?_
    refine r_iload 47 rfl rfl ?_
    refine r_iconst 48 rfl ?_
    refine r_iload 49 rfl rfl ?_
    refine r_ishl 50 _ rfl (shl_i lb hlb6) ?_
    refine r_ior 51 _ rfl (or_i z hz64 _ (Nat.pow_lt_pow_right (by decide) hlb6)) ?_
    refine r_istore 52 rfl (Nat.le_of_ble_eq_true rfl) ?_
    refine r_aload_n 53 rfl rfl ?_
    refine r_callv0 54 rfl l_X_77 (hp_at rfl) (Nat.le_of_ble_eq_true rfl) ?_
    refine c_R_sort hP1.1 (xP_bud hP1) (fun h => absurd h (by omega)) (fun h1 h2 => cp1 ?_)
    rw [eS]
    refine r_istore 55 rfl (Nat.le_of_ble_eq_true rfl) ?_
    refine r_aload_n 56 rfl rfl ?_
    refine r_bipush 57 rfl rfl ?_
    refine r_callv1 58 rfl l_X_21 (hp_at rfl) (Nat.le_of_ble_eq_true rfl) ?_
    refine c_R_sign hP2.1 ⟨by decide, by decide⟩ (xP_bud hP2) (fun h => absurd h (by omega)) (fun h => cp0 ?_)
    rw [hA3]
    first | refine r_aload_n 59 rfl rfl ?_ | refine r_aload_nN 59 rfl rfl ?_
    refine r_iload 60 rfl rfl ?_
    refine r_iload 61 rfl rfl ?_
    refine r_aload_n 62 rfl rfl ?_
    refine r_calls1 63 rfl l_X_104 (Nat.le_of_ble_eq_true rfl) ?_
    refine mx_mono hm hpost
  refine enter _ (ihT (3 :: env) (p + 3) k (fun _ => false) A3 g t u (d + 12) (cpost K M_X_choice (d + 13) Q 117 [some (.ref (xa K.n 1)), some (iv pn), some (iv sn), some (.ref ac), some (iv was), some (iv ((z ||| 2 ^ lb : Nat) : Int)), some (iv 1), some (iv (pop6 z)), some (iv lb), some (iv so)] [iv so, iv lb, .ref ac]) hP3 (by omega) (by omega) (fun e a A' g' t' u' hpr hE => ?_) (fun τ p1 k1 c A4 g4 t4 u4 hpr hS hR => ?_)) (fun _ _ h => h)
  · rw [hpr] at herr
    obtain ⟨q1, q2, q3, q4, q5, q6, q7⟩ := hE
    exact cpt rfl (herr e a A' g' t' u' rfl ⟨f03.tr q1, q2, fun x hx _ _ => q3 x hx (by omega), q4, by omega, by omega, q7⟩)
  · rw [hpr] at herr hok
    dsimp only at herr hok
    obtain ⟨s1, s2, s3, s4, s5, s6, s7, s8⟩ := hS
    have hp1 := (pr_le cx true len hx f _ _ _ _).1 _ _ _ hpr
    obtain ⟨w1, w2, w3, w4⟩ := (pr_ok cx true f (3 :: env) (p + 3) k (fun _ => false) (by omega) (by omega)).1 _ _ _ hpr
    obtain ⟨kk, hkk⟩ : ∃ kk : Nat, kk = (3 * (cx p - 102) + (cx (p + 1) - 48)).toNat := ⟨_, rfl⟩
    have kk3 : (lb : Int) = ((kk / 3 : Nat) : Int) := by omega
    have kkm : so = ((kk % 3 : Nat) : Int) := by omega
    have f04 : frX A A4 := f03.tr s1
    have r04 : rsX A A4 := r03.tr s2
    have hci := lR_in τ hR
    have hP4 : xP K A4 cx len (3 :: env) p1 k1 (t4 + 1) (u4 + 4) := xP_of hP3 s1 s3 (by omega) hp1 s4 (by omega) w4 (og_rs s2 hP3.2.2.2.2.2.1) (by omega) (by omega) (ubs s8 (by decide))
    have here4 := xP_h hx hP4
    have hA4 := hP4.1.1
    have g4o : ∀ x, x < t → g4 x = g x := fun x h => s5 x h (by omega)
    generalize hg5 : gu g4 t4 (12, [iv lb, iv so, .ref c, .null]) = g5
    have g5n : ∀ x, x ≠ t4 → g5 x = g4 x := fun x h => by rw [← hg5]; exact gu_n g4 _ h
    have g5t : g5 t4 = (12, [iv lb, iv so, .ref c, .null]) := by rw [← hg5]; exact gu_s _ _ _
    obtain ⟨hc1, hc2⟩ := hcH
    -- the branch is linked
    obtain ⟨g6, fv', hlink, g6t, g6o, g6c, g6F⟩ : ∃ (g6 : Nat → Nat × List Value) (fv' : Value), (∀ Q', Q' (.returned none) (hp K.n A4 R g6 (t4 + 1) (u4 + 4)) → mx K M_Choice_add (d + 12) [.ref ac, iv lb, iv so, .ref c] (hp K.n A4 R g4 t4 u4) Q') ∧ g6 t4 = (12, [iv lb, iv so, .ref c, .null]) ∧ (∀ x, x < t4 → x ≠ ac → x ≠ hb → g6 x = g4 x) ∧ g6 ac = (11, [s, p2, fv', .ref t4]) ∧ ∀ g' v, (∀ x, x < t4 → x ≠ ac → g' x = g6 x) → (∃ lw, g' ac = (11, [s, p2, fv', lw])) → v = .ref t4 → cF g' ac s p2 fv lv hb bc v := by
      rcases hc2 with ⟨l1, l2, l3⟩ | ⟨l1, l2, l3, x, y, c', l4⟩
      · subst l1 l2 l3
        refine ⟨gu g5 hb (11, [s, p2, .ref t4, .ref t4]), .ref t4, fun Q' hQ' => ?_, by rw [gu_n _ _ (by omega)]; exact g5t, fun x hx1 hx2 _ => by rw [gu_n _ _ hx2]; exact g5n x (by omega), gu_s _ _ _, fun g' v h1 h2 h3 => ?_⟩
        · exact c_Choice_addN ⟨by omega, by omega, s8⟩ ham (by omega) (by rw [g4o _ hact]; exact hc1) (by rw [hg5]; exact hQ')
        · obtain ⟨lw, h2⟩ := h2
          exact ⟨lw, fun _ => by rw [h3]; exact h2, fun h => absurd rfl h⟩
      · subst l1
        rw [l4] at l3
        refine ⟨gu (gu g5 hb (bc (.ref t4))) ac (11, [s, p2, fv, .ref t4]), fv, fun Q' hQ' => ?_, by rw [gu_n _ _ (by omega), gu_n _ _ (by omega)]; exact g5t, fun x hx1 hx2 hx3 => by rw [gu_n _ _ hx2, gu_n _ _ hx3]; exact g5n x (by omega), gu_s _ _ _, fun g' v h1 h2 h3 => ?_⟩
        · rw [l4] at hQ'
          exact c_Choice_addR ⟨by omega, by omega, s8⟩ ham (by omega) (by rw [g4o _ hact]; exact hc1) hhb (by omega) l2 (by rw [g4o _ hhbt]; exact l3) (by rw [hg5]; exact hQ')
        · obtain ⟨lw, h2⟩ := h2
          exact ⟨lw, fun h => (by cases h), fun _ => ⟨h2, by rw [h1 hb (by omega) l2, gu_n _ _ l2, gu_s, h3]⟩⟩
    have g6o' : ∀ x, x < t → x ≠ ac → x ≠ hb → g6 x = g x := fun x a b e => by rw [g6o x (by omega) b e]; exact g4o x a
    have linked : wx K M_X_choice (d + 13) Q 123 [some (.ref (xa K.n 1)), some (iv pn), some (iv sn), some (.ref ac), some (iv was), some (iv ((z ||| 2 ^ lb : Nat) : Int)), some (iv 1), some (iv (pop6 z)), some (iv lb), some (iv so)] [] (hp K.n A4 R g6 (t4 + 1) (u4 + 4)) → cpost K M_X_choice (d + 13) Q 117 [some (.ref (xa K.n 1)), some (iv pn), some (iv sn), some (.ref ac), some (iv was), some (iv ((z ||| 2 ^ lb : Nat) : Int)), some (iv 1), some (iv (pop6 z)), some (iv lb), some (iv so)] [iv so, iv lb, .ref ac] (.returned (some (.ref c))) (hp K.n A4 R g4 t4 u4) := by
      intro nx
      refine cp1 ?_
      have hac4 : g4 ac = (11, [s, p2, fv, lv]) := by rw [g4o _ hact]; exact hc1
      refine r_callv3 64 rfl l_X_121 (hpg ham hac4) (Nat.le_of_ble_eq_true rfl) ?_
      refine hlink _ (cp0 ?_)
      exact nx
    refine linked ?_
    have tRep : ∀ (g' : Nat → Nat × List Value) (t' : Nat), t4 + 1 ≤ t' → (∀ x, t ≤ x → x < t4 → g' x = g4 x) → (lR g' t t' τ).1 c := fun g' t' h1 h2 => (lR_fr (fun x x0 x1 => h2 x x0 x1) (Nat.le_refl _) (by omega) τ).1 c hR
    by_cases c4 : cx p1 = 44
    · rw [if_pos c4] at herr
      rw [if_pos c4] at hok
      have e4 : xHere A4 = 44 := by omega
      obtain ⟨hP5, f5, r5⟩ := xP_adv hP4 (by omega)
      have nx := ihB env (p1 + 1) k1 (fun x => decide (x = cx p - 102) || bef x) (xAdv A4) g6 (t4 + 1) (u4 + 4) (d + 13) Q (z ||| 2 ^ lb) ac t4 pn sn was s p2 fv' (.ref t4) (fun v => (12, [iv lb, iv so, .ref c, v])) hP5 (by omega) (by omega) (by rw [← hlb]; exact hbz3) ham (by omega) (by omega) (by omega) ⟨g6c, Or.inr ⟨rfl, by omega, g6t, lb, so, c, rfl⟩⟩ (fun e a A' g' t' u' hpr2 hE => by
          rw [hpr2] at herr
          obtain ⟨q1, q2, q3, q4, q5, q6, q7⟩ := hE
          exact herr e a A' g' t' u' rfl ⟨(f04.tr f5).tr q1, q2, fun x hx1 hx2 hx3 => by rw [q3 x (by omega) hx2 (by omega)]; exact g6o' x hx1 hx2 hx3, q4, by omega, by omega, q7⟩) (fun bs p' k' v A' g' t' u' hpr2 hS hcF hRB => by
          rw [hpr2] at hok
          obtain ⟨q1, q2, q3, q4, q5, q6, q7, q8⟩ := hS
          obtain ⟨lw, -, hlw⟩ := hcF
          obtain ⟨hw1, hw2⟩ := hlw (by intro h; cases h)
          refine hok (.branch kk τ bs) p' k' (.ref t4) A' g' t' u' (by rw [hkk]) ⟨(f04.tr f5).tr q1, (r04.tr r5).tr q2, q3, q4, fun x hx1 hx2 hx3 => by rw [q5 x (by omega) hx2 (by omega)]; exact g6o' x hx1 hx2 hx3, by omega, by omega, q8⟩ (g6F g' _ (fun x hx1 hx2 => q5 x (by omega) hx2 (by omega)) ⟨lw, hw1⟩ rfl) ?_
          rw [lR_brB]
          refine ⟨t4, c, v, rfl, ⟨by omega, Nat.lt_of_lt_of_le (Nat.lt_succ_self t4) q6⟩, by rw [hw2, kk3, kkm], tRep g' t' (by omega) (fun x x0 x1 => ?_), (lR_fr (fun _ _ _ => rfl) (by omega) (Nat.le_refl _) bs).2 v hRB⟩
          rw [q5 x (by omega) (by omega) (by omega)]
          exact g6o x x1 (by omega) (by omega))
      rw [hpop3, show ((pop6 z + 1 : Nat) : Int) = (pop6 z : Int) + 1 by omega] at nx
      have hnx : wx K M_X_choice (d + 13) Q 70 [some (.ref (xa K.n 1)), some (iv pn), some (iv sn), some (.ref ac), some (iv was), some (iv ((z ||| 2 ^ lb : Nat) : Int)), some (iv 1), some (iv ((pop6 z : Int) + 1)), some (iv lb), some (iv so)] [] (hp K.n (xAdv A4) R g6 (t4 + 1) (u4 + 4)) := wx_t (pre := [some (.ref (xa K.n 1)), some (iv pn), some (iv sn), some (.ref ac), some (iv was), some (iv ((z ||| 2 ^ lb : Nat) : Int)), some (iv 1), some (iv ((pop6 z : Int) + 1))]) (tl := [some (iv lb), some (iv so)]) nx
      refine r_aload_n 65 rfl rfl ?_
      refine r_callv0 66 rfl l_X_92 (hp_at rfl) (Nat.le_of_ble_eq_true rfl) ?_
      refine c_R_here hP4.1 (cp1 ?_)
      refine r_bipush 67 rfl rfl ?_
      refine r_icmp_ne (t := 136) 68 rfl (by decide) (by first | exact hA _ _ | exact ⟨by decide, by decide⟩ | assumption | exact ⟨by omega, by omega⟩) (by first | exact hA _ _ | exact ⟨by decide, by decide⟩ | assumption | exact ⟨by omega, by omega⟩) (fun c_129 => by omega) (fun c_129 => ?_)
      refine r_iconst 69 rfl ?_
      refine r_goto (t := 137) 70 rfl (by decide) ?_
      refine r_istore 72 rfl (Nat.le_of_ble_eq_true rfl) ?_
      refine r_iload 73 rfl rfl ?_
      refine r_if_eq (t := 150) 74 rfl (by decide) (by first | exact hA _ _ | exact ⟨by decide, by decide⟩ | assumption | exact ⟨by omega, by omega⟩) (fun c_141 => by omega) (fun c_141 => ?_)
      refine r_aload_n 75 rfl rfl ?_
      refine r_bipush 76 rfl rfl ?_
      refine r_callv1 77 rfl l_X_21 (hp_at rfl) (Nat.le_of_ble_eq_true rfl) ?_
      refine c_R_sign hP4.1 ⟨by decide, by decide⟩ (xP_bud hP4) (fun h => absurd e4 h) (fun _ => cp0 ?_)
      refine r_iinc 78 rfl rfl ?_
      refine r_goto (t := 70) 79 rfl (by decide) ?_
      exact hnx
    · rw [if_neg c4] at herr
      rw [if_neg c4] at hok
      have n44 : xHere A4 ≠ 44 := by omega
      have r44 := rg_xHere hP4.1
      have tail : wx K M_X_choice (d + 13) Q 156 [some (.ref (xa K.n 1)), some (iv pn), some (iv sn), some (.ref ac), some (iv was), none, none, none, none, none] [] (hp K.n A4 R g6 (t4 + 1) (u4 + 4)) := by
        by_cases c5 : cx p1 = 125
        · rw [if_pos c5] at hok
          have e5 : xHere A4 = 125 := by omega
          obtain ⟨hP5, f5, r5⟩ := xP_adv hP4 (by omega)
          have fin := hok (.branch kk τ (.leaf 0)) (p1 + 1) k1 (.ref t4) (xAdv A4) g6 (t4 + 1) (u4 + 4) (by rw [hkk]) ⟨f04.tr f5, r04.tr r5, hP5.2.2.2.1.1, hP5.2.2.2.2.1.1, g6o', by omega, by omega, ubs s8 (by decide)⟩ (g6F g6 _ (fun _ _ _ => rfl) ⟨_, g6c⟩ rfl) (by
            rw [lR_brB]
            refine ⟨t4, c, .null, rfl, ⟨by omega, Nat.lt_succ_self t4⟩, by rw [g6t, kk3, kkm], tRep g6 (t4 + 1) (Nat.le_refl _) (fun x x0 x1 => g6o x x1 (by omega) (by omega)), rfl⟩)
          refine r_aload_n 80 rfl rfl ?_
          refine r_bipush 81 rfl rfl ?_
          refine r_callv1 82 rfl l_X_21 (hp_at rfl) (Nat.le_of_ble_eq_true rfl) ?_
          refine c_R_sign hP4.1 ⟨by decide, by decide⟩ (xP_bud hP4) (fun h => absurd e5 h) (fun _ => cp0 ?_)
          exact fin
        · rw [if_neg c5] at herr
          have fin := herr p1 (t4 + 1) A4 _ _ _ rfl (yE_mk (g1 := g6) (u1 := u4 + 4) hP4 f04 g6o' (by omega) (by omega))
          refine r_aload_n 80 rfl rfl ?_
          refine r_bipush 81 rfl rfl ?_
          refine r_callv1 82 rfl l_X_21 (hp_at rfl) (Nat.le_of_ble_eq_true rfl) ?_
          refine c_R_sign hP4.1 ⟨by decide, by decide⟩ (xP_bud hP4) (fun _ => cpt rfl fin) (fun h => absurd h (by omega))
      have hex := fun v5 v8 v9 => xc_exit (K := K) (v5 := v5) (v8 := v8) (v9 := v9) (by omega : 0 ≤ (pop6 z : Int) + 1) (by omega) tail
      refine r_aload_n 65 rfl rfl ?_
      refine r_callv0 66 rfl l_X_92 (hp_at rfl) (Nat.le_of_ble_eq_true rfl) ?_
      refine c_R_here hP4.1 (cp1 ?_)
      refine r_bipush 67 rfl rfl ?_
      refine r_icmp_ne (t := 136) 68 rfl (by decide) (by first | exact hA _ _ | exact ⟨by decide, by decide⟩ | assumption | exact ⟨by omega, by omega⟩) (by first | exact hA _ _ | exact ⟨by decide, by decide⟩ | assumption | exact ⟨by omega, by omega⟩) (fun c_129 => ?_) (fun c_129 => by omega)
      refine r_iconst 71 rfl ?_
      refine r_istore 72 rfl (Nat.le_of_ble_eq_true rfl) ?_
      refine r_iload 73 rfl rfl ?_
      refine r_if_eq (t := 150) 74 rfl (by decide) (by first | exact hA _ _ | exact ⟨by decide, by decide⟩ | assumption | exact ⟨by omega, by omega⟩) (fun c_141 => ?_) (fun c_141 => by omega)
      refine r_iinc 78 rfl rfl ?_
      refine r_goto (t := 70) 79 rfl (by decide) ?_
      exact hex _ _ _
end XL75


/-! the class: reading a global type -/
def xE (K : xk) (g : Nat → Nat × List Value) (t ha : Nat) (A : Nat → Int → Int) (p e : Int) (a : Nat) (A' : Nat → Int → Int) (g' : Nat → Nat × List Value) (t' u' : Nat) : Prop := frX A A' ∧ A' 1 2 = e ∧ (∀ x, x < t → x ≠ ha → g' x = g x) ∧ (g' a = (30, []) ∧ K.n + 62 ≤ a ∧ a < t') ∧ t ≤ t' ∧ (t' : Int) ≤ t + (e - p) + 1 ∧ u' + 7 * (K.n + 600128) ≤ 7301098 + 7 * t'
def xS (K : xk) (g : Nat → Nat × List Value) (t ha : Nat) (A : Nat → Int → Int) (p p' k' : Int) (A' : Nat → Int → Int) (g' : Nat → Nat × List Value) (t' u' : Nat) : Prop := frX A A' ∧ rsX A A' ∧ A' 1 2 = p' ∧ A' 1 3 = k' ∧ (∀ x, x < t → x ≠ ha → g' x = g x) ∧ t ≤ t' ∧ (t' : Int) ≤ t + (p' - p) ∧ u' + 7 * (K.n + 600128) ≤ 7301098 + 7 * t'
theorem ubs {a b u t k : Nat} (h : u + a ≤ b + 7 * t) (hk : k ≤ 7) : u + k + a ≤ b + 7 * (t + 1) := by omega
theorem xt_s (g : Nat → Nat × List Value) (t : Nat) : xt g t t = (30, []) := if_pos rfl
theorem xt_n (g : Nat → Nat × List Value) {t x : Nat} (h : x ≠ t) : xt g t x = g x := if_neg h
theorem xE_mk {K : xk} {A A' : Nat → Int → Int} {cx : Int → Int} {len : Int} {env : List Int} {p e k : Int} {g g1 : Nat → Nat × List Value} {t t1 u1 ha : Nat} (h : xP K A' cx len env e k t1 u1) (hf : frX A A') (hg : ∀ x, x < t → x ≠ ha → g1 x = g x) (ht : t ≤ t1) (hb : (t1 : Int) ≤ t + (e - p)) : xE K g t ha A p e t1 A' (xt g1 t1) (t1 + 1) (u1 + 6) := by
  obtain ⟨-, -, -, ⟨h3, -, -⟩, -, -, a, b, c⟩ := h
  have q1 : ((t1 + 1 : Nat) : Int) ≤ t + (e - p) + 1 := by omega
  have q2 : u1 + 6 + 7 * (K.n + 600128) ≤ 7301098 + 7 * (t1 + 1) := ubs c (by decide)
  exact ⟨hf, h3, fun x hx hn => by rw [xt_n g1 (by omega)]; exact hg x hx hn, ⟨xt_s _ _, a, Nat.lt_succ_self _⟩, Nat.le_succ_of_le ht, q1, q2⟩
theorem frX.rf {A : Nat → Int → Int} (hA : rga A) : frX A A := ⟨fun _ _ _ _ => rfl, hA⟩
theorem rsX.rf (A : Nat → Int → Int) : rsX A A := fun _ _ _ => ⟨rfl, rfl⟩
section XG72
variable {K : xk} {R : Nat → Int → Value} {cx : Int → Int} {len : Int}
def okXG (K : xk) (R : Nat → Int → Value) (cx : Int → Int) (len : Int) (f : Nat) : Prop := ∀ (env : List Int) (p k : Int) (bef : Int → Bool) (A : Nat → Int → Int) (g : Nat → Nat × List Value) (t u D : Nat) (Q : Outcome → xh → Prop), xP K A cx len env p k t u → len - p < f → 2 * f + 12 ≤ D →
  (∀ e a A' g' t' u', pr cx false f false env p k bef = .inl e → xE K g t t A p e a A' g' t' u' → Q (.threw a) (hp K.n A' R g' t' u')) →
  (∀ τ p' k' a A' g' t' u', pr cx false f false env p k bef = .inr (τ, p', k') → xS K g t t A p p' k' A' g' t' u' → (gR g' t t' τ).1 a → Q (.returned (some (.ref a))) (hp K.n A' R g' t' u')) → mx K M_X_global D [.ref (xa K.n 1)] (hp K.n A R g t u) Q
def okXM (K : xk) (R : Nat → Int → Value) (cx : Int → Int) (len : Int) (f : Nat) : Prop := ∀ (env : List Int) (p k : Int) (bef : Int → Bool) (A : Nat → Int → Int) (g : Nat → Nat × List Value) (t u D : Nat) (Q : Outcome → xh → Prop) (z am ha : Nat) (fm was : Int) (upd : Value → Nat × List Value) (lastv : Value), xP K A cx len (3 :: env) p k t u → len - p < f → 2 * f + 11 ≤ D → bz bef z → K.n + 62 ≤ am → (K.n + 62 ≤ ha ∧ ha < t ∧ g ha = upd .null) →
  ((lastv = .null ∧ ha = am ∧ ∃ x y : Int, upd = fun v => (6, [iv x, iv y, v])) ∨ ∃ (x y : Int) (c : Nat), lastv = .ref ha ∧ upd = fun v => (7, [iv x, iv y, .ref c, v])) →
  (∀ e a A' g' t' u', pr cx false f true (3 :: env) p k bef = .inl e → xE K g t ha A p e a A' g' t' u' → Q (.threw a) (hp K.n A' R g' t' u')) →
  (∀ bs p' k' v A' g' t' u', pr cx false f true (3 :: env) p k bef = .inr (bs, p', k') → xS K g t ha A p p' k' A' g' t' u' → g' ha = upd v → (gR g' t t' bs).2 v → wx K M_X_message D Q 174 [some (.ref (xa K.n 1)), some (iv fm), some (.ref am), some (iv was), none, none, none, none, none, none, none] [] (hp K.n A' R g' t' u')) →
  wx K M_X_message D Q 52 [some (.ref (xa K.n 1)), some (iv fm), some (.ref am), some (iv was), some lastv, some (iv z), some (iv 1), some (iv (pop6 z)), none, none, none] [] (hp K.n A R g t u)
theorem xm_exit {d : Nat} {Q : Outcome → xh → Prop} {am : Nat} {fm was tn : Int} {v4 v5 v8 v9 v10 : Value} {h : xh} (t0 : 0 ≤ tn) (t1 : tn ≤ 7) (hq : wx K M_X_message d Q 168 [some (.ref (xa K.n 1)), some (iv fm), some (.ref am), some (iv was), none, none, none, none, none, none, none] [] h) :
    wx K M_X_message d Q 52 [some (.ref (xa K.n 1)), some (iv fm), some (.ref am), some (iv was), some v4, some v5, some (iv 0), some (iv tn), some v8, some v9, some v10] [] h := by
  have hnx : wx K M_X_message d Q 168 [some (.ref (xa K.n 1)), some (iv fm), some (.ref am), some (iv was), some v4, some v5, some (iv 0), some (iv tn), some v8, some v9, some v10] [] h := wx_t (pre := [some (.ref (xa K.n 1)), some (iv fm), some (.ref am), some (iv was)]) (tl := [some v4, some v5, some (iv 0), some (iv tn), some v8, some v9, some v10]) hq
  by_cases c : 6 < tn
  · refine r_iload 30 rfl rfl ?_
    refine r_bipush 31 rfl rfl ?_
    refine r_icmp_gt (t := 168) 32 rfl (by decide) (by first | exact hA _ _ | exact ⟨by decide, by decide⟩ | assumption | exact ⟨by omega, by omega⟩) (by first | exact hA _ _ | exact ⟨by decide, by decide⟩ | assumption | exact ⟨by omega, by omega⟩) (fun c_56 => ?_) (fun c_56 => by omega)
    exact hnx
  · refine r_iload 30 rfl rfl ?_
    refine r_bipush 31 rfl rfl ?_
    refine r_icmp_gt (t := 168) 32 rfl (by decide) (by first | exact hA _ _ | exact ⟨by decide, by decide⟩ | assumption | exact ⟨by omega, by omega⟩) (by first | exact hA _ _ | exact ⟨by decide, by decide⟩ | assumption | exact ⟨by omega, by omega⟩) (fun c_56 => by omega) (fun c_56 => ?_)
    refine r_iload 33 rfl rfl ?_
    refine r_if_eq (t := 168) 34 rfl (by decide) (by first | exact hA _ _ | exact ⟨by decide, by decide⟩ | assumption | exact ⟨by omega, by omega⟩) (fun c_61 => ?_) (fun c_61 => by omega)
    exact hnx
theorem xm_step (hx : ∀ i, len ≤ i → cx i = -1) (f : Nat) (ihT : okXG K R cx len f) (ihB : okXM K R cx len f) : okXM K R cx len (f + 1) := by
  intro env p k bef A g t u D Q z am ha fm was upd lastv hP hfu hD hbz ham hh hlast herr hok
  obtain ⟨d, rfl⟩ : ∃ d, D = d + 13 := ⟨D - 13, by omega⟩
  have hbz' := hbz
  obtain ⟨hz64, hbz2⟩ := hbz'
  have hpop := pop6_le z
  have hB := hP.1
  have hA := hB.1
  obtain ⟨hb0, hb1, hb2⟩ := hP.2.2.2.2.2.2
  have hpp := hP.2.2.2.1
  have here := xP_h hx hP
  rw [pr_B] at herr hok
  by_cases c1 : cx p < 102 ∨ 107 < cx p ∨ bef (cx p - 102) = true
  · rw [if_pos c1] at herr
    have fin := herr p t A _ _ _ rfl (xE_mk (g1 := g) (u1 := u) hP (frX.rf hA) (fun _ _ _ => rfl) (Nat.le_refl _) (by omega))
    have habs : 102 ≤ xHere A → xHere A ≤ 107 → z / 2 ^ (xHere A - 102).toNat % 2 = 0 → False := fun h1 h2 h3 => by
      have e : xHere A = cx p := by omega
      rw [e] at h1 h2 h3
      have := (hbz2 (cx p - 102).toNat (by omega))
      rw [show (((cx p - 102).toNat : Nat) : Int) = cx p - 102 by omega] at this
      rcases c1 with c | c | c
      · omega
      · omega
      · have := this.mp c; omega
    refine r_iload 30 rfl rfl ?_
    refine r_bipush 31 rfl rfl ?_
    refine r_icmp_gt (t := 168) 32 rfl (by decide) (by first | exact hA _ _ | exact ⟨by decide, by decide⟩ | assumption | exact ⟨by omega, by omega⟩) (by first | exact hA _ _ | exact ⟨by decide, by decide⟩ | assumption | exact ⟨by omega, by omega⟩) (fun c_56 => by omega) (fun c_56 => ?_)
    refine r_iload 33 rfl rfl ?_
    refine r_if_eq (t := 168) 34 rfl (by decide) (by first | exact hA _ _ | exact ⟨by decide, by decide⟩ | assumption | exact ⟨by omega, by omega⟩) (fun c_61 => by omega) (fun c_61 => ?_)
    refine r_aload_n 35 rfl rfl ?_
    refine r_iload 36 rfl rfl ?_
    refine r_callv1 37 rfl l_X_74 (hp_at rfl) (Nat.le_of_ble_eq_true rfl) ?_
    refine c_R_label hB hz64 (xP_bud hP) (fun _ => cpt rfl fin) (fun h1 h2 h3 => absurd (habs h1 h2 h3) id)
  rw [if_neg c1] at herr hok
  have e0 : xHere A = cx p := by omega
  have hp0 : p < len := by omega
  obtain ⟨hP1, f1, r1⟩ := xP_adv hP hp0
  have here1 := xP_h hx hP1
  obtain ⟨lb, hlb⟩ : ∃ lb : Nat, (lb : Int) = cx p - 102 := ⟨(cx p - 102).toNat, by omega⟩
  have hlb6 : lb < 6 := by omega
  have hbit : z / 2 ^ lb % 2 = 0 := by
    have h1 := hbz2 lb hlb6
    have h2 : ¬ bef (lb : Int) = true := fun h => c1 (Or.inr (Or.inr (by rw [← hlb]; exact h)))
    have h3 : ¬ z / 2 ^ lb % 2 = 1 := fun h => h2 (h1.mpr h)
    omega
  obtain ⟨hbz3, hpop3⟩ := bz_add hbz hlb6 hbit
  have hnl : ¬ (xHere A < 102 ∨ 107 < xHere A ∨ z / 2 ^ (xHere A - 102).toNat % 2 = 1) := by
    rw [e0, show (cx p - 102).toNat = lb by omega]; omega
  have eL : xHere A - 102 = (lb : Int) := by omega
  have hA1 := hP1.1.1
  by_cases c2 : cx (p + 1) < 48 ∨ 50 < cx (p + 1)
  · rw [if_pos c2] at herr
    have fin := herr (p + 1) t (xAdv A) _ _ _ rfl (xE_mk (g1 := g) (u1 := u) hP1 f1 (fun _ _ _ => rfl) (Nat.le_refl _) (by omega))
    refine r_iload 30 rfl rfl ?_
    refine r_bipush 31 rfl rfl ?_
    refine r_icmp_gt (t := 168) 32 rfl (by decide) (by first | exact hA _ _ | exact ⟨by decide, by decide⟩ | assumption | exact ⟨by omega, by omega⟩) (by first | exact hA _ _ | exact ⟨by decide, by decide⟩ | assumption | exact ⟨by omega, by omega⟩) (fun c_56 => by omega) (fun c_56 => ?_)
    refine r_iload 33 rfl rfl ?_
    refine r_if_eq (t := 168) 34 rfl (by decide) (by first | exact hA _ _ | exact ⟨by decide, by decide⟩ | assumption | exact ⟨by omega, by omega⟩) (fun c_61 => by omega) (fun c_61 => ?_)
    refine r_aload_n 35 rfl rfl ?_
    refine r_iload 36 rfl rfl ?_
    refine r_callv1 37 rfl l_X_74 (hp_at rfl) (Nat.le_of_ble_eq_true rfl) ?_
    refine c_R_label hB hz64 (xP_bud hP) (fun h => absurd h hnl) (fun h1 h2 h3 => cp1 ?_)
    rw [eL]
    refine r_istore 38 rfl (Nat.le_of_ble_eq_true rfl) ?_
    refine r_iload 39 rfl rfl ?_
    refine r_iconst 40 rfl ?_
    refine r_iload 41 rfl rfl ?_
    refine r_ishl 42 _ rfl (shl_i lb hlb6) ?_
    refine r_ior 43 _ rfl (or_i z hz64 _ (Nat.pow_lt_pow_right (by decide) hlb6)) ?_
    refine r_istore 44 rfl (Nat.le_of_ble_eq_true rfl) ?_
    refine r_aload_n 45 rfl rfl ?_
    refine r_callv0 46 rfl l_X_77 (hp_at rfl) (Nat.le_of_ble_eq_true rfl) ?_
    refine c_R_sort hP1.1 (xP_bud hP1) (fun _ => cpt rfl fin) (fun h1 h2 => absurd c2 (by omega))
  rw [if_neg c2] at herr hok
  have e1 : xHere (xAdv A) = cx (p + 1) := by omega
  obtain ⟨hP2, f2, r2⟩ := xP_adv hP1 (by omega)
  have here2 := xP_h hx hP2
  rw [show p + 1 + 1 = p + 2 by omega] at hP2 here2
  obtain ⟨so, hso⟩ : ∃ so : Int, so = cx (p + 1) - 48 := ⟨_, rfl⟩
  have eS : xHere (xAdv A) - 48 = so := by omega
  have hA2 := hP2.1.1
  by_cases c3 : cx (p + 2) ≠ 58
  · rw [if_pos c3] at herr
    have fin := herr (p + 2) t (xAdv (xAdv A)) _ _ _ rfl (xE_mk (g1 := g) (u1 := u) hP2 (f1.tr f2) (fun _ _ _ => rfl) (Nat.le_refl _) (by omega))
    refine r_iload 30 rfl rfl ?_
    refine r_bipush 31 rfl rfl ?_
    refine r_icmp_gt (t := 168) 32 rfl (by decide) (by first | exact hA _ _ | exact ⟨by decide, by decide⟩ | assumption | exact ⟨by omega, by omega⟩) (by first | exact hA _ _ | exact ⟨by decide, by decide⟩ | assumption | exact ⟨by omega, by omega⟩) (fun c_56 => by omega) (fun c_56 => ?_)
    refine r_iload 33 rfl rfl ?_
    refine r_if_eq (t := 168) 34 rfl (by decide) (by first | exact hA _ _ | exact ⟨by decide, by decide⟩ | assumption | exact ⟨by omega, by omega⟩) (fun c_61 => by omega) (fun c_61 => ?_)
    refine r_aload_n 35 rfl rfl ?_
    refine r_iload 36 rfl rfl ?_
    refine r_callv1 37 rfl l_X_74 (hp_at rfl) (Nat.le_of_ble_eq_true rfl) ?_
    refine c_R_label hB hz64 (xP_bud hP) (fun h => absurd h hnl) (fun h1 h2 h3 => cp1 ?_)
    rw [eL]
    refine r_istore 38 rfl (Nat.le_of_ble_eq_true rfl) ?_
    refine r_iload 39 rfl rfl ?_
    refine r_iconst 40 rfl ?_
    refine r_iload 41 rfl rfl ?_
    refine r_ishl 42 _ rfl (shl_i lb hlb6) ?_
    refine r_ior 43 _ rfl (or_i z hz64 _ (Nat.pow_lt_pow_right (by decide) hlb6)) ?_
    refine r_istore 44 rfl (Nat.le_of_ble_eq_true rfl) ?_
    refine r_aload_n 45 rfl rfl ?_
    refine r_callv0 46 rfl l_X_77 (hp_at rfl) (Nat.le_of_ble_eq_true rfl) ?_
    refine c_R_sort hP1.1 (xP_bud hP1) (fun h => absurd h (by omega)) (fun h1 h2 => cp1 ?_)
    rw [eS]
    refine r_istore 47 rfl (Nat.le_of_ble_eq_true rfl) ?_
    refine r_aload_n 48 rfl rfl ?_
    refine r_bipush 49 rfl rfl ?_
    refine r_callv1 50 rfl l_X_21 (hp_at rfl) (Nat.le_of_ble_eq_true rfl) ?_
    refine c_R_sign hP2.1 ⟨by decide, by decide⟩ (xP_bud hP2) (fun _ => cpt rfl fin) (fun h => absurd h (by omega))
  rw [if_neg c3] at herr hok
  have e2 : xHere (xAdv (xAdv A)) = cx (p + 2) := by omega
  obtain ⟨hP3, f3, r3⟩ := xP_adv hP2 (by omega)
  rw [show p + 2 + 1 = p + 3 by omega] at hP3
  generalize hA3 : xAdv (xAdv (xAdv A)) = A3 at hP3 f3 r3
  have f03 : frX A A3 := (f1.tr f2).tr f3
  have r03 : rsX A A3 := (r1.tr r2).tr r3
  have hk3 := hP.2.2.2.2.1
  -- the new branch
  generalize hg1 : gu g t (7, [iv 0, iv 0, .null, .null]) = g1
  have g1n : ∀ x, x ≠ t → g1 x = g x := fun x h => by rw [← hg1]; exact gu_n g _ h
  have g1t : g1 t = (7, [iv 0, iv 0, .null, .null]) := by rw [← hg1]; exact gu_s _ _ _
  have hP3' : xP K A3 cx len (3 :: env) (p + 3) k (t + 1) (u + 4) := xP_t hP3 (by omega) (by omega) (ubs hb2 (by decide))
  have enter : ∀ Q', mx K M_X_global (d + 12) [.ref (xa K.n 1)] (hp K.n A3 R g1 (t + 1) (u + 4)) Q' → (∀ o h', Q' o h' → cpost K M_X_message (d + 13) Q 102 [some (.ref (xa K.n 1)), some (iv fm), some (.ref am), some (iv was), some lastv, some (iv ((z ||| 2 ^ lb : Nat) : Int)), some (iv 1), some (iv (pop6 z)), some (iv lb), some (iv so), none] [iv so, iv lb, .ref t, .ref t] o h') → wx K M_X_message (d + 13) Q 52 [some (.ref (xa K.n 1)), some (iv fm), some (.ref am), some (iv was), some lastv, some (iv z), some (iv 1), some (iv (pop6 z)), none, none, none] [] (hp K.n A R g t u) := by
    intro Q' hm hpost
    refine r_iload 30 rfl rfl ?_
    refine r_bipush 31 rfl rfl ?_
    refine r_icmp_gt (t := 168) 32 rfl (by decide) (by first | exact hA _ _ | exact ⟨by decide, by decide⟩ | assumption | exact ⟨by omega, by omega⟩) (by first | exact hA _ _ | exact ⟨by decide, by decide⟩ | assumption | exact ⟨by omega, by omega⟩) (fun c_56 => by omega) (fun c_56 => ?_)
    refine r_iload 33 rfl rfl ?_
    refine r_if_eq (t := 168) 34 rfl (by decide) (by first | exact hA _ _ | exact ⟨by decide, by decide⟩ | assumption | exact ⟨by omega, by omega⟩) (fun c_61 => by omega) (fun c_61 => ?_)
    refine r_aload_n 35 rfl rfl ?_
    refine r_iload 36 rfl rfl ?_
    refine r_callv1 37 rfl l_X_74 (hp_at rfl) (Nat.le_of_ble_eq_true rfl) ?_
    refine c_R_label hB hz64 (xP_bud hP) (fun h => absurd h hnl) (fun h1 h2 h3 => cp1 ?_)
    rw [eL]
    refine r_istore 38 rfl (Nat.le_of_ble_eq_true rfl) ?_
    refine r_iload 39 rfl rfl ?_
    refine r_iconst 40 rfl ?_
    refine r_iload 41 rfl rfl ?_
    refine r_ishl 42 _ rfl (shl_i lb hlb6) ?_
    refine r_ior 43 _ rfl (or_i z hz64 _ (Nat.pow_lt_pow_right (by decide) hlb6)) ?_
    refine r_istore 44 rfl (Nat.le_of_ble_eq_true rfl) ?_
    refine r_aload_n 45 rfl rfl ?_
    refine r_callv0 46 rfl l_X_77 (hp_at rfl) (Nat.le_of_ble_eq_true rfl) ?_
    refine c_R_sort hP1.1 (xP_bud hP1) (fun h => absurd h (by omega)) (fun h1 h2 => cp1 ?_)
    rw [eS]
    refine r_istore 47 rfl (Nat.le_of_ble_eq_true rfl) ?_
    refine r_aload_n 48 rfl rfl ?_
    refine r_bipush 49 rfl rfl ?_
    refine r_callv1 50 rfl l_X_21 (hp_at rfl) (Nat.le_of_ble_eq_true rfl) ?_
    refine c_R_sign hP2.1 ⟨by decide, by decide⟩ (xP_bud hP2) (fun h => absurd h (by omega)) (fun h => cp0 ?_)
    rw [hA3]
    refine r_newg (n := 4) 51 rfl n_X_80 df_7 rfl (by omega) (by omega) (by omega) ?_
    rw [hg1]
    refine r_dup 52 rfl rfl ?_
    refine r_iload 53 rfl rfl ?_
    refine r_iload 54 rfl rfl ?_
    refine r_aload_n 55 rfl rfl ?_
    refine r_calls1 56 rfl l_X_40 (Nat.le_of_ble_eq_true rfl) ?_
    refine mx_mono hm hpost
  refine enter _ (ihT (3 :: env) (p + 3) k (fun _ => false) A3 g1 (t + 1) (u + 4) (d + 12) (cpost K M_X_message (d + 13) Q 102 [some (.ref (xa K.n 1)), some (iv fm), some (.ref am), some (iv was), some lastv, some (iv ((z ||| 2 ^ lb : Nat) : Int)), some (iv 1), some (iv (pop6 z)), some (iv lb), some (iv so), none] [iv so, iv lb, .ref t, .ref t]) hP3' (by omega) (by omega) (fun e a A' g' t' u' hpr hE => ?_) (fun τ p1 k1 c A4 g4 t4 u4 hpr hS hR => ?_)) (fun _ _ h => h)
  · rw [hpr] at herr
    obtain ⟨q1, q2, q3, q4, q5, q6, q7⟩ := hE
    exact cpt rfl (herr e a A' g' t' u' rfl ⟨f03.tr q1, q2, fun x hx hn => by rw [q3 x (by omega) (by omega), g1n x (by omega)], q4, by omega, by omega, q7⟩)
  · rw [hpr] at herr hok
    dsimp only at herr hok
    obtain ⟨s1, s2, s3, s4, s5, s6, s7, s8⟩ := hS
    have hp1 := (pr_le cx false len hx f _ _ _ _).1 _ _ _ hpr
    obtain ⟨w1, w2, w3, w4⟩ := (pr_ok cx false f (3 :: env) (p + 3) k (fun _ => false) (by omega) (by omega)).1 _ _ _ hpr
    obtain ⟨kk, hkk⟩ : ∃ kk : Nat, kk = (3 * (cx p - 102) + (cx (p + 1) - 48)).toNat := ⟨_, rfl⟩
    have kk3 : (lb : Int) = ((kk / 3 : Nat) : Int) := by omega
    have kkm : so = ((kk % 3 : Nat) : Int) := by omega
    have f04 : frX A A4 := f03.tr s1
    have r04 : rsX A A4 := r03.tr s2
    have hP4 : xP K A4 cx len (3 :: env) p1 k1 t4 u4 := xP_of hP3' s1 s3 (by omega) hp1 s4 (by omega) w4 (og_rs s2 hP3'.2.2.2.2.2.1) (by omega) (by omega) s8
    have here4 := xP_h hx hP4
    have g4t : g4 t = (7, [iv 0, iv 0, .null, .null]) := by rw [s5 t (by omega) (by omega)]; exact g1t
    generalize hg5 : gu g4 t (7, [iv lb, iv so, .ref c, .null]) = g5
    have g5n : ∀ x, x ≠ t → g5 x = g4 x := fun x h => by rw [← hg5]; exact gu_n g4 _ h
    have g5t : g5 t = (7, [iv lb, iv so, .ref c, .null]) := by rw [← hg5]; exact gu_s _ _ _
    have g5h : g5 ha = upd .null := by rw [g5n ha (by omega), s5 ha (by omega) (by omega), g1n ha (by omega)]; exact hh.2.2
    generalize hg6 : gu g5 ha (upd (.ref t)) = g6
    have g6n : ∀ x, x ≠ ha → g6 x = g5 x := fun x h => by rw [← hg6]; exact gu_n g5 _ h
    have g6h : g6 ha = upd (.ref t) := by rw [← hg6]; exact gu_s _ _ _
    have g6t : g6 t = (7, [iv lb, iv so, .ref c, .null]) := by rw [g6n t (by omega)]; exact g5t
    have g6o : ∀ x, x < t → x ≠ ha → g6 x = g x := fun x hx1 hx2 => by rw [g6n x hx2, g5n x (by omega), s5 x (by omega) (by omega), g1n x (by omega)]
    have hci := gR_in τ hR
    have ht4 : t < t4 := by omega
    have hA4 := hP4.1.1
    -- behind the branch
    have link : wx K M_X_message (d + 13) Q 131 [some (.ref (xa K.n 1)), some (iv fm), some (.ref am), some (iv was), some lastv, some (iv ((z ||| 2 ^ lb : Nat) : Int)), some (iv 1), some (iv (pop6 z)), some (iv lb), some (iv so), some (.ref t)] [] (hp K.n A4 R g6 t4 u4) → cpost K M_X_message (d + 13) Q 102 [some (.ref (xa K.n 1)), some (iv fm), some (.ref am), some (iv was), some lastv, some (iv ((z ||| 2 ^ lb : Nat) : Int)), some (iv 1), some (iv (pop6 z)), some (iv lb), some (iv so), none] [iv so, iv lb, .ref t, .ref t] (.returned (some (.ref c))) (hp K.n A4 R g4 t4 u4) := by
      intro nx
      refine cp1 ?_
      rcases hlast with ⟨l1, l2, x, y, l3⟩ | ⟨x, y, c', l1, l2⟩
      · subst l1
        rw [l3] at g5h hg6
        rw [l2] at g5h hg6
        refine r_calli3 57 rfl l_X_82 (Nat.le_of_ble_eq_true rfl) ?_
        refine c_GlobalBranch_init (by omega) g4t (cp0 ?_)
        rw [hg5]
        first | refine r_astore 58 rfl (Nat.le_of_ble_eq_true rfl) ?_ | refine r_astoreN 58 rfl (Nat.le_of_ble_eq_true rfl) ?_
        first | refine r_aload 59 rfl rfl ?_ | refine r_aloadN 59 rfl rfl ?_
        refine r_ifnonnullN 60 rfl ?_
        first | refine r_aload_n 61 rfl rfl ?_ | refine r_aload_nN 61 rfl rfl ?_
        first | refine r_aload 62 rfl rfl ?_ | refine r_aloadN 62 rfl rfl ?_
        refine r_putg 63 rfl f_X_85 (by omega) g5h (by first | rfl | assumption) (by first | rfl | assumption) ?_
        rw [show gu g5 am (6, [iv x, iv y, (.null : Value)].set 2 (.ref t)) = g6 from hg6]
        refine r_goto (t := 131) 64 rfl (by decide) ?_
        exact nx
      · subst l1
        rw [l2] at g5h hg6
        refine r_calli3 57 rfl l_X_82 (Nat.le_of_ble_eq_true rfl) ?_
        refine c_GlobalBranch_init (by omega) g4t (cp0 ?_)
        rw [hg5]
        first | refine r_astore 58 rfl (Nat.le_of_ble_eq_true rfl) ?_ | refine r_astoreN 58 rfl (Nat.le_of_ble_eq_true rfl) ?_
        first | refine r_aload 59 rfl rfl ?_ | refine r_aloadN 59 rfl rfl ?_
        refine r_ifnonnull (t := 124) 60 rfl (by decide) ?_
        first | refine r_aload 65 rfl rfl ?_ | refine r_aloadN 65 rfl rfl ?_
        first | refine r_aload 66 rfl rfl ?_ | refine r_aloadN 66 rfl rfl ?_
        refine r_putg 67 rfl f_X_89 (by omega) g5h (by first | rfl | assumption) (by first | rfl | assumption) ?_
        rw [show gu g5 ha (7, [iv x, iv y, .ref c', (.null : Value)].set 3 (.ref t)) = g6 from hg6]
        exact nx
    refine link ?_
    by_cases c4 : cx p1 = 44
    · rw [if_pos c4] at herr
      rw [if_pos c4] at hok
      have e4 : xHere A4 = 44 := by omega
      obtain ⟨hP5, f5, r5⟩ := xP_adv hP4 (by omega)
      have nx := ihB env (p1 + 1) k1 (fun x => decide (x = cx p - 102) || bef x) (xAdv A4) g6 t4 u4 (d + 13) Q (z ||| 2 ^ lb) am t fm was (fun v => (7, [iv lb, iv so, .ref c, v])) (.ref t) hP5 (by omega) (by omega) (by rw [← hlb]; exact hbz3) ham ⟨by omega, by omega, g6t⟩ (Or.inr ⟨lb, so, c, rfl, rfl⟩) (fun e a A' g' t' u' hpr2 hE => by
          rw [hpr2] at herr
          obtain ⟨q1, q2, q3, q4, q5, q6, q7⟩ := hE
          exact herr e a A' g' t' u' rfl ⟨(f04.tr f5).tr q1, q2, fun x hx1 hx2 => by rw [q3 x (by omega) (by omega), g6o x hx1 hx2], q4, by omega, by omega, q7⟩) (fun bs p' k' v A' g' t' u' hpr2 hS hgt hRB => by
          rw [hpr2] at hok
          obtain ⟨q1, q2, q3, q4, q5, q6, q7, q8⟩ := hS
          refine hok (.branch kk τ bs) p' k' (.ref t) A' g' t' u' (by rw [hkk]) ⟨(f04.tr f5).tr q1, (r04.tr r5).tr q2, q3, q4, fun x hx1 hx2 => by rw [q5 x (by omega) (by omega), g6o x hx1 hx2], by omega, by omega, q8⟩ (by rw [q5 ha (by omega) (by omega)]; exact g6h) ?_
          rw [gR_brB]
          refine ⟨t, c, v, rfl, ⟨Nat.le_refl t, Nat.lt_of_lt_of_le ht4 q6⟩, by rw [hgt, kk3, kkm], (gR_fr (fun x x0 x1 => ?_) (by omega) (by omega) τ).1 c hR, (gR_fr (fun _ _ _ => rfl) (by omega) (Nat.le_refl _) bs).2 v hRB⟩
          rw [q5 x x1 (by omega), g6n x (by omega), g5n x (by omega)])
      rw [hpop3, show ((pop6 z + 1 : Nat) : Int) = (pop6 z : Int) + 1 by omega] at nx
      have hnx : wx K M_X_message (d + 13) Q 52 [some (.ref (xa K.n 1)), some (iv fm), some (.ref am), some (iv was), some (.ref t), some (iv ((z ||| 2 ^ lb : Nat) : Int)), some (iv 1), some (iv ((pop6 z : Int) + 1)), some (iv lb), some (iv so), some (.ref t)] [] (hp K.n (xAdv A4) R g6 t4 u4) := wx_t (pre := [some (.ref (xa K.n 1)), some (iv fm), some (.ref am), some (iv was), some (.ref t), some (iv ((z ||| 2 ^ lb : Nat) : Int)), some (iv 1), some (iv ((pop6 z : Int) + 1))]) (tl := [some (iv lb), some (iv so), some (.ref t)]) nx
      first | refine r_aload 68 rfl rfl ?_ | refine r_aloadN 68 rfl rfl ?_
      first | refine r_astore 69 rfl (Nat.le_of_ble_eq_true rfl) ?_ | refine r_astoreN 69 rfl (Nat.le_of_ble_eq_true rfl) ?_
      refine r_aload_n 70 rfl rfl ?_
      refine r_callv0 71 rfl l_X_92 (hp_at rfl) (Nat.le_of_ble_eq_true rfl) ?_
      refine c_R_here hP4.1 (cp1 ?_)
      refine r_bipush 72 rfl rfl ?_
      refine r_icmp_ne (t := 148) 73 rfl (by decide) (by first | exact hA _ _ | exact ⟨by decide, by decide⟩ | assumption | exact ⟨by omega, by omega⟩) (by first | exact hA _ _ | exact ⟨by decide, by decide⟩ | assumption | exact ⟨by omega, by omega⟩) (fun c_141 => by omega) (fun c_141 => ?_)
      refine r_iconst 74 rfl ?_
      refine r_goto (t := 149) 75 rfl (by decide) ?_
      refine r_istore 77 rfl (Nat.le_of_ble_eq_true rfl) ?_
      refine r_iload 78 rfl rfl ?_
      refine r_if_eq (t := 162) 79 rfl (by decide) (by first | exact hA _ _ | exact ⟨by decide, by decide⟩ | assumption | exact ⟨by omega, by omega⟩) (fun c_153 => by omega) (fun c_153 => ?_)
      refine r_aload_n 80 rfl rfl ?_
      refine r_bipush 81 rfl rfl ?_
      refine r_callv1 82 rfl l_X_21 (hp_at rfl) (Nat.le_of_ble_eq_true rfl) ?_
      refine c_R_sign hP4.1 ⟨by decide, by decide⟩ (xP_bud hP4) (fun h => absurd e4 h) (fun _ => cp0 ?_)
      refine r_iinc 83 rfl rfl ?_
      refine r_goto (t := 52) 84 rfl (by decide) ?_
      exact hnx
    · rw [if_neg c4] at herr
      rw [if_neg c4] at hok
      have n44 : xHere A4 ≠ 44 := by omega
      have r44 := rg_xHere hP4.1
      have tail : wx K M_X_message (d + 13) Q 168 [some (.ref (xa K.n 1)), some (iv fm), some (.ref am), some (iv was), none, none, none, none, none, none, none] [] (hp K.n A4 R g6 t4 u4) := by
        by_cases c5 : cx p1 = 125
        · rw [if_pos c5] at hok
          have e5 : xHere A4 = 125 := by omega
          obtain ⟨hP5, f5, r5⟩ := xP_adv hP4 (by omega)
          have fin := hok (.branch kk τ (.leaf 0)) (p1 + 1) k1 (.ref t) (xAdv A4) g6 t4 u4 (by rw [hkk]) ⟨f04.tr f5, r04.tr r5, hP5.2.2.2.1.1, hP5.2.2.2.2.1.1, g6o, by omega, by omega, s8⟩ g6h (by
            rw [gR_brB]
            refine ⟨t, c, .null, rfl, ⟨Nat.le_refl t, ht4⟩, by rw [g6t, kk3, kkm], (gR_fr (fun x x0 x1 => ?_) (by omega) (by omega) τ).1 c hR, rfl⟩
            rw [g6n x (by omega), g5n x (by omega)])
          refine r_aload_n 85 rfl rfl ?_
          refine r_bipush 86 rfl rfl ?_
          refine r_callv1 87 rfl l_X_21 (hp_at rfl) (Nat.le_of_ble_eq_true rfl) ?_
          refine c_R_sign hP4.1 ⟨by decide, by decide⟩ (xP_bud hP4) (fun h => absurd e5 h) (fun _ => cp0 ?_)
          exact fin
        · rw [if_neg c5] at herr
          have fin := herr p1 t4 A4 _ _ _ rfl (xE_mk (g1 := g6) (u1 := u4) hP4 f04 g6o (by omega) (by omega))
          refine r_aload_n 85 rfl rfl ?_
          refine r_bipush 86 rfl rfl ?_
          refine r_callv1 87 rfl l_X_21 (hp_at rfl) (Nat.le_of_ble_eq_true rfl) ?_
          refine c_R_sign hP4.1 ⟨by decide, by decide⟩ (xP_bud hP4) (fun _ => cpt rfl fin) (fun h => absurd h (by omega))
      have hex := fun v4 v5 v8 v9 v10 => xm_exit (K := K) (v4 := v4) (v5 := v5) (v8 := v8) (v9 := v9) (v10 := v10) (by omega : 0 ≤ (pop6 z : Int) + 1) (by omega) tail
      first | refine r_aload 68 rfl rfl ?_ | refine r_aloadN 68 rfl rfl ?_
      first | refine r_astore 69 rfl (Nat.le_of_ble_eq_true rfl) ?_ | refine r_astoreN 69 rfl (Nat.le_of_ble_eq_true rfl) ?_
      refine r_aload_n 70 rfl rfl ?_
      refine r_callv0 71 rfl l_X_92 (hp_at rfl) (Nat.le_of_ble_eq_true rfl) ?_
      refine c_R_here hP4.1 (cp1 ?_)
      refine r_bipush 72 rfl rfl ?_
      refine r_icmp_ne (t := 148) 73 rfl (by decide) (by first | exact hA _ _ | exact ⟨by decide, by decide⟩ | assumption | exact ⟨by omega, by omega⟩) (by first | exact hA _ _ | exact ⟨by decide, by decide⟩ | assumption | exact ⟨by omega, by omega⟩) (fun c_141 => ?_) (fun c_141 => by omega)
      refine r_iconst 76 rfl ?_
      refine r_istore 77 rfl (Nat.le_of_ble_eq_true rfl) ?_
      refine r_iload 78 rfl rfl ?_
      refine r_if_eq (t := 162) 79 rfl (by decide) (by first | exact hA _ _ | exact ⟨by decide, by decide⟩ | assumption | exact ⟨by omega, by omega⟩) (fun c_153 => ?_) (fun c_153 => by omega)
      refine r_iinc 83 rfl rfl ?_
      refine r_goto (t := 52) 84 rfl (by decide) ?_
      exact hex _ _ _ _ _
end XG72


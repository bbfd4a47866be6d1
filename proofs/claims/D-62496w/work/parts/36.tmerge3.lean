/-! the twin: one step of merging, whole -/
section TW36
variable {K : xk} {M : xm} {d : Nat} {Q : Outcome → xh → Prop} {A : Nat → Int → Int} {R : Nat → Int → Value} {g : Nat → Nat × List Value} {t u : Nat}
theorem skF_br (A A' : Nat → Int → Int) (b n : Int) (k : Nat) (l r : Tr) (i : Int) : skF A A' b n (.branch k l r) i = (A' 108 (6 * n + (k / 3 : Nat)) = i + 1 ∧ A' 109 (6 * n + (k / 3 : Nat)) = (k % 3 : Nat) ∧ A' 110 (6 * n + (k / 3 : Nat)) = A 110 (6 * b + (k / 3 : Nat)) ∧ skF A A' b n r (i + 1)) := rfl
/-- the labels of the second -/
theorem mo_loop2 {a b n c : Int} {l : Tr} (ha0 : 0 ≤ a) (ha1 : a < A 100 4) (han : a ≠ n) (hb0 : 0 ≤ b) (hb1 : b < A 100 4) (hbn : b ≠ n) (n0 : 0 ≤ n) (n1 : n < A 100 4) (hA4 : A 100 4 ≤ 300)
    (za : ∀ x, 0 ≤ x → x < 6 → (hasL l x = true ↔ A 108 (6 * a + x) ≠ 0)) :
    ∀ (r : Tr) (i j : Int) (B : Nat → Int → Int), (tR A r).2 b i → (wfP r).2 → 0 ≤ i → i + lenB r ≤ 6 → (∀ x, 0 ≤ x → x < 6 → hasL r x = false → A 108 (6 * b + x) ≤ i) → A 107 b = i + lenB r → pg A B n c → B 107 n = j → j + lenB r ≤ 100 →
      (∀ A', pg B A' n 0 → (∀ x, 0 ≤ x → x < 6 → hasL (flt l r) x = false → A' 108 (6 * n + x) = B 108 (6 * n + x) ∧ A' 109 (6 * n + x) = B 109 (6 * n + x) ∧ A' 110 (6 * n + x) = B 110 (6 * n + x)) → skF A A' b n (flt l r) j → Q (.returned (some (iv 1))) (hp K.n A' R g t u)) →
      wx K M_T_mergedOne (d + 2) Q 305 [some (.ref (xa K.n 32)), some (iv a), some (iv b), some (iv n), some (iv (i + 1)), none, none, none] [] (hp K.n B R g t u) := by
  intro r
  induction r with
  | leaf k =>
    intro i j B hr hw i0 i6 hu h7 hpp hB7 hj hok
    have hA := hpp.2.1
    have e7 : B 107 b = A 107 b := (hpp.2.2.1 b hb1 hbn).2.2.1
    have l7 : (lenB (.leaf k) : Int) = 0 := rfl
    refine r_iload 184 rfl rfl ?_
    refine r_aload_n 185 rfl rfl ?_
    refine r_get 186 rfl f_T_20 (hp_at rfl) rfl ?_
    refine r_iload_n 187 rfl rfl ?_
    refine r_iaload 188 rfl (hp_at rfl) (by decide) (by omega) (by omega) ?_
    refine r_icmp_gt (t := 377) 189 rfl (by decide) (by first | exact hA _ _ | exact ⟨by decide, by decide⟩ | assumption | exact ⟨by omega, by omega⟩) (by first | exact hA _ _ | exact ⟨by decide, by decide⟩ | assumption | exact ⟨by omega, by omega⟩) (fun c_313 => ?_) (fun c_313 => by omega)
    refine r_iconst 226 rfl ?_
    refine r_iret 227 rfl rfl (by first | rfl | assumption) ?_
    exact hok B (pg_rf hA) (fun x _ _ _ => ⟨rfl, rfl, rfl⟩) hB7
  | branch k τ r ihτ ih =>
    intro i j B hr hw i0 i6 hu h7 hpp hB7 hj hok
    clear ihτ
    rw [tR_brB] at hr
    rw [wfB_br] at hw
    obtain ⟨r1, r2, r3, r4⟩ := hr
    obtain ⟨w1, w2, w3, w4⟩ := hw
    have hA := hpp.2.1
    obtain ⟨sa5, sa6, sa7, sa8⟩ := hpp.2.2.1 a ha1 han
    obtain ⟨sb5, sb6, sb7, sb8⟩ := hpp.2.2.1 b hb1 hbn
    have hl7 : (lenB (.branch k τ r) : Int) = 1 + lenB r := by rw [lenB_br]; omega
    obtain ⟨x, hx⟩ : ∃ x : Int, x = ((k / 3 : Nat) : Int) := ⟨_, rfl⟩
    have x0 : 0 ≤ x := by omega
    have x6 : x < 6 := by omega
    rw [← hx] at r1 r2 r3
    obtain ⟨A8, A9, A10⟩ := sa8 x x0 x6
    obtain ⟨B8, B9, B10⟩ := sb8 x x0 x6
    have hkk : rg (i + 1) := ⟨by omega, by omega⟩
    have huq : ∀ j, 0 ≤ j → j < x → B 108 (6 * b + j) ≠ i + 1 := by
      intro j j0 j1
      rw [(sb8 j j0 (by omega)).1]
      by_cases e : hasL r j = true
      · have := lab_o A r b (i + 1) r4 j e; omega
      · have := hu j j0 (by omega) (by rw [hasL_br, ← hx, decide_eq_false (by omega), Bool.false_or]; cases hh : hasL r j; rfl; exact absurd hh e)
        omega
    have hu' : ∀ j, 0 ≤ j → j < 6 → hasL r j = false → A 108 (6 * b + j) ≤ i + 1 := by
      intro j j0 j1 j2
      by_cases e : j = x
      · rw [e, r1]; omega
      · have := hu j j0 j1 (by rw [hasL_br, ← hx, decide_eq_false (by omega), Bool.false_or, j2]); omega
    rw [flt_br, ← hx] at hok
    by_cases hl : hasL l x = true
    · have h8 : A 108 (6 * a + x) ≠ 0 := (za x x0 x6).mp hl
      rw [if_pos hl] at hok
      have nx := ih (i + 1) j B r4 w4 (by omega) (by omega) hu' (by omega) hpp hB7 (by omega) hok
      have hnx : ∀ v5 : Value, wx K M_T_mergedOne (d + 2) Q 305 [some (.ref (xa K.n 32)), some (iv a), some (iv b), some (iv n), some (iv (i + 1 + 1)), some v5, none, none] [] (hp K.n B R g t u) := fun v5 => wx_t (pre := [some (.ref (xa K.n 32)), some (iv a), some (iv b), some (iv n), some (iv (i + 1 + 1))]) (tl := [some v5, none, none]) nx
      refine r_iload 184 rfl rfl ?_
      refine r_aload_n 185 rfl rfl ?_
      refine r_get 186 rfl f_T_20 (hp_at rfl) rfl ?_
      refine r_iload_n 187 rfl rfl ?_
      refine r_iaload 188 rfl (hp_at rfl) (by decide) (by omega) (by omega) ?_
      refine r_icmp_gt (t := 377) 189 rfl (by decide) (by first | exact hA _ _ | exact ⟨by decide, by decide⟩ | assumption | exact ⟨by omega, by omega⟩) (by first | exact hA _ _ | exact ⟨by decide, by decide⟩ | assumption | exact ⟨by omega, by omega⟩) (fun c_313 => by omega) (fun c_313 => ?_)
      refine r_aload_n 190 rfl rfl ?_
      refine r_iload_n 191 rfl rfl ?_
      refine r_iload 192 rfl rfl ?_
      refine r_callv2 193 rfl l_T_176 (hp_at rfl) (Nat.le_of_ble_eq_true rfl) ?_
      refine c_T_labelAt hA hkk hb0 (by omega) x0 x6 (by rw [B8, r1]) huq (cp1 ?_)
      refine r_istore 194 rfl (Nat.le_of_ble_eq_true rfl) ?_
      refine r_aload_n 195 rfl rfl ?_
      refine r_get 196 rfl f_T_23 (hp_at rfl) rfl ?_
      refine r_bipush 197 rfl rfl ?_
      refine r_iload_n 198 rfl rfl ?_
      refine r_imul 199 rfl ?_
      refine r_iload 200 rfl rfl ?_
      refine r_iadd 201 rfl ?_
      refine r_iaload 202 rfl (hp_at rfl) (by decide) (by omega) (by omega) ?_
      refine r_if_ne (t := 371) 203 rfl (by decide) (by first | exact hA _ _ | exact ⟨by decide, by decide⟩ | assumption | exact ⟨by omega, by omega⟩) (fun c_337 => ?_) (fun c_337 => by omega)
      refine r_iinc 224 rfl rfl ?_
      refine r_goto (t := 305) 225 rfl (by decide) ?_
      exact hnx _
    · have h8 : A 108 (6 * a + x) = 0 := by
        apply Decidable.byContradiction
        intro h
        exact hl ((za x x0 x6).mpr h)
      rw [if_neg hl] at hok
      generalize hC : adF B n x (B 109 (6 * b + x)) (B 110 (6 * b + x)) = C
      have Cr : ∀ (jj : Nat) (y : Int), C jj y = if jj = 110 ∧ y = 6 * n + x then B 110 (6 * b + x) else if jj = 109 ∧ y = 6 * n + x then B 109 (6 * b + x) else if jj = 108 ∧ y = 6 * n + x then j + 1 else if jj = 107 ∧ y = n then j + 1 else B jj y := fun jj y => by rw [← hC, ad_row, hB7]
      have hpg : pg A C n c := by rw [← hC]; exact pg_ad hpp x0 x6 (by omega) (hA _ _) (hA _ _)
      have hpg1 : pg B C n 0 := by rw [← hC]; exact pg_ad (pg_rf hA) x0 x6 (by omega) (hA _ _) (hA _ _)
      have nx := ih (i + 1) (j + 1) C r4 w4 (by omega) (by omega) hu' (by omega) hpg (by rw [Cr, if_neg (by omega), if_neg (by omega), if_neg (by omega), if_pos ⟨rfl, rfl⟩]) (by omega) (fun A' g1 g2 g3 => by
        have hnf : hasL (flt l r) x = false := by
          cases hh : hasL (flt l r) x
          · rfl
          · have := (flt_has l r x hh).1
            rw [← hx, this] at w2; cases w2
        obtain ⟨z1, z2, z3⟩ := g2 x x0 x6 hnf
        refine hok A' (by have := pg_tr hpg1 g1 (by omega); exact this) (fun y y0 y1 y2 => ?_) ?_
        · rw [hasL_br, Bool.or_eq_false_iff, decide_eq_false_iff_not, ← hx] at y2
          obtain ⟨u1, u2, u3⟩ := g2 y y0 y1 y2.2
          rw [u1, u2, u3]
          have : y ≠ x := fun e => y2.1 e.symm
          refine ⟨?_, ?_, ?_⟩ <;> rw [Cr, if_neg (by omega), if_neg (by omega), if_neg (by omega), if_neg (by omega)]
        · rw [skF_br, ← hx, z1, z2, z3]
          refine ⟨?_, ?_, ?_, g3⟩
          · rw [Cr, if_neg (by omega), if_neg (by omega), if_pos ⟨rfl, rfl⟩]
          · rw [Cr, if_neg (by omega), if_pos ⟨rfl, rfl⟩, B9, r2]
          · rw [Cr, if_pos ⟨rfl, rfl⟩, B10])
      have hnx : ∀ v5 : Value, wx K M_T_mergedOne (d + 2) Q 305 [some (.ref (xa K.n 32)), some (iv a), some (iv b), some (iv n), some (iv (i + 1 + 1)), some v5, none, none] [] (hp K.n C R g t u) := fun v5 => wx_t (pre := [some (.ref (xa K.n 32)), some (iv a), some (iv b), some (iv n), some (iv (i + 1 + 1))]) (tl := [some v5, none, none]) nx
      refine r_iload 184 rfl rfl ?_
      refine r_aload_n 185 rfl rfl ?_
      refine r_get 186 rfl f_T_20 (hp_at rfl) rfl ?_
      refine r_iload_n 187 rfl rfl ?_
      refine r_iaload 188 rfl (hp_at rfl) (by decide) (by omega) (by omega) ?_
      refine r_icmp_gt (t := 377) 189 rfl (by decide) (by first | exact hA _ _ | exact ⟨by decide, by decide⟩ | assumption | exact ⟨by omega, by omega⟩) (by first | exact hA _ _ | exact ⟨by decide, by decide⟩ | assumption | exact ⟨by omega, by omega⟩) (fun c_313 => by omega) (fun c_313 => ?_)
      refine r_aload_n 190 rfl rfl ?_
      refine r_iload_n 191 rfl rfl ?_
      refine r_iload 192 rfl rfl ?_
      refine r_callv2 193 rfl l_T_176 (hp_at rfl) (Nat.le_of_ble_eq_true rfl) ?_
      refine c_T_labelAt hA hkk hb0 (by omega) x0 x6 (by rw [B8, r1]) huq (cp1 ?_)
      refine r_istore 194 rfl (Nat.le_of_ble_eq_true rfl) ?_
      refine r_aload_n 195 rfl rfl ?_
      refine r_get 196 rfl f_T_23 (hp_at rfl) rfl ?_
      refine r_bipush 197 rfl rfl ?_
      refine r_iload_n 198 rfl rfl ?_
      refine r_imul 199 rfl ?_
      refine r_iload 200 rfl rfl ?_
      refine r_iadd 201 rfl ?_
      refine r_iaload 202 rfl (hp_at rfl) (by decide) (by omega) (by omega) ?_
      refine r_if_ne (t := 371) 203 rfl (by decide) (by first | exact hA _ _ | exact ⟨by decide, by decide⟩ | assumption | exact ⟨by omega, by omega⟩) (fun c_337 => by omega) (fun c_337 => ?_)
      refine r_aload_n 204 rfl rfl ?_
      refine r_iload_n 205 rfl rfl ?_
      refine r_iload 206 rfl rfl ?_
      refine r_aload_n 207 rfl rfl ?_
      refine r_get 208 rfl f_T_26 (hp_at rfl) rfl ?_
      refine r_bipush 209 rfl rfl ?_
      refine r_iload_n 210 rfl rfl ?_
      refine r_imul 211 rfl ?_
      refine r_iload 212 rfl rfl ?_
      refine r_iadd 213 rfl ?_
      refine r_iaload 214 rfl (hp_at rfl) (by decide) (by omega) (by omega) ?_
      refine r_aload_n 215 rfl rfl ?_
      refine r_get 216 rfl f_T_29 (hp_at rfl) rfl ?_
      refine r_bipush 217 rfl rfl ?_
      refine r_iload_n 218 rfl rfl ?_
      refine r_imul 219 rfl ?_
      refine r_iload 220 rfl rfl ?_
      refine r_iadd 221 rfl ?_
      refine r_iaload 222 rfl (hp_at rfl) (by decide) (by omega) (by omega) ?_
      refine r_callv4 223 rfl l_T_134 (hp_at rfl) (Nat.le_of_ble_eq_true rfl) ?_
      refine c_T_addLabel hA n0 (by omega) x0 x6 (cp0 ?_)
      rw [hC]
      refine r_iinc 224 rfl rfl ?_
      refine r_goto (t := 305) 225 rfl (by decide) ?_
      exact hnx _
/-- the head of a local type is one of those -/
def lok : Tr → Prop
  | .leaf _ => True
  | .branch k _ _ => k < 11
/-- the kind of a type's place -/
theorem tR_kind {k : Nat} {l r : Tr} {n : Int} (h : (tR A (.branch k l r)).1 n) : (k < 3 → A 105 n = 2 ∧ A 106 n = k) ∧ (3 ≤ k → k < 7 → A 105 n = 3 ∧ A 106 n = (k : Int) - 3) ∧ (7 ≤ k → k < 11 → A 105 n = 4 ∧ A 106 n = (k : Int) - 7) := by
  rw [tR_br] at h
  refine ⟨fun h3 => ?_, fun h3 h7 => ?_, fun h3 h7 => ?_⟩
  · rw [if_pos h3] at h; exact ⟨h.1, h.2.1⟩
  · rw [if_neg (by omega)] at h; omega
  · rw [if_neg (by omega)] at h; omega
theorem c_T_mergedOne {a b n U Lim : Int} {α β : Tr} (hA : rga A) (hU : A 100 4 = U + A 100 18) (U0 : 0 ≤ U) (p0 : 0 ≤ A 100 18) (ta : (tR A α).1 a) (tb : (tR A β).1 b) (wa : (wfP α).1) (wb : (wfP β).1) (la : lok α) (lb : lok β)
    (hnod : ∀ x, (ct A α).1 a x ≠ 0 ∨ (ct A β).1 b x ≠ 0 → 0 ≤ x ∧ x < U) (n0 : U ≤ n) (n1 : n < A 100 4) (hn7 : A 107 n = 0) (hn8 : ∀ l, 0 ≤ l → l < 6 → A 108 (6 * n + l) = 0) (hL : A 100 4 + szT β ≤ Lim + 1) (hL3 : Lim ≤ 300)
    (hf : o1 α β = none → ∀ A' c', pg A A' n c' → 0 ≤ c' → A' 100 4 ≤ Lim → Q (.returned (some (iv 0))) (hp K.n A' R g t u))
    (hok : o1 α β ≠ none → ∀ A', pg A A' n (si A α β a b).length → qw A A' U (A 100 18) (si A α β a b) → skT A A' a b n α β → Q (.returned (some (iv 1))) (hp K.n A' R g t u)) : mx K M_T_mergedOne (d + 2) [.ref (xa K.n 32), iv a, iv b, iv n] (hp K.n A R g t u) Q := by
  have hra : 0 ≤ a ∧ a < U := hnod a (Or.inl (by have := ct_self A α a; omega))
  have hrb : 0 ≤ b ∧ b < U := hnod b (Or.inr (by have := ct_self A β b; omega))
  have szb := szT_pos β
  have hA4 : A 100 4 ≤ 300 := by omega
  refine mx_in ok_T_mergedOne rfl (Nat.le_of_ble_eq_true rfl) ?_
  cases α with
  | leaf k =>
    rw [tR_lf] at ta
    rw [wfT_leaf] at wa
    cases β with
    | leaf k' =>
      rw [tR_lf] at tb
      rw [wfT_leaf] at wb
      by_cases ek : k = k'
      · have h := hok (by show (if k = k' then some [] else none) ≠ none; rw [if_pos ek]; simp) A (pg_rf hA) trivial hn7
        have e1 : A 105 a = A 105 b := by by_cases h0 : k = 0 <;> simp_all
        have e2 : A 105 a ≠ 0 → A 106 a = A 106 b := by by_cases h0 : k = 0 <;> simp_all
        have e3 : A 105 a = 0 ∨ A 105 a = 1 := by by_cases h0 : k = 0 <;> simp_all
        refine r_aload_n 0 rfl rfl ?_
        refine r_get 1 rfl f_T_13 (hp_at rfl) rfl ?_
        refine r_iload_n 2 rfl rfl ?_
        refine r_iaload 3 rfl (hp_at rfl) (by decide) (by omega) (by omega) ?_
        refine r_aload_n 4 rfl rfl ?_
        refine r_get 5 rfl f_T_13 (hp_at rfl) rfl ?_
        refine r_iload_n 6 rfl rfl ?_
        refine r_iaload 7 rfl (hp_at rfl) (by decide) (by omega) (by omega) ?_
        refine r_icmp_ne (t := 39) 8 rfl (by decide) (by first | exact hA _ _ | exact ⟨by decide, by decide⟩ | assumption | exact ⟨by omega, by omega⟩) (by first | exact hA _ _ | exact ⟨by decide, by decide⟩ | assumption | exact ⟨by omega, by omega⟩) (fun c_12 => by omega) (fun c_12 => ?_)
        refine r_aload_n 9 rfl rfl ?_
        refine r_get 10 rfl f_T_13 (hp_at rfl) rfl ?_
        refine r_iload_n 11 rfl rfl ?_
        refine r_iaload 12 rfl (hp_at rfl) (by decide) (by omega) (by omega) ?_
        refine r_if_eq (t := 41) 13 rfl (by decide) (by first | exact hA _ _ | exact ⟨by decide, by decide⟩ | assumption | exact ⟨by omega, by omega⟩) (fun c_21 => ?_) (fun c_21 => ?_)
        · refine r_aload_n 25 rfl rfl ?_
          refine r_get 26 rfl f_T_13 (hp_at rfl) rfl ?_
          refine r_iload_n 27 rfl rfl ?_
          refine r_iaload 28 rfl (hp_at rfl) (by decide) (by omega) (by omega) ?_
          refine r_iconst 29 rfl ?_
          refine r_icmp_ne (t := 82) 30 rfl (by decide) (by first | exact hA _ _ | exact ⟨by decide, by decide⟩ | assumption | exact ⟨by omega, by omega⟩) (by first | exact hA _ _ | exact ⟨by decide, by decide⟩ | assumption | exact ⟨by omega, by omega⟩) (fun c_48 => ?_) (fun c_48 => by omega)
          refine r_aload_n 51 rfl rfl ?_
          refine r_get 52 rfl f_T_13 (hp_at rfl) rfl ?_
          refine r_iload_n 53 rfl rfl ?_
          refine r_iaload 54 rfl (hp_at rfl) (by decide) (by omega) (by omega) ?_
          refine r_iconst 55 rfl ?_
          refine r_icmp_ne (t := 109) 56 rfl (by decide) (by first | exact hA _ _ | exact ⟨by decide, by decide⟩ | assumption | exact ⟨by omega, by omega⟩) (by first | exact hA _ _ | exact ⟨by decide, by decide⟩ | assumption | exact ⟨by omega, by omega⟩) (fun c_89 => ?_) (fun c_89 => by omega)
          refine r_aload_n 68 rfl rfl ?_
          refine r_get 69 rfl f_T_13 (hp_at rfl) rfl ?_
          refine r_iload_n 70 rfl rfl ?_
          refine r_iaload 71 rfl (hp_at rfl) (by decide) (by omega) (by omega) ?_
          refine r_iconst 72 rfl ?_
          refine r_icmp_eq (t := 131) 73 rfl (by decide) (by first | exact hA _ _ | exact ⟨by decide, by decide⟩ | assumption | exact ⟨by omega, by omega⟩) (by first | exact hA _ _ | exact ⟨by decide, by decide⟩ | assumption | exact ⟨by omega, by omega⟩) (fun c_116 => by omega) (fun c_116 => ?_)
          refine r_aload_n 74 rfl rfl ?_
          refine r_get 75 rfl f_T_13 (hp_at rfl) rfl ?_
          refine r_iload_n 76 rfl rfl ?_
          refine r_iaload 77 rfl (hp_at rfl) (by decide) (by omega) (by omega) ?_
          refine r_iconst 78 rfl ?_
          refine r_icmp_eq (t := 131) 79 rfl (by decide) (by first | exact hA _ _ | exact ⟨by decide, by decide⟩ | assumption | exact ⟨by omega, by omega⟩) (by first | exact hA _ _ | exact ⟨by decide, by decide⟩ | assumption | exact ⟨by omega, by omega⟩) (fun c_126 => by omega) (fun c_126 => ?_)
          refine r_iconst 80 rfl ?_
          refine r_iret 81 rfl rfl (by first | rfl | assumption) ?_
          exact h
        · refine r_aload_n 14 rfl rfl ?_
          refine r_get 15 rfl f_T_17 (hp_at rfl) rfl ?_
          refine r_iload_n 16 rfl rfl ?_
          refine r_iaload 17 rfl (hp_at rfl) (by decide) (by omega) (by omega) ?_
          refine r_aload_n 18 rfl rfl ?_
          refine r_get 19 rfl f_T_17 (hp_at rfl) rfl ?_
          refine r_iload_n 20 rfl rfl ?_
          refine r_iaload 21 rfl (hp_at rfl) (by decide) (by omega) (by omega) ?_
          refine r_icmp_eq (t := 41) 22 rfl (by decide) (by first | exact hA _ _ | exact ⟨by decide, by decide⟩ | assumption | exact ⟨by omega, by omega⟩) (by first | exact hA _ _ | exact ⟨by decide, by decide⟩ | assumption | exact ⟨by omega, by omega⟩) (fun c_36 => ?_) (fun c_36 => by omega)
          refine r_aload_n 25 rfl rfl ?_
          refine r_get 26 rfl f_T_13 (hp_at rfl) rfl ?_
          refine r_iload_n 27 rfl rfl ?_
          refine r_iaload 28 rfl (hp_at rfl) (by decide) (by omega) (by omega) ?_
          refine r_iconst 29 rfl ?_
          refine r_icmp_ne (t := 82) 30 rfl (by decide) (by first | exact hA _ _ | exact ⟨by decide, by decide⟩ | assumption | exact ⟨by omega, by omega⟩) (by first | exact hA _ _ | exact ⟨by decide, by decide⟩ | assumption | exact ⟨by omega, by omega⟩) (fun c_48 => ?_) (fun c_48 => by omega)
          refine r_aload_n 51 rfl rfl ?_
          refine r_get 52 rfl f_T_13 (hp_at rfl) rfl ?_
          refine r_iload_n 53 rfl rfl ?_
          refine r_iaload 54 rfl (hp_at rfl) (by decide) (by omega) (by omega) ?_
          refine r_iconst 55 rfl ?_
          refine r_icmp_ne (t := 109) 56 rfl (by decide) (by first | exact hA _ _ | exact ⟨by decide, by decide⟩ | assumption | exact ⟨by omega, by omega⟩) (by first | exact hA _ _ | exact ⟨by decide, by decide⟩ | assumption | exact ⟨by omega, by omega⟩) (fun c_89 => ?_) (fun c_89 => by omega)
          refine r_aload_n 68 rfl rfl ?_
          refine r_get 69 rfl f_T_13 (hp_at rfl) rfl ?_
          refine r_iload_n 70 rfl rfl ?_
          refine r_iaload 71 rfl (hp_at rfl) (by decide) (by omega) (by omega) ?_
          refine r_iconst 72 rfl ?_
          refine r_icmp_eq (t := 131) 73 rfl (by decide) (by first | exact hA _ _ | exact ⟨by decide, by decide⟩ | assumption | exact ⟨by omega, by omega⟩) (by first | exact hA _ _ | exact ⟨by decide, by decide⟩ | assumption | exact ⟨by omega, by omega⟩) (fun c_116 => by omega) (fun c_116 => ?_)
          refine r_aload_n 74 rfl rfl ?_
          refine r_get 75 rfl f_T_13 (hp_at rfl) rfl ?_
          refine r_iload_n 76 rfl rfl ?_
          refine r_iaload 77 rfl (hp_at rfl) (by decide) (by omega) (by omega) ?_
          refine r_iconst 78 rfl ?_
          refine r_icmp_eq (t := 131) 79 rfl (by decide) (by first | exact hA _ _ | exact ⟨by decide, by decide⟩ | assumption | exact ⟨by omega, by omega⟩) (by first | exact hA _ _ | exact ⟨by decide, by decide⟩ | assumption | exact ⟨by omega, by omega⟩) (fun c_126 => by omega) (fun c_126 => ?_)
          refine r_iconst 80 rfl ?_
          refine r_iret 81 rfl rfl (by first | rfl | assumption) ?_
          exact h
      · have h := hf (by show (if k = k' then some [] else none) = none; rw [if_neg ek]) A 0 (pg_rf hA) (by omega) (by omega)
        have e1 : A 105 a ≠ A 105 b ∨ A 105 a ≠ 0 ∧ A 106 a ≠ A 106 b := by
          obtain ⟨-, q1, q2⟩ := ta
          obtain ⟨-, q3, q4⟩ := tb
          by_cases h0 : k = 0
          · have := q1 h0; have := q4 (by omega); omega
          · have := q2 h0
            by_cases h1 : k' = 0
            · have := q3 h1; omega
            · have := q4 h1; omega
        refine r_aload_n 0 rfl rfl ?_
        refine r_get 1 rfl f_T_13 (hp_at rfl) rfl ?_
        refine r_iload_n 2 rfl rfl ?_
        refine r_iaload 3 rfl (hp_at rfl) (by decide) (by omega) (by omega) ?_
        refine r_aload_n 4 rfl rfl ?_
        refine r_get 5 rfl f_T_13 (hp_at rfl) rfl ?_
        refine r_iload_n 6 rfl rfl ?_
        refine r_iaload 7 rfl (hp_at rfl) (by decide) (by omega) (by omega) ?_
        refine r_icmp_ne (t := 39) 8 rfl (by decide) (by first | exact hA _ _ | exact ⟨by decide, by decide⟩ | assumption | exact ⟨by omega, by omega⟩) (by first | exact hA _ _ | exact ⟨by decide, by decide⟩ | assumption | exact ⟨by omega, by omega⟩) (fun c_12 => ?_) (fun c_12 => ?_)
        · refine r_iconst 23 rfl ?_
          refine r_iret 24 rfl rfl (by first | rfl | assumption) ?_
          exact h
        · refine r_aload_n 9 rfl rfl ?_
          refine r_get 10 rfl f_T_13 (hp_at rfl) rfl ?_
          refine r_iload_n 11 rfl rfl ?_
          refine r_iaload 12 rfl (hp_at rfl) (by decide) (by omega) (by omega) ?_
          refine r_if_eq (t := 41) 13 rfl (by decide) (by first | exact hA _ _ | exact ⟨by decide, by decide⟩ | assumption | exact ⟨by omega, by omega⟩) (fun c_21 => by omega) (fun c_21 => ?_)
          refine r_aload_n 14 rfl rfl ?_
          refine r_get 15 rfl f_T_17 (hp_at rfl) rfl ?_
          refine r_iload_n 16 rfl rfl ?_
          refine r_iaload 17 rfl (hp_at rfl) (by decide) (by omega) (by omega) ?_
          refine r_aload_n 18 rfl rfl ?_
          refine r_get 19 rfl f_T_17 (hp_at rfl) rfl ?_
          refine r_iload_n 20 rfl rfl ?_
          refine r_iaload 21 rfl (hp_at rfl) (by decide) (by omega) (by omega) ?_
          refine r_icmp_eq (t := 41) 22 rfl (by decide) (by first | exact hA _ _ | exact ⟨by decide, by decide⟩ | assumption | exact ⟨by omega, by omega⟩) (by first | exact hA _ _ | exact ⟨by decide, by decide⟩ | assumption | exact ⟨by omega, by omega⟩) (fun c_36 => by omega) (fun c_36 => ?_)
          refine r_iconst 23 rfl ?_
          refine r_iret 24 rfl rfl (by first | rfl | assumption) ?_
          exact h
    | branch k' l' r' =>
      have kb := tR_kind tb
      have hk11 : k' < 11 := lb
      have h := hf rfl A 0 (pg_rf hA) (by omega) (by omega)
      have e1 : A 105 a ≠ A 105 b := by
        obtain ⟨-, q1, q2⟩ := ta
        obtain ⟨q3, q4, q5⟩ := kb
        by_cases h0 : k = 0
        · have := q1 h0; omega
        · have := q2 h0; omega
      refine r_aload_n 0 rfl rfl ?_
      refine r_get 1 rfl f_T_13 (hp_at rfl) rfl ?_
      refine r_iload_n 2 rfl rfl ?_
      refine r_iaload 3 rfl (hp_at rfl) (by decide) (by omega) (by omega) ?_
      refine r_aload_n 4 rfl rfl ?_
      refine r_get 5 rfl f_T_13 (hp_at rfl) rfl ?_
      refine r_iload_n 6 rfl rfl ?_
      refine r_iaload 7 rfl (hp_at rfl) (by decide) (by omega) (by omega) ?_
      refine r_icmp_ne (t := 39) 8 rfl (by decide) (by first | exact hA _ _ | exact ⟨by decide, by decide⟩ | assumption | exact ⟨by omega, by omega⟩) (by first | exact hA _ _ | exact ⟨by decide, by decide⟩ | assumption | exact ⟨by omega, by omega⟩) (fun c_12 => ?_) (fun c_12 => by omega)
      refine r_iconst 23 rfl ?_
      refine r_iret 24 rfl rfl (by first | rfl | assumption) ?_
      exact h
  | branch k l r =>
    have ka := tR_kind ta
    have hk11 : k < 11 := la
    cases β with
    | leaf k' =>
      rw [tR_lf] at tb
      have h := hf rfl A 0 (pg_rf hA) (by omega) (by omega)
      have e1 : A 105 a ≠ A 105 b := by
        obtain ⟨-, q1, q2⟩ := tb
        obtain ⟨q3, q4, q5⟩ := ka
        by_cases h0 : k' = 0
        · have := q1 h0; omega
        · have := q2 h0; omega
      refine r_aload_n 0 rfl rfl ?_
      refine r_get 1 rfl f_T_13 (hp_at rfl) rfl ?_
      refine r_iload_n 2 rfl rfl ?_
      refine r_iaload 3 rfl (hp_at rfl) (by decide) (by omega) (by omega) ?_
      refine r_aload_n 4 rfl rfl ?_
      refine r_get 5 rfl f_T_13 (hp_at rfl) rfl ?_
      refine r_iload_n 6 rfl rfl ?_
      refine r_iaload 7 rfl (hp_at rfl) (by decide) (by omega) (by omega) ?_
      refine r_icmp_ne (t := 39) 8 rfl (by decide) (by first | exact hA _ _ | exact ⟨by decide, by decide⟩ | assumption | exact ⟨by omega, by omega⟩) (by first | exact hA _ _ | exact ⟨by decide, by decide⟩ | assumption | exact ⟨by omega, by omega⟩) (fun c_12 => ?_) (fun c_12 => by omega)
      refine r_iconst 23 rfl ?_
      refine r_iret 24 rfl rfl (by first | rfl | assumption) ?_
      exact h
    | branch k' l' r' =>
      have kb := tR_kind tb
      have hk11' : k' < 11 := lb
      rw [o1_br] at hf hok
      by_cases ek : k = k'
      case neg =>
        rw [if_pos ek] at hf
        have h := hf rfl A 0 (pg_rf hA) (by omega) (by omega)
        have e0 : A 105 a ≠ 0 := by omega
        have e1 : A 105 a ≠ A 105 b ∨ A 106 a ≠ A 106 b := by omega
        refine r_aload_n 0 rfl rfl ?_
        refine r_get 1 rfl f_T_13 (hp_at rfl) rfl ?_
        refine r_iload_n 2 rfl rfl ?_
        refine r_iaload 3 rfl (hp_at rfl) (by decide) (by omega) (by omega) ?_
        refine r_aload_n 4 rfl rfl ?_
        refine r_get 5 rfl f_T_13 (hp_at rfl) rfl ?_
        refine r_iload_n 6 rfl rfl ?_
        refine r_iaload 7 rfl (hp_at rfl) (by decide) (by omega) (by omega) ?_
        refine r_icmp_ne (t := 39) 8 rfl (by decide) (by first | exact hA _ _ | exact ⟨by decide, by decide⟩ | assumption | exact ⟨by omega, by omega⟩) (by first | exact hA _ _ | exact ⟨by decide, by decide⟩ | assumption | exact ⟨by omega, by omega⟩) (fun c_12 => ?_) (fun c_12 => ?_)
        · refine r_iconst 23 rfl ?_
          refine r_iret 24 rfl rfl (by first | rfl | assumption) ?_
          exact h
        · refine r_aload_n 9 rfl rfl ?_
          refine r_get 10 rfl f_T_13 (hp_at rfl) rfl ?_
          refine r_iload_n 11 rfl rfl ?_
          refine r_iaload 12 rfl (hp_at rfl) (by decide) (by omega) (by omega) ?_
          refine r_if_eq (t := 41) 13 rfl (by decide) (by first | exact hA _ _ | exact ⟨by decide, by decide⟩ | assumption | exact ⟨by omega, by omega⟩) (fun c_21 => by omega) (fun c_21 => ?_)
          refine r_aload_n 14 rfl rfl ?_
          refine r_get 15 rfl f_T_17 (hp_at rfl) rfl ?_
          refine r_iload_n 16 rfl rfl ?_
          refine r_iaload 17 rfl (hp_at rfl) (by decide) (by omega) (by omega) ?_
          refine r_aload_n 18 rfl rfl ?_
          refine r_get 19 rfl f_T_17 (hp_at rfl) rfl ?_
          refine r_iload_n 20 rfl rfl ?_
          refine r_iaload 21 rfl (hp_at rfl) (by decide) (by omega) (by omega) ?_
          refine r_icmp_eq (t := 41) 22 rfl (by decide) (by first | exact hA _ _ | exact ⟨by decide, by decide⟩ | assumption | exact ⟨by omega, by omega⟩) (by first | exact hA _ _ | exact ⟨by decide, by decide⟩ | assumption | exact ⟨by omega, by omega⟩) (fun c_36 => by omega) (fun c_36 => ?_)
          refine r_iconst 23 rfl ?_
          refine r_iret 24 rfl rfl (by first | rfl | assumption) ?_
          exact h
      subst ek
      rw [if_neg (fun h => h rfl)] at hf hok
      have e0 : A 105 a ≠ 0 := by omega
      have e1 : A 105 a = A 105 b := by omega
      have e2 : A 106 a = A 106 b := by omega
      rw [tR_br] at ta tb
      rw [wfT_br] at wa wb
      by_cases h3 : k < 3
      · rw [if_pos h3] at hok ta tb wa wb
        have ek : A 105 a = 2 := ta.1
        have hsi : si A (.branch k l r) (.branch k l' r') a b = [(l, l', A 110 (6 * a), A 110 (6 * b))] := if_pos h3
        rw [hsi] at hok
        have hca : 0 ≤ A 110 (6 * a) ∧ A 110 (6 * a) < U := hnod _ (Or.inl (by rw [ct_br, if_pos h3]; have := ct_self A l (A 110 (6 * a)); omega))
        rw [szT_br, if_pos h3] at hL
        have szb2 := szT_pos l'
        have u1 : A 100 4 < 300 := by omega
        have q1 : A 100 18 < 300 := by omega
        have u0 : 0 ≤ A 100 4 := by omega
        have hpl := pg_lt (n := n) (pg_rf hA) n1 (hA 110 (6 * a)) (hA 110 (6 * b)) p0 q1 u0 u1 (by omega)
        generalize hC : au (ltF A (A 110 (6 * a)) (A 110 (6 * b))) 110 (6 * n) (A 100 4) = C
        have Cr : ∀ (j : Nat) (y : Int), C j y = if j = 110 ∧ y = 6 * n then A 100 4 else ltF A (A 110 (6 * a)) (A 110 (6 * b)) j y := fun j y => by rw [← hC, au_ite]
        have hpg : pg A C n 1 := by
          obtain ⟨z1, z2, z3, z4, z5, z6, z7⟩ := hpl
          refine ⟨fun j i g1 g2 g3 g4 g5 => by rw [Cr, if_neg (by omega)]; exact z1 j i g1 g2 g3 g4 g5, by rw [← hC]; exact rga_au z2 (hA _ _), fun x hx hxn => (z3 x hx hxn).tr ⟨by rw [Cr, if_neg (by omega)], by rw [Cr, if_neg (by omega)], by rw [Cr, if_neg (by omega)], fun l l0 l1 => ⟨by rw [Cr, if_neg (by omega)], by rw [Cr, if_neg (by omega)], by rw [Cr, if_neg (by omega)]⟩⟩, ⟨by rw [Cr, if_neg (by omega)]; exact z4.1, by rw [Cr, if_neg (by omega)]; exact z4.2⟩, by rw [Cr, if_neg (by omega)]; omega, by rw [Cr, if_neg (by omega)]; omega, fun i hi => ?_⟩
          rw [Cr, if_neg (by omega), Cr, if_neg (by omega), Cr, if_neg (by omega)]
          exact z7 i hi
        have hq := hok (by simp) C hpg (by
          refine ⟨⟨?_, ?_, ?_⟩, ⟨?_, ?_, ?_, fun l l0 l1 => ?_⟩, trivial⟩
          · rw [Cr, if_neg (by omega), lt_row _ _ _ _ _ (by decide), if_neg (by omega), if_neg (by omega), if_neg (by omega), if_neg (by omega), if_neg (by omega), if_neg (by omega), if_pos ⟨rfl, rfl⟩]
          · rw [Cr, if_neg (by omega), lt_row _ _ _ _ _ (by decide), if_neg (by omega), if_neg (by omega), if_neg (by omega), if_neg (by omega), if_neg (by omega), if_pos ⟨rfl, rfl⟩]
          · rw [Cr, if_neg (by omega), lt_row _ _ _ _ _ (by decide), if_pos ⟨rfl, rfl⟩, hU]
          · rw [Cr, if_neg (by omega), lt_row _ _ _ _ _ (by decide), if_neg (by omega), if_neg (by omega), if_neg (by omega), if_neg (by omega), if_pos ⟨rfl, by omega⟩]
          · rw [Cr, if_neg (by omega), lt_row _ _ _ _ _ (by decide), if_neg (by omega), if_neg (by omega), if_neg (by omega), if_pos ⟨rfl, by omega⟩]
          · rw [Cr, if_neg (by omega), lt_row _ _ _ _ _ (by decide), if_neg (by omega), if_neg (by omega), if_pos ⟨rfl, by omega⟩]
          · rw [Cr, if_neg (by omega), lt_row _ _ _ _ _ (by decide), if_neg (by omega), if_pos (by omega)]) (by
          show (if k < 3 then C 110 (6 * n) = A 100 4 else _)
          rw [if_pos h3, Cr, if_pos ⟨rfl, rfl⟩])
        have c5 : C 105 a = 2 := by rw [(hpg.2.2.1 a (by omega) (by omega)).1]; exact ek
        have hA1 := hpg.2.1
        refine r_aload_n 0 rfl rfl ?_
        refine r_get 1 rfl f_T_13 (hp_at rfl) rfl ?_
        refine r_iload_n 2 rfl rfl ?_
        refine r_iaload 3 rfl (hp_at rfl) (by decide) (by omega) (by omega) ?_
        refine r_aload_n 4 rfl rfl ?_
        refine r_get 5 rfl f_T_13 (hp_at rfl) rfl ?_
        refine r_iload_n 6 rfl rfl ?_
        refine r_iaload 7 rfl (hp_at rfl) (by decide) (by omega) (by omega) ?_
        refine r_icmp_ne (t := 39) 8 rfl (by decide) (by first | exact hA _ _ | exact ⟨by decide, by decide⟩ | assumption | exact ⟨by omega, by omega⟩) (by first | exact hA _ _ | exact ⟨by decide, by decide⟩ | assumption | exact ⟨by omega, by omega⟩) (fun c_12 => by omega) (fun c_12 => ?_)
        refine r_aload_n 9 rfl rfl ?_
        refine r_get 10 rfl f_T_13 (hp_at rfl) rfl ?_
        refine r_iload_n 11 rfl rfl ?_
        refine r_iaload 12 rfl (hp_at rfl) (by decide) (by omega) (by omega) ?_
        refine r_if_eq (t := 41) 13 rfl (by decide) (by first | exact hA _ _ | exact ⟨by decide, by decide⟩ | assumption | exact ⟨by omega, by omega⟩) (fun c_21 => by omega) (fun c_21 => ?_)
        refine r_aload_n 14 rfl rfl ?_
        refine r_get 15 rfl f_T_17 (hp_at rfl) rfl ?_
        refine r_iload_n 16 rfl rfl ?_
        refine r_iaload 17 rfl (hp_at rfl) (by decide) (by omega) (by omega) ?_
        refine r_aload_n 18 rfl rfl ?_
        refine r_get 19 rfl f_T_17 (hp_at rfl) rfl ?_
        refine r_iload_n 20 rfl rfl ?_
        refine r_iaload 21 rfl (hp_at rfl) (by decide) (by omega) (by omega) ?_
        refine r_icmp_eq (t := 41) 22 rfl (by decide) (by first | exact hA _ _ | exact ⟨by decide, by decide⟩ | assumption | exact ⟨by omega, by omega⟩) (by first | exact hA _ _ | exact ⟨by decide, by decide⟩ | assumption | exact ⟨by omega, by omega⟩) (fun c_36 => ?_) (fun c_36 => by omega)
        refine r_aload_n 25 rfl rfl ?_
        refine r_get 26 rfl f_T_13 (hp_at rfl) rfl ?_
        refine r_iload_n 27 rfl rfl ?_
        refine r_iaload 28 rfl (hp_at rfl) (by decide) (by omega) (by omega) ?_
        refine r_iconst 29 rfl ?_
        refine r_icmp_ne (t := 82) 30 rfl (by decide) (by first | exact hA _ _ | exact ⟨by decide, by decide⟩ | assumption | exact ⟨by omega, by omega⟩) (by first | exact hA _ _ | exact ⟨by decide, by decide⟩ | assumption | exact ⟨by omega, by omega⟩) (fun c_48 => by omega) (fun c_48 => ?_)
        refine r_aload_n 31 rfl rfl ?_
        refine r_get 32 rfl f_T_29 (hp_at rfl) rfl ?_
        refine r_bipush 33 rfl rfl ?_
        refine r_iload_n 34 rfl rfl ?_
        refine r_imul 35 rfl ?_
        refine r_aload_n 36 rfl rfl ?_
        refine r_aload_n 37 rfl rfl ?_
        refine r_get 38 rfl f_T_29 (hp_at rfl) rfl ?_
        refine r_bipush 39 rfl rfl ?_
        refine r_iload_n 40 rfl rfl ?_
        refine r_imul 41 rfl ?_
        refine r_iaload 42 rfl (hp_at rfl) (by decide) (by omega) (by omega) ?_
        refine r_aload_n 43 rfl rfl ?_
        refine r_get 44 rfl f_T_29 (hp_at rfl) rfl ?_
        refine r_bipush 45 rfl rfl ?_
        refine r_iload_n 46 rfl rfl ?_
        refine r_imul 47 rfl ?_
        refine r_iaload 48 rfl (hp_at rfl) (by decide) (by omega) (by omega) ?_
        refine r_callv2 49 rfl l_T_169 (hp_at rfl) (Nat.le_of_ble_eq_true rfl) ?_
        refine c_T_later hA hca.1 (by omega) (hA _ _) p0 q1 u0 u1 (cp1 ?_)
        refine r_iastore 50 rfl (hp_at rfl) (by decide) (by omega) (by omega) ?_
        rw [ws_110, hC]
        clear hC
        have hA := hA1
        refine r_aload_n 51 rfl rfl ?_
        refine r_get 52 rfl f_T_13 (hp_at rfl) rfl ?_
        refine r_iload_n 53 rfl rfl ?_
        refine r_iaload 54 rfl (hp_at rfl) (by decide) (by omega) (by omega) ?_
        refine r_iconst 55 rfl ?_
        refine r_icmp_ne (t := 109) 56 rfl (by decide) (by first | exact hA _ _ | exact ⟨by decide, by decide⟩ | assumption | exact ⟨by omega, by omega⟩) (by first | exact hA _ _ | exact ⟨by decide, by decide⟩ | assumption | exact ⟨by omega, by omega⟩) (fun c_89 => ?_) (fun c_89 => by omega)
        refine r_aload_n 68 rfl rfl ?_
        refine r_get 69 rfl f_T_13 (hp_at rfl) rfl ?_
        refine r_iload_n 70 rfl rfl ?_
        refine r_iaload 71 rfl (hp_at rfl) (by decide) (by omega) (by omega) ?_
        refine r_iconst 72 rfl ?_
        refine r_icmp_eq (t := 131) 73 rfl (by decide) (by first | exact hA _ _ | exact ⟨by decide, by decide⟩ | assumption | exact ⟨by omega, by omega⟩) (by first | exact hA _ _ | exact ⟨by decide, by decide⟩ | assumption | exact ⟨by omega, by omega⟩) (fun c_116 => by omega) (fun c_116 => ?_)
        refine r_aload_n 74 rfl rfl ?_
        refine r_get 75 rfl f_T_13 (hp_at rfl) rfl ?_
        refine r_iload_n 76 rfl rfl ?_
        refine r_iaload 77 rfl (hp_at rfl) (by decide) (by omega) (by omega) ?_
        refine r_iconst 78 rfl ?_
        refine r_icmp_eq (t := 131) 79 rfl (by decide) (by first | exact hA _ _ | exact ⟨by decide, by decide⟩ | assumption | exact ⟨by omega, by omega⟩) (by first | exact hA _ _ | exact ⟨by decide, by decide⟩ | assumption | exact ⟨by omega, by omega⟩) (fun c_126 => by omega) (fun c_126 => ?_)
        refine r_iconst 80 rfl ?_
        refine r_iret 81 rfl rfl (by first | rfl | assumption) ?_
        exact hq
      · rw [if_neg h3] at hf hok ta tb wa wb
        obtain ⟨⟨ta1, ta2⟩, ta3, ta4⟩ := ta
        obtain ⟨⟨tb1, tb2⟩, tb3, tb4⟩ := tb
        have na := lab_n A l a 0 ta3
        have nb := lab_n A l' b 0 tb3
        have l6 := lenB_le l wa.2.1
        have l6' := lenB_le l' wb.2.1
        have eks : A 105 a = 3 ↔ k < 7 := by omega
        have ek4 : A 105 a = 3 ∨ A 105 a = 4 := by omega
        by_cases h7 : k < 7 ∧ lenB l ≠ lenB l'
        · rw [if_pos h7] at hf
          have h := hf rfl A 0 (pg_rf hA) (by omega) (by omega)
          refine r_aload_n 0 rfl rfl ?_
          refine r_get 1 rfl f_T_13 (hp_at rfl) rfl ?_
          refine r_iload_n 2 rfl rfl ?_
          refine r_iaload 3 rfl (hp_at rfl) (by decide) (by omega) (by omega) ?_
          refine r_aload_n 4 rfl rfl ?_
          refine r_get 5 rfl f_T_13 (hp_at rfl) rfl ?_
          refine r_iload_n 6 rfl rfl ?_
          refine r_iaload 7 rfl (hp_at rfl) (by decide) (by omega) (by omega) ?_
          refine r_icmp_ne (t := 39) 8 rfl (by decide) (by first | exact hA _ _ | exact ⟨by decide, by decide⟩ | assumption | exact ⟨by omega, by omega⟩) (by first | exact hA _ _ | exact ⟨by decide, by decide⟩ | assumption | exact ⟨by omega, by omega⟩) (fun c_12 => by omega) (fun c_12 => ?_)
          refine r_aload_n 9 rfl rfl ?_
          refine r_get 10 rfl f_T_13 (hp_at rfl) rfl ?_
          refine r_iload_n 11 rfl rfl ?_
          refine r_iaload 12 rfl (hp_at rfl) (by decide) (by omega) (by omega) ?_
          refine r_if_eq (t := 41) 13 rfl (by decide) (by first | exact hA _ _ | exact ⟨by decide, by decide⟩ | assumption | exact ⟨by omega, by omega⟩) (fun c_21 => by omega) (fun c_21 => ?_)
          refine r_aload_n 14 rfl rfl ?_
          refine r_get 15 rfl f_T_17 (hp_at rfl) rfl ?_
          refine r_iload_n 16 rfl rfl ?_
          refine r_iaload 17 rfl (hp_at rfl) (by decide) (by omega) (by omega) ?_
          refine r_aload_n 18 rfl rfl ?_
          refine r_get 19 rfl f_T_17 (hp_at rfl) rfl ?_
          refine r_iload_n 20 rfl rfl ?_
          refine r_iaload 21 rfl (hp_at rfl) (by decide) (by omega) (by omega) ?_
          refine r_icmp_eq (t := 41) 22 rfl (by decide) (by first | exact hA _ _ | exact ⟨by decide, by decide⟩ | assumption | exact ⟨by omega, by omega⟩) (by first | exact hA _ _ | exact ⟨by decide, by decide⟩ | assumption | exact ⟨by omega, by omega⟩) (fun c_36 => ?_) (fun c_36 => by omega)
          refine r_aload_n 25 rfl rfl ?_
          refine r_get 26 rfl f_T_13 (hp_at rfl) rfl ?_
          refine r_iload_n 27 rfl rfl ?_
          refine r_iaload 28 rfl (hp_at rfl) (by decide) (by omega) (by omega) ?_
          refine r_iconst 29 rfl ?_
          refine r_icmp_ne (t := 82) 30 rfl (by decide) (by first | exact hA _ _ | exact ⟨by decide, by decide⟩ | assumption | exact ⟨by omega, by omega⟩) (by first | exact hA _ _ | exact ⟨by decide, by decide⟩ | assumption | exact ⟨by omega, by omega⟩) (fun c_48 => ?_) (fun c_48 => by omega)
          refine r_aload_n 51 rfl rfl ?_
          refine r_get 52 rfl f_T_13 (hp_at rfl) rfl ?_
          refine r_iload_n 53 rfl rfl ?_
          refine r_iaload 54 rfl (hp_at rfl) (by decide) (by omega) (by omega) ?_
          refine r_iconst 55 rfl ?_
          refine r_icmp_ne (t := 109) 56 rfl (by decide) (by first | exact hA _ _ | exact ⟨by decide, by decide⟩ | assumption | exact ⟨by omega, by omega⟩) (by first | exact hA _ _ | exact ⟨by decide, by decide⟩ | assumption | exact ⟨by omega, by omega⟩) (fun c_89 => by omega) (fun c_89 => ?_)
          refine r_aload_n 57 rfl rfl ?_
          refine r_get 58 rfl f_T_20 (hp_at rfl) rfl ?_
          refine r_iload_n 59 rfl rfl ?_
          refine r_iaload 60 rfl (hp_at rfl) (by decide) (by omega) (by omega) ?_
          refine r_aload_n 61 rfl rfl ?_
          refine r_get 62 rfl f_T_20 (hp_at rfl) rfl ?_
          refine r_iload_n 63 rfl rfl ?_
          refine r_iaload 64 rfl (hp_at rfl) (by decide) (by omega) (by omega) ?_
          refine r_icmp_eq (t := 109) 65 rfl (by decide) (by first | exact hA _ _ | exact ⟨by decide, by decide⟩ | assumption | exact ⟨by omega, by omega⟩) (by first | exact hA _ _ | exact ⟨by decide, by decide⟩ | assumption | exact ⟨by omega, by omega⟩) (fun c_104 => by omega) (fun c_104 => ?_)
          refine r_iconst 66 rfl ?_
          refine r_iret 67 rfl rfl (by first | rfl | assumption) ?_
          exact h
        rw [if_neg h7] at hf hok
        have hsi : si A (.branch k l r) (.branch k l' r') a b = siB A l' a b l := if_neg h3
        rw [hsi] at hok
        rw [szT_br, if_neg h3] at hL
        have hsb := sbB_le l' l wa.2.1
        have za : ∀ x, 0 ≤ x → x < 6 → (hasL l x = true ↔ A 108 (6 * a + x) ≠ 0) := fun x x0 x1 => by
          constructor
          · intro h; have := lab_o A l a 0 ta3 x h; omega
          · intro h
            cases hh : hasL l x
            · exact absurd (ta4 x x0 x1 hh) h
            · rfl
        have go134 : wx K M_T_mergedOne (d + 2) Q 134 [some (.ref (xa K.n 32)), some (iv a), some (iv b), some (iv n), some (iv (0 + 1)), none, none, none] [] (hp K.n A R g t u) := by
          refine mo_loop1 (A := A) (l0 := l) (s := decide (k < 7)) (Lim := Lim) (U := U) hra.1 hra.2 hrb.1 hrb.2 U0 hU p0 n0 n1 hL3 tb3 wb.2.1 tb4 (by rw [eks]; simp) (fun x hx => hnod x (Or.inr (by rw [ct_br, if_neg h3]; omega))) (fun A' c' z1 z2 z3 z4 => hf z4 A' c' z1 z2 z3) l 0 0 A ta3 wa.2.1 (by omega) (by omega) (fun x x0 x1 hx => by rw [ta4 x x0 x1 hx]; omega) (fun x hx => hnod x (Or.inl (by rw [ct_br, if_neg h3]; omega))) na (pg_rf hA) (by omega) hn7 (by omega) (fun h => h) (fun ho B g1 g2 g3 g4 g5 => ?_)
          have hA := g1.2.1
          have go305 : wx K M_T_mergedOne (d + 2) Q 305 [some (.ref (xa K.n 32)), some (iv a), some (iv b), some (iv n), some (iv (0 + 1)), none, none, none] [] (hp K.n B R g t u) := by
            refine mo_loop2 (A := A) hra.1 (by omega) (by omega) hrb.1 (by omega) (by omega) (by omega) n1 hA4 za l' 0 (lenB l) B tb3 wb.2.1 (by omega) (by omega) (fun x x0 x1 hx => by rw [tb4 x x0 x1 hx]; omega) nb g1 (by omega) (by omega) (fun A' f1 f2 f3 => ?_)
            have hpg : pg A A' n (siB A l' a b l).length := by have := pg_tr g1 f1 (by omega); rw [Int.add_zero] at this; exact this
            -- rows of waiting pairs
            have hqw : ∀ (its : List (Tr × Tr × Int × Int)) (q : Int), A 100 18 ≤ q → q + its.length ≤ B 100 18 → qw A B U q its → qw A A' U q its := by
              intro its
              induction its with
              | nil => intros; trivial
              | cons it its ih =>
                intro q q0 q1 h
                obtain ⟨i1, i2, i3, i4⟩ := it
                obtain ⟨⟨y1, y2, y3⟩, ⟨y4, y5, y6, y7⟩, y8⟩ := h
                simp only [List.length_cons] at q1
                have b4 := g1.2.2.2.2.1
                have b18 := g1.2.2.2.2.2.1
                obtain ⟨v1, v2, v3⟩ := f1.2.2.2.2.2.2 q (by omega)
                obtain ⟨v4, v5, v6, v7⟩ := f1.2.2.1 (U + q) (by omega) (by omega)
                exact ⟨⟨v1.trans y1, v2.trans y2, v3.trans y3⟩, ⟨v4.trans y4, v5.trans y5, v6.trans y6, fun l l0 l1 => (v7 l l0 l1).1.trans (y7 l l0 l1)⟩, ih (q + 1) (by omega) (by omega) y8⟩
            have hskA : ∀ (rr : Tr) (i c : Int), (∀ x, hasL rr x = true → hasL l x = true) → (wfP rr).2 → skA A B l' a n rr i c → skA A A' l' a n rr i c := by
              intro rr
              induction rr with
              | leaf k => intros; trivial
              | branch kk τ r2 _ ih =>
                intro i c hs hw h
                rw [wfB_br] at hw
                rw [skA_br] at h ⊢
                have hk := hs (kk / 3 : Nat) (by rw [hasL_br]; simp)
                have hnf : hasL (flt l l') (kk / 3 : Nat) = false := by
                  cases hh : hasL (flt l l') (kk / 3 : Nat)
                  · rfl
                  · have := (flt_has l l' _ hh).2
                    rw [hk] at this; cases this
                obtain ⟨v1, v2, v3⟩ := f2 (kk / 3 : Nat) (by omega) (by omega) hnf
                rw [v1, v2, v3]
                refine ⟨h.1, h.2.1, ?_⟩
                have h3 := h.2.2
                cases hfd : fdL l' (kk / 3) with
                | none =>
                  rw [hfd] at h3
                  exact ⟨h3.1, ih _ _ (fun x hx => hs x (by rw [hasL_br, hx]; simp)) hw.2.2.2 h3.2⟩
                | some q =>
                  rw [hfd] at h3
                  exact ⟨h3.1, ih _ _ (fun x hx => hs x (by rw [hasL_br, hx]; simp)) hw.2.2.2 h3.2⟩
            refine hok ho A' hpg (hqw _ _ (by omega) (by have := g1.2.2.2.2.2.1; omega) g4) ?_
            show (if k < 3 then _ else _)
            rw [if_neg h3]
            refine ⟨hskA l 0 _ (fun x h => h) wa.2.1 g5, f3, fun x x0 x1 hx1 hx2 => ?_⟩
            rw [(f2 x x0 x1 hx2).1, (g3 x x0 x1 hx1).1]
            exact hn8 x x0 x1
          refine r_iconst 182 rfl ?_
          refine r_istore 183 rfl (Nat.le_of_ble_eq_true rfl) ?_
          exact go305
        by_cases hk7 : k < 7
        · refine r_aload_n 0 rfl rfl ?_
          refine r_get 1 rfl f_T_13 (hp_at rfl) rfl ?_
          refine r_iload_n 2 rfl rfl ?_
          refine r_iaload 3 rfl (hp_at rfl) (by decide) (by omega) (by omega) ?_
          refine r_aload_n 4 rfl rfl ?_
          refine r_get 5 rfl f_T_13 (hp_at rfl) rfl ?_
          refine r_iload_n 6 rfl rfl ?_
          refine r_iaload 7 rfl (hp_at rfl) (by decide) (by omega) (by omega) ?_
          refine r_icmp_ne (t := 39) 8 rfl (by decide) (by first | exact hA _ _ | exact ⟨by decide, by decide⟩ | assumption | exact ⟨by omega, by omega⟩) (by first | exact hA _ _ | exact ⟨by decide, by decide⟩ | assumption | exact ⟨by omega, by omega⟩) (fun c_12 => by omega) (fun c_12 => ?_)
          refine r_aload_n 9 rfl rfl ?_
          refine r_get 10 rfl f_T_13 (hp_at rfl) rfl ?_
          refine r_iload_n 11 rfl rfl ?_
          refine r_iaload 12 rfl (hp_at rfl) (by decide) (by omega) (by omega) ?_
          refine r_if_eq (t := 41) 13 rfl (by decide) (by first | exact hA _ _ | exact ⟨by decide, by decide⟩ | assumption | exact ⟨by omega, by omega⟩) (fun c_21 => by omega) (fun c_21 => ?_)
          refine r_aload_n 14 rfl rfl ?_
          refine r_get 15 rfl f_T_17 (hp_at rfl) rfl ?_
          refine r_iload_n 16 rfl rfl ?_
          refine r_iaload 17 rfl (hp_at rfl) (by decide) (by omega) (by omega) ?_
          refine r_aload_n 18 rfl rfl ?_
          refine r_get 19 rfl f_T_17 (hp_at rfl) rfl ?_
          refine r_iload_n 20 rfl rfl ?_
          refine r_iaload 21 rfl (hp_at rfl) (by decide) (by omega) (by omega) ?_
          refine r_icmp_eq (t := 41) 22 rfl (by decide) (by first | exact hA _ _ | exact ⟨by decide, by decide⟩ | assumption | exact ⟨by omega, by omega⟩) (by first | exact hA _ _ | exact ⟨by decide, by decide⟩ | assumption | exact ⟨by omega, by omega⟩) (fun c_36 => ?_) (fun c_36 => by omega)
          refine r_aload_n 25 rfl rfl ?_
          refine r_get 26 rfl f_T_13 (hp_at rfl) rfl ?_
          refine r_iload_n 27 rfl rfl ?_
          refine r_iaload 28 rfl (hp_at rfl) (by decide) (by omega) (by omega) ?_
          refine r_iconst 29 rfl ?_
          refine r_icmp_ne (t := 82) 30 rfl (by decide) (by first | exact hA _ _ | exact ⟨by decide, by decide⟩ | assumption | exact ⟨by omega, by omega⟩) (by first | exact hA _ _ | exact ⟨by decide, by decide⟩ | assumption | exact ⟨by omega, by omega⟩) (fun c_48 => ?_) (fun c_48 => by omega)
          refine r_aload_n 51 rfl rfl ?_
          refine r_get 52 rfl f_T_13 (hp_at rfl) rfl ?_
          refine r_iload_n 53 rfl rfl ?_
          refine r_iaload 54 rfl (hp_at rfl) (by decide) (by omega) (by omega) ?_
          refine r_iconst 55 rfl ?_
          refine r_icmp_ne (t := 109) 56 rfl (by decide) (by first | exact hA _ _ | exact ⟨by decide, by decide⟩ | assumption | exact ⟨by omega, by omega⟩) (by first | exact hA _ _ | exact ⟨by decide, by decide⟩ | assumption | exact ⟨by omega, by omega⟩) (fun c_89 => by omega) (fun c_89 => ?_)
          refine r_aload_n 57 rfl rfl ?_
          refine r_get 58 rfl f_T_20 (hp_at rfl) rfl ?_
          refine r_iload_n 59 rfl rfl ?_
          refine r_iaload 60 rfl (hp_at rfl) (by decide) (by omega) (by omega) ?_
          refine r_aload_n 61 rfl rfl ?_
          refine r_get 62 rfl f_T_20 (hp_at rfl) rfl ?_
          refine r_iload_n 63 rfl rfl ?_
          refine r_iaload 64 rfl (hp_at rfl) (by decide) (by omega) (by omega) ?_
          refine r_icmp_eq (t := 109) 65 rfl (by decide) (by first | exact hA _ _ | exact ⟨by decide, by decide⟩ | assumption | exact ⟨by omega, by omega⟩) (by first | exact hA _ _ | exact ⟨by decide, by decide⟩ | assumption | exact ⟨by omega, by omega⟩) (fun c_104 => ?_) (fun c_104 => by omega)
          refine r_aload_n 68 rfl rfl ?_
          refine r_get 69 rfl f_T_13 (hp_at rfl) rfl ?_
          refine r_iload_n 70 rfl rfl ?_
          refine r_iaload 71 rfl (hp_at rfl) (by decide) (by omega) (by omega) ?_
          refine r_iconst 72 rfl ?_
          refine r_icmp_eq (t := 131) 73 rfl (by decide) (by first | exact hA _ _ | exact ⟨by decide, by decide⟩ | assumption | exact ⟨by omega, by omega⟩) (by first | exact hA _ _ | exact ⟨by decide, by decide⟩ | assumption | exact ⟨by omega, by omega⟩) (fun c_116 => ?_) (fun c_116 => by omega)
          refine r_iconst 82 rfl ?_
          refine r_istore 83 rfl (Nat.le_of_ble_eq_true rfl) ?_
          exact go134
        · refine r_aload_n 0 rfl rfl ?_
          refine r_get 1 rfl f_T_13 (hp_at rfl) rfl ?_
          refine r_iload_n 2 rfl rfl ?_
          refine r_iaload 3 rfl (hp_at rfl) (by decide) (by omega) (by omega) ?_
          refine r_aload_n 4 rfl rfl ?_
          refine r_get 5 rfl f_T_13 (hp_at rfl) rfl ?_
          refine r_iload_n 6 rfl rfl ?_
          refine r_iaload 7 rfl (hp_at rfl) (by decide) (by omega) (by omega) ?_
          refine r_icmp_ne (t := 39) 8 rfl (by decide) (by first | exact hA _ _ | exact ⟨by decide, by decide⟩ | assumption | exact ⟨by omega, by omega⟩) (by first | exact hA _ _ | exact ⟨by decide, by decide⟩ | assumption | exact ⟨by omega, by omega⟩) (fun c_12 => by omega) (fun c_12 => ?_)
          refine r_aload_n 9 rfl rfl ?_
          refine r_get 10 rfl f_T_13 (hp_at rfl) rfl ?_
          refine r_iload_n 11 rfl rfl ?_
          refine r_iaload 12 rfl (hp_at rfl) (by decide) (by omega) (by omega) ?_
          refine r_if_eq (t := 41) 13 rfl (by decide) (by first | exact hA _ _ | exact ⟨by decide, by decide⟩ | assumption | exact ⟨by omega, by omega⟩) (fun c_21 => by omega) (fun c_21 => ?_)
          refine r_aload_n 14 rfl rfl ?_
          refine r_get 15 rfl f_T_17 (hp_at rfl) rfl ?_
          refine r_iload_n 16 rfl rfl ?_
          refine r_iaload 17 rfl (hp_at rfl) (by decide) (by omega) (by omega) ?_
          refine r_aload_n 18 rfl rfl ?_
          refine r_get 19 rfl f_T_17 (hp_at rfl) rfl ?_
          refine r_iload_n 20 rfl rfl ?_
          refine r_iaload 21 rfl (hp_at rfl) (by decide) (by omega) (by omega) ?_
          refine r_icmp_eq (t := 41) 22 rfl (by decide) (by first | exact hA _ _ | exact ⟨by decide, by decide⟩ | assumption | exact ⟨by omega, by omega⟩) (by first | exact hA _ _ | exact ⟨by decide, by decide⟩ | assumption | exact ⟨by omega, by omega⟩) (fun c_36 => ?_) (fun c_36 => by omega)
          refine r_aload_n 25 rfl rfl ?_
          refine r_get 26 rfl f_T_13 (hp_at rfl) rfl ?_
          refine r_iload_n 27 rfl rfl ?_
          refine r_iaload 28 rfl (hp_at rfl) (by decide) (by omega) (by omega) ?_
          refine r_iconst 29 rfl ?_
          refine r_icmp_ne (t := 82) 30 rfl (by decide) (by first | exact hA _ _ | exact ⟨by decide, by decide⟩ | assumption | exact ⟨by omega, by omega⟩) (by first | exact hA _ _ | exact ⟨by decide, by decide⟩ | assumption | exact ⟨by omega, by omega⟩) (fun c_48 => ?_) (fun c_48 => by omega)
          refine r_aload_n 51 rfl rfl ?_
          refine r_get 52 rfl f_T_13 (hp_at rfl) rfl ?_
          refine r_iload_n 53 rfl rfl ?_
          refine r_iaload 54 rfl (hp_at rfl) (by decide) (by omega) (by omega) ?_
          refine r_iconst 55 rfl ?_
          refine r_icmp_ne (t := 109) 56 rfl (by decide) (by first | exact hA _ _ | exact ⟨by decide, by decide⟩ | assumption | exact ⟨by omega, by omega⟩) (by first | exact hA _ _ | exact ⟨by decide, by decide⟩ | assumption | exact ⟨by omega, by omega⟩) (fun c_89 => ?_) (fun c_89 => by omega)
          refine r_aload_n 68 rfl rfl ?_
          refine r_get 69 rfl f_T_13 (hp_at rfl) rfl ?_
          refine r_iload_n 70 rfl rfl ?_
          refine r_iaload 71 rfl (hp_at rfl) (by decide) (by omega) (by omega) ?_
          refine r_iconst 72 rfl ?_
          refine r_icmp_eq (t := 131) 73 rfl (by decide) (by first | exact hA _ _ | exact ⟨by decide, by decide⟩ | assumption | exact ⟨by omega, by omega⟩) (by first | exact hA _ _ | exact ⟨by decide, by decide⟩ | assumption | exact ⟨by omega, by omega⟩) (fun c_116 => by omega) (fun c_116 => ?_)
          refine r_aload_n 74 rfl rfl ?_
          refine r_get 75 rfl f_T_13 (hp_at rfl) rfl ?_
          refine r_iload_n 76 rfl rfl ?_
          refine r_iaload 77 rfl (hp_at rfl) (by decide) (by omega) (by omega) ?_
          refine r_iconst 78 rfl ?_
          refine r_icmp_eq (t := 131) 79 rfl (by decide) (by first | exact hA _ _ | exact ⟨by decide, by decide⟩ | assumption | exact ⟨by omega, by omega⟩) (by first | exact hA _ _ | exact ⟨by decide, by decide⟩ | assumption | exact ⟨by omega, by omega⟩) (fun c_126 => ?_) (fun c_126 => by omega)
          refine r_iconst 82 rfl ?_
          refine r_istore 83 rfl (Nat.le_of_ble_eq_true rfl) ?_
          exact go134
end TW36


/-! the twin: one step of merging -/
def siB (A : Nat → Int → Int) (bs : Tr) (a b : Int) : Tr → List (Tr × Tr × Int × Int)
  | .leaf _ => []
  | .branch k τ r => match fdL bs (k / 3) with
    | none => siB A bs a b r
    | some (_, τ') => (τ, τ', A 110 (6 * a + (k / 3 : Nat)), A 110 (6 * b + (k / 3 : Nat))) :: siB A bs a b r
theorem siB_br (A : Nat → Int → Int) (bs : Tr) (a b : Int) (k : Nat) (τ r : Tr) : siB A bs a b (.branch k τ r) = match fdL bs (k / 3) with
    | none => siB A bs a b r
    | some (_, τ') => (τ, τ', A 110 (6 * a + (k / 3 : Nat)), A 110 (6 * b + (k / 3 : Nat))) :: siB A bs a b r := rfl
def si (A : Nat → Int → Int) (α β : Tr) (a b : Int) : List (Tr × Tr × Int × Int) := match α, β with
  | .branch k l _, .branch _ l' _ => if k < 3 then [(l, l', A 110 (6 * a), A 110 (6 * b))] else siB A l' a b l
  | _, _ => []
/-- the new pairs in the rows of those that wait -/
def qw (A A' : Nat → Int → Int) (U : Int) : Int → List (Tr × Tr × Int × Int) → Prop
  | _, [] => True
  | q, (_, _, a, b) :: r => (A' 119 q = a ∧ A' 120 q = b ∧ A' 121 q = U + q) ∧ (A' 105 (U + q) = A 105 a ∧ A' 106 (U + q) = A 106 a ∧ A' 107 (U + q) = 0 ∧ ∀ l, 0 ≤ l → l < 6 → A' 108 (6 * (U + q) + l) = 0) ∧ qw A A' U (q + 1) r
/-- the labels of the new place, from the first, from the second -/
def skA (A A' : Nat → Int → Int) (bs : Tr) (a n : Int) : Tr → Int → Int → Prop
  | .leaf _, _, _ => True
  | .branch k _ r, i, c => A' 108 (6 * n + (k / 3 : Nat)) = i + 1 ∧ A' 109 (6 * n + (k / 3 : Nat)) = (k % 3 : Nat) ∧ match fdL bs (k / 3) with
    | none => A' 110 (6 * n + (k / 3 : Nat)) = A 110 (6 * a + (k / 3 : Nat)) ∧ skA A A' bs a n r (i + 1) c
    | some _ => A' 110 (6 * n + (k / 3 : Nat)) = c ∧ skA A A' bs a n r (i + 1) (c + 1)
theorem skA_br (A A' : Nat → Int → Int) (bs : Tr) (a n : Int) (k : Nat) (l r : Tr) (i c : Int) : skA A A' bs a n (.branch k l r) i c = (A' 108 (6 * n + (k / 3 : Nat)) = i + 1 ∧ A' 109 (6 * n + (k / 3 : Nat)) = (k % 3 : Nat) ∧ match fdL bs (k / 3) with
    | none => A' 110 (6 * n + (k / 3 : Nat)) = A 110 (6 * a + (k / 3 : Nat)) ∧ skA A A' bs a n r (i + 1) c
    | some _ => A' 110 (6 * n + (k / 3 : Nat)) = c ∧ skA A A' bs a n r (i + 1) (c + 1)) := rfl
def skF (A A' : Nat → Int → Int) (b n : Int) : Tr → Int → Prop
  | .leaf _, i => A' 107 n = i
  | .branch k _ r, i => A' 108 (6 * n + (k / 3 : Nat)) = i + 1 ∧ A' 109 (6 * n + (k / 3 : Nat)) = (k % 3 : Nat) ∧ A' 110 (6 * n + (k / 3 : Nat)) = A 110 (6 * b + (k / 3 : Nat)) ∧ skF A A' b n r (i + 1)
def skT (A A' : Nat → Int → Int) (a b n : Int) (α β : Tr) : Prop := match α, β with
  | .branch k l _, .branch _ l' _ => if k < 3 then A' 110 (6 * n) = A 100 4 else skA A A' l' a n l 0 (A 100 4) ∧ skF A A' b n (flt l l') (lenB l) ∧ ∀ x, 0 ≤ x → x < 6 → hasL l x = false → hasL (flt l l') x = false → A' 108 (6 * n + x) = 0
  | _, _ => A' 107 n = 0
theorem pg_rf {A : Nat → Int → Int} {n : Int} (h : rga A) : pg A A n 0 := ⟨frM.rf A, h, fun x _ _ => sameN.rf A x, ⟨rfl, rfl⟩, by omega, by omega, fun _ _ => ⟨rfl, rfl, rfl⟩⟩
theorem pg_tr {A B C : Nat → Int → Int} {n c c' : Int} (h : pg A B n c) (h' : pg B C n c') (c0 : 0 ≤ c) : pg A C n (c + c') := by
  obtain ⟨h1, h2, h3, h4, h5, h6, h7⟩ := h
  obtain ⟨g1, g2, g3, g4, g5, g6, g7⟩ := h'
  exact ⟨h1.tr g1, g2, fun x hx hn => (h3 x hx hn).tr (g3 x (by omega) hn), ⟨g4.1.trans h4.1, g4.2.trans h4.2⟩, by omega, by omega, fun i hi => ⟨(g7 i (by omega)).1.trans (h7 i hi).1, (g7 i (by omega)).2.1.trans (h7 i hi).2.1, (g7 i (by omega)).2.2.trans (h7 i hi).2.2⟩⟩
theorem lenB_br (k : Nat) (l r : Tr) : lenB (.branch k l r) = 1 + lenB r := rfl
theorem lenB_c : ∀ l : Tr, (wfP l).2 → lenB l = (hasL l 0).toNat + (hasL l 1).toNat + (hasL l 2).toNat + (hasL l 3).toNat + (hasL l 4).toNat + (hasL l 5).toNat
  | .leaf k, _ => rfl
  | .branch k l r, hw => by
    rw [wfB_br] at hw
    have ih := lenB_c r hw.2.2.2
    obtain ⟨h6, h2, -⟩ := hw
    rw [lenB_br, ih, hasL_br, hasL_br, hasL_br, hasL_br, hasL_br, hasL_br]
    have : ((k / 3 : Nat) : Int) = 0 ∨ ((k / 3 : Nat) : Int) = 1 ∨ ((k / 3 : Nat) : Int) = 2 ∨ ((k / 3 : Nat) : Int) = 3 ∨ ((k / 3 : Nat) : Int) = 4 ∨ ((k / 3 : Nat) : Int) = 5 := by omega
    rcases this with e | e | e | e | e | e <;> rw [e] at h2 ⊢ <;> rw [h2] <;> simp +arith
theorem lenB_le (l : Tr) (h : (wfP l).2) : lenB l ≤ 6 := by
  rw [lenB_c l h]
  have h0 := Bool.toNat_le (hasL l 0)
  have h1 := Bool.toNat_le (hasL l 1)
  have h2 := Bool.toNat_le (hasL l 2)
  have h3 := Bool.toNat_le (hasL l 3)
  have h4 := Bool.toNat_le (hasL l 4)
  have h5 := Bool.toNat_le (hasL l 5)
  omega
theorem flt_le (a : Tr) : ∀ l : Tr, lenB (flt a l) ≤ lenB l
  | .leaf k => Nat.le_refl 0
  | .branch k l r => by
    have := flt_le a r
    rw [flt_br, lenB_br]
    split
    · omega
    · rw [lenB_br]; omega
theorem flt_has (a : Tr) : ∀ (l : Tr) (x : Int), hasL (flt a l) x = true → hasL l x = true ∧ hasL a x = false
  | .leaf k, x, h => by cases h
  | .branch k l r, x, h => by
    have ih := flt_has a r x
    rw [flt_br] at h
    rw [hasL_br]
    by_cases e : hasL a (k / 3 : Nat) = true
    · rw [if_pos e] at h
      exact ⟨by rw [(ih h).1]; simp, (ih h).2⟩
    · rw [if_neg e, hasL_br] at h
      by_cases e2 : ((k / 3 : Nat) : Int) = x
      · refine ⟨by rw [decide_eq_true e2]; rfl, ?_⟩
        rw [← e2]
        cases hh : hasL a ((k / 3 : Nat) : Int)
        · rfl
        · exact absurd hh e
      · rw [decide_eq_false e2, Bool.false_or] at h
        exact ⟨by rw [(ih h).1]; simp, (ih h).2⟩
theorem hasL_rg : ∀ (l : Tr) (x : Int), (wfP l).2 → hasL l x = true → 0 ≤ x ∧ x < 6
  | .leaf k, x, _, h => by cases h
  | .branch k l r, x, hw, h => by
    rw [wfB_br] at hw
    rw [hasL_br] at h
    by_cases e2 : ((k / 3 : Nat) : Int) = x
    · omega
    · rw [decide_eq_false e2, Bool.false_or] at h
      exact hasL_rg r x hw.2.2.2 h
section TW35
variable {K : xk} {M : xm} {d : Nat} {Q : Outcome → xh → Prop} {A : Nat → Int → Int} {R : Nat → Int → Value} {g : Nat → Nat × List Value} {t u : Nat}
/-- the labels of the first -/
theorem mo_loop1 {a b n U Lim : Int} {l' l0 : Tr} {s : Bool} (ha0 : 0 ≤ a) (ha1 : a < U) (hb0 : 0 ≤ b) (hb1 : b < U) (U0 : 0 ≤ U) (hU : A 100 4 = U + A 100 18) (p0 : 0 ≤ A 100 18) (n0 : U ≤ n) (n1 : n < A 100 4) (hL3 : Lim ≤ 300)
    (tb : (tR A l').2 b 0) (wb : (wfP l').2) (zb : ∀ x, 0 ≤ x → x < 6 → hasL l' x = false → A 108 (6 * b + x) = 0) (hs : s = true ↔ A 105 a = 3) (hnb : ∀ x, (ct A l').2 b x ≠ 0 → 0 ≤ x ∧ x < U)
    (hf : ∀ A' c', pg A A' n c' → 0 ≤ c' → A' 100 4 ≤ Lim → o1B s l' l0 = none → Q (.returned (some (iv 0))) (hp K.n A' R g t u)) :
    ∀ (r : Tr) (i c : Int) (B : Nat → Int → Int), (tR A r).2 a i → (wfP r).2 → 0 ≤ i → i + lenB r ≤ 6 → (∀ x, 0 ≤ x → x < 6 → hasL r x = false → A 108 (6 * a + x) ≤ i) → (∀ x, (ct A r).2 a x ≠ 0 → 0 ≤ x ∧ x < U) → A 107 a = i + lenB r → pg A B n c → 0 ≤ c → B 107 n = i → B 100 4 + sbB l' r ≤ Lim → (o1B s l' r = none → o1B s l' l0 = none) →
      (o1B s l' r ≠ none → ∀ A', pg B A' n (siB A l' a b r).length → A' 107 n = i + lenB r → (∀ x, 0 ≤ x → x < 6 → hasL r x = false → A' 108 (6 * n + x) = B 108 (6 * n + x) ∧ A' 109 (6 * n + x) = B 109 (6 * n + x) ∧ A' 110 (6 * n + x) = B 110 (6 * n + x)) → qw A A' U (B 100 18) (siB A l' a b r) → skA A A' l' a n r i (B 100 4) → wx K M_T_mergedOne (d + 2) Q 302 [some (.ref (xa K.n 32)), some (iv a), some (iv b), some (iv n), none, none, none, none] [] (hp K.n A' R g t u)) →
      wx K M_T_mergedOne (d + 2) Q 134 [some (.ref (xa K.n 32)), some (iv a), some (iv b), some (iv n), some (iv (i + 1)), none, none, none] [] (hp K.n B R g t u) := by
  intro r
  induction r with
  | leaf k =>
    intro i c B hr hw i0 i6 hu hnd h7 hpp hc0 hB7 hlim hfl hok
    have hA := hpp.2.1
    have e7 : B 107 a = A 107 a := (hpp.2.2.1 a (by omega) (by omega)).2.2.1
    have l7 : (lenB (.leaf k) : Int) = 0 := rfl
    have h4 : B 100 4 = A 100 4 + c := hpp.2.2.2.2.1
    refine r_iload 84 rfl rfl ?_
    refine r_aload_n 85 rfl rfl ?_
    refine r_get 86 rfl f_T_20 (hp_at rfl) rfl ?_
    refine r_iload_n 87 rfl rfl ?_
    refine r_iaload 88 rfl (hp_at rfl) (by decide) (by omega) (by omega) ?_
    refine r_icmp_gt (t := 302) 89 rfl (by decide) (by first | exact hA _ _ | exact ⟨by decide, by decide⟩ | assumption | exact ⟨by omega, by omega⟩) (by first | exact hA _ _ | exact ⟨by decide, by decide⟩ | assumption | exact ⟨by omega, by omega⟩) (fun c_142 => ?_) (fun c_142 => by omega)
    refine wx_t (pre := [some (.ref (xa K.n 32)), some (iv a), some (iv b), some (iv n)]) (tl := [some (iv (i + 1)), none, none, none]) ?_
    exact hok (by unfold o1B; simp) B (pg_rf hA) (by rw [hB7]; show i = i + 0; omega) (fun x _ _ _ => ⟨rfl, rfl, rfl⟩) trivial trivial
  | branch k τ r ihτ ih =>
    intro i c B hr hw i0 i6 hu hnd h7 hpp hc0 hB7 hlim hfl hok
    clear ihτ
    rw [tR_brB] at hr
    rw [wfB_br] at hw
    obtain ⟨r1, r2, r3, r4⟩ := hr
    obtain ⟨w1, w2, w3, w4⟩ := hw
    have hA := hpp.2.1
    obtain ⟨sa5, sa6, sa7, sa8⟩ := hpp.2.2.1 a (by omega) (by omega)
    obtain ⟨sb5, sb6, sb7, sb8⟩ := hpp.2.2.1 b (by omega) (by omega)
    have hl7 : (lenB (.branch k τ r) : Int) = 1 + lenB r := by rw [lenB_br]; omega
    obtain ⟨x, hx⟩ : ∃ x : Int, x = ((k / 3 : Nat) : Int) := ⟨_, rfl⟩
    have x0 : 0 ≤ x := by omega
    have x6 : x < 6 := by omega
    rw [← hx] at r1 r2 r3
    obtain ⟨A8, A9, A10⟩ := sa8 x x0 x6
    obtain ⟨B8, B9, B10⟩ := sb8 x x0 x6
    have hkk : rg (i + 1) := ⟨by omega, by omega⟩
    -- the child of the first
    have hca : 0 ≤ A 110 (6 * a + x) ∧ A 110 (6 * a + x) < U := hnd _ (by rw [ct_brB, ← hx]; have := ct_self A τ (A 110 (6 * a + x)); omega)
    have huq : ∀ j, 0 ≤ j → j < x → B 108 (6 * a + j) ≠ i + 1 := by
      intro j j0 j1
      rw [(sa8 j j0 (by omega)).1]
      by_cases e : hasL r j = true
      · have := lab_o A r a (i + 1) r4 j e; omega
      · have := hu j j0 (by omega) (by rw [hasL_br, ← hx, decide_eq_false (by omega), Bool.false_or]; cases hh : hasL r j; rfl; exact absurd hh e)
        omega
    have hu' : ∀ j, 0 ≤ j → j < 6 → hasL r j = false → A 108 (6 * a + j) ≤ i + 1 := by
      intro j j0 j1 j2
      by_cases e : j = x
      · rw [e, r1]; omega
      · have := hu j j0 j1 (by rw [hasL_br, ← hx, decide_eq_false (by omega), Bool.false_or, j2]); omega
    have hnd' : ∀ y, (ct A r).2 a y ≠ 0 → 0 ≤ y ∧ y < U := fun y hy => hnd y (by rw [ct_brB]; omega)
    have hnr : ∀ y, 0 ≤ y → y < 6 → hasL (.branch k τ r) y = false → y ≠ x ∧ hasL r y = false := by
      intro y _ _ h
      rw [hasL_br, Bool.or_eq_false_iff, decide_eq_false_iff_not, ← hx] at h
      exact ⟨fun e => h.1 e.symm, h.2⟩
    have h18 : B 100 18 = A 100 18 + c := hpp.2.2.2.2.2.1
    have h4 : B 100 4 = A 100 4 + c := hpp.2.2.2.2.1
    have hkm : ((k % 3 : Nat) : Int) < 3 := by omega
    rw [sbB_br] at hlim
    rw [siB_br] at hok
    rw [o1B_br] at hfl hok
    have hst := @fdL_has l' (k / 3)
    rw [← hx] at hst
    cases hfd : fdL l' (k / 3) with
    | none =>
      rw [hfd] at hlim hfl hok hst
      dsimp only at hlim hfl hok
      have hb8 : A 108 (6 * b + x) = 0 := zb x x0 x6 hst.symm
      by_cases hs3 : s = true
      · have ek : A 105 a = 3 := hs.mp hs3
        refine r_iload 84 rfl rfl ?_
        refine r_aload_n 85 rfl rfl ?_
        refine r_get 86 rfl f_T_20 (hp_at rfl) rfl ?_
        refine r_iload_n 87 rfl rfl ?_
        refine r_iaload 88 rfl (hp_at rfl) (by decide) (by omega) (by omega) ?_
        refine r_icmp_gt (t := 302) 89 rfl (by decide) (by first | exact hA _ _ | exact ⟨by decide, by decide⟩ | assumption | exact ⟨by omega, by omega⟩) (by first | exact hA _ _ | exact ⟨by decide, by decide⟩ | assumption | exact ⟨by omega, by omega⟩) (fun c_142 => by omega) (fun c_142 => ?_)
        refine r_aload_n 90 rfl rfl ?_
        refine r_iload_n 91 rfl rfl ?_
        refine r_iload 92 rfl rfl ?_
        refine r_callv2 93 rfl l_T_176 (hp_at rfl) (Nat.le_of_ble_eq_true rfl) ?_
        refine c_T_labelAt hA hkk ha0 (by omega) x0 x6 (by rw [A8, r1]) huq (cp1 ?_)
        refine r_istore 94 rfl (Nat.le_of_ble_eq_true rfl) ?_
        refine r_aload_n 95 rfl rfl ?_
        refine r_get 96 rfl f_T_23 (hp_at rfl) rfl ?_
        refine r_bipush 97 rfl rfl ?_
        refine r_iload_n 98 rfl rfl ?_
        refine r_imul 99 rfl ?_
        refine r_iload 100 rfl rfl ?_
        refine r_iadd 101 rfl ?_
        refine r_iaload 102 rfl (hp_at rfl) (by decide) (by omega) (by omega) ?_
        refine r_if_le (t := 173) 103 rfl (by decide) (by first | exact hA _ _ | exact ⟨by decide, by decide⟩ | assumption | exact ⟨by omega, by omega⟩) (fun c_166 => ?_) (fun c_166 => by omega)
        refine r_iconst 106 rfl ?_
        refine r_istore 107 rfl (Nat.le_of_ble_eq_true rfl) ?_
        refine r_iload 108 rfl rfl ?_
        refine r_if_ne (t := 191) 109 rfl (by decide) (by first | exact hA _ _ | exact ⟨by decide, by decide⟩ | assumption | exact ⟨by omega, by omega⟩) (fun c_178 => by omega) (fun c_178 => ?_)
        refine r_aload_n 110 rfl rfl ?_
        refine r_get 111 rfl f_T_13 (hp_at rfl) rfl ?_
        refine r_iload_n 112 rfl rfl ?_
        refine r_iaload 113 rfl (hp_at rfl) (by decide) (by omega) (by omega) ?_
        refine r_iconst 114 rfl ?_
        refine r_icmp_eq (t := 223) 115 rfl (by decide) (by first | exact hA _ _ | exact ⟨by decide, by decide⟩ | assumption | exact ⟨by omega, by omega⟩) (by first | exact hA _ _ | exact ⟨by decide, by decide⟩ | assumption | exact ⟨by omega, by omega⟩) (fun c_188 => ?_) (fun c_188 => by omega)
        refine r_iconst 135 rfl ?_
        refine r_iret 136 rfl rfl (by first | rfl | assumption) ?_
        exact hf B c hpp hc0 (by omega) (hfl (by rw [if_pos hs3]))
      · have ek : A 105 a ≠ 3 := fun h => hs3 (hs.mpr h)
        rw [if_neg hs3] at hfl hok
        have hs9 : rg (B 109 (6 * a + x)) := hA _ _
        have hpg : pg A (adF B n x (B 109 (6 * a + x)) (B 110 (6 * a + x))) n c := pg_ad hpp x0 x6 (by omega) (hA _ _) (hA _ _)
        have hpg1 : pg B (adF B n x (B 109 (6 * a + x)) (B 110 (6 * a + x))) n 0 := pg_ad (pg_rf hA) x0 x6 (by omega) (hA _ _) (hA _ _)
        have s4 : adF B n x (B 109 (6 * a + x)) (B 110 (6 * a + x)) 100 4 = B 100 4 := by rw [ad_row, if_neg (by omega), if_neg (by omega), if_neg (by omega), if_neg (by omega)]
        have s18 : adF B n x (B 109 (6 * a + x)) (B 110 (6 * a + x)) 100 18 = B 100 18 := by rw [ad_row, if_neg (by omega), if_neg (by omega), if_neg (by omega), if_neg (by omega)]
        have nx := ih (i + 1) c (adF B n x (B 109 (6 * a + x)) (B 110 (6 * a + x))) r4 w4 (by omega) (by omega) hu' hnd' (by omega) hpg hc0 (by rw [ad_row, if_neg (by omega), if_neg (by omega), if_neg (by omega), if_pos ⟨rfl, rfl⟩, hB7]) (by rw [s4]; omega) hfl (fun ho A' g1 g2 g3 g4 g5 => by
          obtain ⟨z1, z2, z3⟩ := g3 x x0 x6 (by rw [hx]; exact w2)
          refine hok ho A' (by have := pg_tr hpg1 g1 (by omega); rw [Int.zero_add] at this; exact this) (by omega) (fun y y0 y1 y2 => ?_) (by rw [← s18]; exact g4) ?_
          · obtain ⟨v1, v2⟩ := hnr y y0 y1 y2
            obtain ⟨u1, u2, u3⟩ := g3 y y0 y1 v2
            rw [u1, u2, u3]
            refine ⟨?_, ?_, ?_⟩ <;> rw [ad_row, if_neg (by omega), if_neg (by omega), if_neg (by omega), if_neg (by omega)]
          · rw [skA_br, hfd, ← hx, z1, z2, z3]
            refine ⟨?_, ?_, ?_, by rw [← s4]; exact g5⟩
            · rw [ad_row, if_neg (by omega), if_neg (by omega), if_pos ⟨rfl, rfl⟩, hB7]
            · rw [ad_row, if_neg (by omega), if_pos ⟨rfl, rfl⟩, A9, r2]
            · rw [ad_row, if_pos ⟨rfl, rfl⟩, A10])
        have hnx : ∀ v5 v6 v7 : Value, wx K M_T_mergedOne (d + 2) Q 134 [some (.ref (xa K.n 32)), some (iv a), some (iv b), some (iv n), some (iv (i + 1 + 1)), some v5, some v6, some v7] [] (hp K.n (adF B n x (B 109 (6 * a + x)) (B 110 (6 * a + x))) R g t u) := fun v5 v6 v7 => wx_t (pre := [some (.ref (xa K.n 32)), some (iv a), some (iv b), some (iv n), some (iv (i + 1 + 1))]) (tl := [some v5, some v6, some v7]) nx
        refine r_iload 84 rfl rfl ?_
        refine r_aload_n 85 rfl rfl ?_
        refine r_get 86 rfl f_T_20 (hp_at rfl) rfl ?_
        refine r_iload_n 87 rfl rfl ?_
        refine r_iaload 88 rfl (hp_at rfl) (by decide) (by omega) (by omega) ?_
        refine r_icmp_gt (t := 302) 89 rfl (by decide) (by first | exact hA _ _ | exact ⟨by decide, by decide⟩ | assumption | exact ⟨by omega, by omega⟩) (by first | exact hA _ _ | exact ⟨by decide, by decide⟩ | assumption | exact ⟨by omega, by omega⟩) (fun c_142 => by omega) (fun c_142 => ?_)
        refine r_aload_n 90 rfl rfl ?_
        refine r_iload_n 91 rfl rfl ?_
        refine r_iload 92 rfl rfl ?_
        refine r_callv2 93 rfl l_T_176 (hp_at rfl) (Nat.le_of_ble_eq_true rfl) ?_
        refine c_T_labelAt hA hkk ha0 (by omega) x0 x6 (by rw [A8, r1]) huq (cp1 ?_)
        refine r_istore 94 rfl (Nat.le_of_ble_eq_true rfl) ?_
        refine r_aload_n 95 rfl rfl ?_
        refine r_get 96 rfl f_T_23 (hp_at rfl) rfl ?_
        refine r_bipush 97 rfl rfl ?_
        refine r_iload_n 98 rfl rfl ?_
        refine r_imul 99 rfl ?_
        refine r_iload 100 rfl rfl ?_
        refine r_iadd 101 rfl ?_
        refine r_iaload 102 rfl (hp_at rfl) (by decide) (by omega) (by omega) ?_
        refine r_if_le (t := 173) 103 rfl (by decide) (by first | exact hA _ _ | exact ⟨by decide, by decide⟩ | assumption | exact ⟨by omega, by omega⟩) (fun c_166 => ?_) (fun c_166 => by omega)
        refine r_iconst 106 rfl ?_
        refine r_istore 107 rfl (Nat.le_of_ble_eq_true rfl) ?_
        refine r_iload 108 rfl rfl ?_
        refine r_if_ne (t := 191) 109 rfl (by decide) (by first | exact hA _ _ | exact ⟨by decide, by decide⟩ | assumption | exact ⟨by omega, by omega⟩) (fun c_178 => by omega) (fun c_178 => ?_)
        refine r_aload_n 110 rfl rfl ?_
        refine r_get 111 rfl f_T_13 (hp_at rfl) rfl ?_
        refine r_iload_n 112 rfl rfl ?_
        refine r_iaload 113 rfl (hp_at rfl) (by decide) (by omega) (by omega) ?_
        refine r_iconst 114 rfl ?_
        refine r_icmp_eq (t := 223) 115 rfl (by decide) (by first | exact hA _ _ | exact ⟨by decide, by decide⟩ | assumption | exact ⟨by omega, by omega⟩) (by first | exact hA _ _ | exact ⟨by decide, by decide⟩ | assumption | exact ⟨by omega, by omega⟩) (fun c_188 => by omega) (fun c_188 => ?_)
        refine r_iload 116 rfl rfl ?_
        refine r_if_eq (t := 225) 117 rfl (by decide) (by first | exact hA _ _ | exact ⟨by decide, by decide⟩ | assumption | exact ⟨by omega, by omega⟩) (fun c_193 => ?_) (fun c_193 => by omega)
        refine r_iload 137 rfl rfl ?_
        refine r_if_eq (t := 261) 138 rfl (by decide) (by first | exact hA _ _ | exact ⟨by decide, by decide⟩ | assumption | exact ⟨by omega, by omega⟩) (fun c_227 => ?_) (fun c_227 => by omega)
        refine r_aload_n 158 rfl rfl ?_
        refine r_get 159 rfl f_T_29 (hp_at rfl) rfl ?_
        refine r_bipush 160 rfl rfl ?_
        refine r_iload_n 161 rfl rfl ?_
        refine r_imul 162 rfl ?_
        refine r_iload 163 rfl rfl ?_
        refine r_iadd 164 rfl ?_
        refine r_iaload 165 rfl (hp_at rfl) (by decide) (by omega) (by omega) ?_
        refine r_istore 166 rfl (Nat.le_of_ble_eq_true rfl) ?_
        refine r_aload_n 167 rfl rfl ?_
        refine r_iload_n 168 rfl rfl ?_
        refine r_iload 169 rfl rfl ?_
        refine r_aload_n 170 rfl rfl ?_
        refine r_get 171 rfl f_T_26 (hp_at rfl) rfl ?_
        refine r_bipush 172 rfl rfl ?_
        refine r_iload_n 173 rfl rfl ?_
        refine r_imul 174 rfl ?_
        refine r_iload 175 rfl rfl ?_
        refine r_iadd 176 rfl ?_
        refine r_iaload 177 rfl (hp_at rfl) (by decide) (by omega) (by omega) ?_
        refine r_iload 178 rfl rfl ?_
        refine r_callv4 179 rfl l_T_134 (hp_at rfl) (Nat.le_of_ble_eq_true rfl) ?_
        refine c_T_addLabel hA (by omega) (by omega) x0 x6 (cp0 ?_)
        refine r_iinc 180 rfl rfl ?_
        refine r_goto (t := 134) 181 rfl (by decide) ?_
        exact hnx _ _ _
    | some q =>
      obtain ⟨k', τ'⟩ := q
      obtain ⟨f1, f2, f3, f4, f5, f6⟩ := fd_tR A l' b 0 (k / 3) k' τ' tb (by omega) wb hfd
      rw [← hx] at f1 f2 f3 f5
      have hcb : 0 ≤ A 110 (6 * b + x) ∧ A 110 (6 * b + x) < U := hnb _ (by have h1 := f5 (A 110 (6 * b + x)); have h2 := ct_self A τ' (A 110 (6 * b + x)); omega)
      rw [hfd] at hlim hfl hok
      dsimp only at hlim hfl hok
      have szp := szT_pos τ'
      by_cases hk3 : k' % 3 ≠ k % 3
      · refine r_iload 84 rfl rfl ?_
        refine r_aload_n 85 rfl rfl ?_
        refine r_get 86 rfl f_T_20 (hp_at rfl) rfl ?_
        refine r_iload_n 87 rfl rfl ?_
        refine r_iaload 88 rfl (hp_at rfl) (by decide) (by omega) (by omega) ?_
        refine r_icmp_gt (t := 302) 89 rfl (by decide) (by first | exact hA _ _ | exact ⟨by decide, by decide⟩ | assumption | exact ⟨by omega, by omega⟩) (by first | exact hA _ _ | exact ⟨by decide, by decide⟩ | assumption | exact ⟨by omega, by omega⟩) (fun c_142 => by omega) (fun c_142 => ?_)
        refine r_aload_n 90 rfl rfl ?_
        refine r_iload_n 91 rfl rfl ?_
        refine r_iload 92 rfl rfl ?_
        refine r_callv2 93 rfl l_T_176 (hp_at rfl) (Nat.le_of_ble_eq_true rfl) ?_
        refine c_T_labelAt hA hkk ha0 (by omega) x0 x6 (by rw [A8, r1]) huq (cp1 ?_)
        refine r_istore 94 rfl (Nat.le_of_ble_eq_true rfl) ?_
        refine r_aload_n 95 rfl rfl ?_
        refine r_get 96 rfl f_T_23 (hp_at rfl) rfl ?_
        refine r_bipush 97 rfl rfl ?_
        refine r_iload_n 98 rfl rfl ?_
        refine r_imul 99 rfl ?_
        refine r_iload 100 rfl rfl ?_
        refine r_iadd 101 rfl ?_
        refine r_iaload 102 rfl (hp_at rfl) (by decide) (by omega) (by omega) ?_
        refine r_if_le (t := 173) 103 rfl (by decide) (by first | exact hA _ _ | exact ⟨by decide, by decide⟩ | assumption | exact ⟨by omega, by omega⟩) (fun c_166 => by omega) (fun c_166 => ?_)
        refine r_iconst 104 rfl ?_
        refine r_goto (t := 174) 105 rfl (by decide) ?_
        refine r_istore 107 rfl (Nat.le_of_ble_eq_true rfl) ?_
        refine r_iload 108 rfl rfl ?_
        refine r_if_ne (t := 191) 109 rfl (by decide) (by first | exact hA _ _ | exact ⟨by decide, by decide⟩ | assumption | exact ⟨by omega, by omega⟩) (fun c_178 => ?_) (fun c_178 => by omega)
        refine r_iload 116 rfl rfl ?_
        refine r_if_eq (t := 225) 117 rfl (by decide) (by first | exact hA _ _ | exact ⟨by decide, by decide⟩ | assumption | exact ⟨by omega, by omega⟩) (fun c_193 => by omega) (fun c_193 => ?_)
        refine r_aload_n 118 rfl rfl ?_
        refine r_get 119 rfl f_T_26 (hp_at rfl) rfl ?_
        refine r_bipush 120 rfl rfl ?_
        refine r_iload_n 121 rfl rfl ?_
        refine r_imul 122 rfl ?_
        refine r_iload 123 rfl rfl ?_
        refine r_iadd 124 rfl ?_
        refine r_iaload 125 rfl (hp_at rfl) (by decide) (by omega) (by omega) ?_
        refine r_aload_n 126 rfl rfl ?_
        refine r_get 127 rfl f_T_26 (hp_at rfl) rfl ?_
        refine r_bipush 128 rfl rfl ?_
        refine r_iload_n 129 rfl rfl ?_
        refine r_imul 130 rfl ?_
        refine r_iload 131 rfl rfl ?_
        refine r_iadd 132 rfl ?_
        refine r_iaload 133 rfl (hp_at rfl) (by decide) (by omega) (by omega) ?_
        refine r_icmp_eq (t := 225) 134 rfl (by decide) (by first | exact hA _ _ | exact ⟨by decide, by decide⟩ | assumption | exact ⟨by omega, by omega⟩) (by first | exact hA _ _ | exact ⟨by decide, by decide⟩ | assumption | exact ⟨by omega, by omega⟩) (fun c_220 => by omega) (fun c_220 => ?_)
        refine r_iconst 135 rfl ?_
        refine r_iret 136 rfl rfl (by first | rfl | assumption) ?_
        exact hf B c hpp hc0 (by omega) (hfl (by rw [if_pos hk3]))
      · rw [if_neg hk3] at hfl hok
        have e9 : B 109 (6 * a + x) = B 109 (6 * b + x) := by rw [A9, B9, r2, f2]; omega
        have u0 : 0 ≤ B 100 4 := by omega
        have u1 : B 100 4 < 300 := by omega
        have q0 : 0 ≤ B 100 18 := by omega
        have q1 : B 100 18 < 300 := by omega
        have hca' : 0 ≤ B 110 (6 * a + x) ∧ B 110 (6 * a + x) < 300 := by rw [A10]; omega
        have hra : rg (B 110 (6 * a + x)) := hA _ _
        have hrb : rg (B 110 (6 * b + x)) := hA _ _
        have hl7 : ltF B (B 110 (6 * a + x)) (B 110 (6 * b + x)) 107 n = i := by rw [lt_row _ _ _ _ _ (by decide), if_neg (by omega), if_neg (by omega), if_neg (by omega), if_neg (by omega), if_neg (by omega), if_neg (by omega), if_neg (by omega), hB7]
        have hl9 : ltF B (B 110 (6 * a + x)) (B 110 (6 * b + x)) 109 (6 * a + x) = B 109 (6 * a + x) := by rw [lt_row _ _ _ _ _ (by decide), if_neg (by omega), if_neg (by omega), if_neg (by omega), if_neg (by omega), if_neg (by omega), if_neg (by omega), if_neg (by omega)]
        have hrl : rga (ltF B (B 110 (6 * a + x)) (B 110 (6 * b + x))) := rga_lt hA hra hrb q0 q1 u0 u1
        generalize hC : adF (ltF B (B 110 (6 * a + x)) (B 110 (6 * b + x))) n x (B 109 (6 * a + x)) (B 100 4) = C
        have hpg : pg A C n (c + 1) := by rw [← hC]; exact pg_ad (pg_lt hpp n1 hra hrb q0 q1 u0 u1 hc0) x0 x6 (by rw [hl7]; omega) (hA _ _) (hA _ _)
        have hpg1 : pg B C n 1 := by rw [← hC]; exact pg_ad (pg_lt (pg_rf hA) (by omega) hra hrb q0 q1 u0 u1 (by omega)) x0 x6 (by rw [hl7]; omega) (hA _ _) (hA _ _)
        have s4 : C 100 4 = B 100 4 + 1 := hpg1.2.2.2.2.1
        have s18 : C 100 18 = B 100 18 + 1 := hpg1.2.2.2.2.2.1
        have Cr : ∀ (j : Nat) (y : Int), j ≠ 100 → C j y = if j = 110 ∧ y = 6 * n + x then B 100 4 else if j = 109 ∧ y = 6 * n + x then B 109 (6 * a + x) else if j = 108 ∧ y = 6 * n + x then i + 1 else if j = 107 ∧ y = n then i + 1 else ltF B (B 110 (6 * a + x)) (B 110 (6 * b + x)) j y := fun j y _ => by rw [← hC, ad_row, hl7]
        have nx := ih (i + 1) (c + 1) C r4 w4 (by omega) (by omega) hu' hnd' (by omega) hpg (by omega) (by rw [Cr _ _ (by decide), if_neg (by omega), if_neg (by omega), if_neg (by omega), if_pos ⟨rfl, rfl⟩]) (by rw [s4]; omega) (fun h => hfl (by rw [h]; rfl)) (fun ho A' g1 g2 g3 g4 g5 => by
          obtain ⟨z1, z2, z3⟩ := g3 x x0 x6 (by rw [hx]; exact w2)
          have hne : (Option.map (fun z => (τ, τ') :: z) (o1B s l' r)) ≠ none := by
            intro h; exact ho (Option.map_eq_none_iff.mp h)
          refine hok hne A' ?_ (by omega) (fun y y0 y1 y2 => ?_) ?_ ?_
          · have := pg_tr hpg1 g1 (by omega)
            rw [List.length_cons, show (((siB A l' a b r).length + 1 : Nat) : Int) = 1 + ((siB A l' a b r).length : Int) by omega]
            exact this
          · obtain ⟨v1, v2⟩ := hnr y y0 y1 y2
            obtain ⟨u1, u2, u3⟩ := g3 y y0 y1 v2
            rw [u1, u2, u3]
            refine ⟨?_, ?_, ?_⟩ <;> rw [Cr _ _ (by decide), if_neg (by omega), if_neg (by omega), if_neg (by omega), if_neg (by omega), lt_row _ _ _ _ _ (by decide), if_neg (by omega), if_neg (by omega), if_neg (by omega), if_neg (by omega), if_neg (by omega), if_neg (by omega), if_neg (by omega)]
          · obtain ⟨y1, y2, y3⟩ := g1.2.2.2.2.2.2 (B 100 18) (by omega)
            have hUq : U + B 100 18 = B 100 4 := by omega
            obtain ⟨y4, y5, y6, y7⟩ := g1.2.2.1 (B 100 4) (by omega) (by omega)
            have hca5 : B 105 (B 110 (6 * a + x)) = A 105 (A 110 (6 * a + x)) ∧ B 106 (B 110 (6 * a + x)) = A 106 (A 110 (6 * a + x)) := by
              rw [A10]
              have := hpp.2.2.1 (A 110 (6 * a + x)) (by omega) (by omega)
              exact ⟨this.1, this.2.1⟩
            rw [← hx]
            refine ⟨⟨?_, ?_, ?_⟩, ⟨?_, ?_, ?_, fun l l0 l1 => ?_⟩, by rw [← s18]; exact g4⟩
            · rw [y1, Cr _ _ (by decide), if_neg (by omega), if_neg (by omega), if_neg (by omega), if_neg (by omega), lt_row _ _ _ _ _ (by decide), if_neg (by omega), if_neg (by omega), if_neg (by omega), if_neg (by omega), if_neg (by omega), if_neg (by omega), if_pos ⟨rfl, rfl⟩, A10]
            · rw [y2, Cr _ _ (by decide), if_neg (by omega), if_neg (by omega), if_neg (by omega), if_neg (by omega), lt_row _ _ _ _ _ (by decide), if_neg (by omega), if_neg (by omega), if_neg (by omega), if_neg (by omega), if_neg (by omega), if_pos ⟨rfl, rfl⟩, B10]
            · rw [y3, Cr _ _ (by decide), if_neg (by omega), if_neg (by omega), if_neg (by omega), if_neg (by omega), lt_row _ _ _ _ _ (by decide), if_pos ⟨rfl, rfl⟩, hUq]
            · rw [hUq, y4, Cr _ _ (by decide), if_neg (by omega), if_neg (by omega), if_neg (by omega), if_neg (by omega), lt_row _ _ _ _ _ (by decide), if_neg (by omega), if_neg (by omega), if_neg (by omega), if_neg (by omega), if_pos ⟨rfl, rfl⟩, hca5.1]
            · rw [hUq, y5, Cr _ _ (by decide), if_neg (by omega), if_neg (by omega), if_neg (by omega), if_neg (by omega), lt_row _ _ _ _ _ (by decide), if_neg (by omega), if_neg (by omega), if_neg (by omega), if_pos ⟨rfl, rfl⟩, hca5.2]
            · rw [hUq, y6, Cr _ _ (by decide), if_neg (by omega), if_neg (by omega), if_neg (by omega), if_neg (by omega), lt_row _ _ _ _ _ (by decide), if_neg (by omega), if_neg (by omega), if_pos ⟨rfl, rfl⟩]
            · rw [hUq, (y7 l l0 l1).1, Cr _ _ (by decide), if_neg (by omega), if_neg (by omega), if_neg (by omega), if_neg (by omega), lt_row _ _ _ _ _ (by decide), if_neg (by omega), if_pos (by omega)]
          · rw [skA_br, hfd, ← hx, z1, z2, z3]
            refine ⟨?_, ?_, ?_, by rw [← s4]; exact g5⟩
            · rw [Cr _ _ (by decide), if_neg (by omega), if_neg (by omega), if_pos ⟨rfl, rfl⟩]
            · rw [Cr _ _ (by decide), if_neg (by omega), if_pos ⟨rfl, rfl⟩, A9, r2]
            · rw [Cr _ _ (by decide), if_pos ⟨rfl, rfl⟩])
        have hnx : ∀ v5 v6 v7 : Value, wx K M_T_mergedOne (d + 2) Q 134 [some (.ref (xa K.n 32)), some (iv a), some (iv b), some (iv n), some (iv (i + 1 + 1)), some v5, some v6, some v7] [] (hp K.n C R g t u) := fun v5 v6 v7 => wx_t (pre := [some (.ref (xa K.n 32)), some (iv a), some (iv b), some (iv n), some (iv (i + 1 + 1))]) (tl := [some v5, some v6, some v7]) nx
        refine r_iload 84 rfl rfl ?_
        refine r_aload_n 85 rfl rfl ?_
        refine r_get 86 rfl f_T_20 (hp_at rfl) rfl ?_
        refine r_iload_n 87 rfl rfl ?_
        refine r_iaload 88 rfl (hp_at rfl) (by decide) (by omega) (by omega) ?_
        refine r_icmp_gt (t := 302) 89 rfl (by decide) (by first | exact hA _ _ | exact ⟨by decide, by decide⟩ | assumption | exact ⟨by omega, by omega⟩) (by first | exact hA _ _ | exact ⟨by decide, by decide⟩ | assumption | exact ⟨by omega, by omega⟩) (fun c_142 => by omega) (fun c_142 => ?_)
        refine r_aload_n 90 rfl rfl ?_
        refine r_iload_n 91 rfl rfl ?_
        refine r_iload 92 rfl rfl ?_
        refine r_callv2 93 rfl l_T_176 (hp_at rfl) (Nat.le_of_ble_eq_true rfl) ?_
        refine c_T_labelAt hA hkk ha0 (by omega) x0 x6 (by rw [A8, r1]) huq (cp1 ?_)
        refine r_istore 94 rfl (Nat.le_of_ble_eq_true rfl) ?_
        refine r_aload_n 95 rfl rfl ?_
        refine r_get 96 rfl f_T_23 (hp_at rfl) rfl ?_
        refine r_bipush 97 rfl rfl ?_
        refine r_iload_n 98 rfl rfl ?_
        refine r_imul 99 rfl ?_
        refine r_iload 100 rfl rfl ?_
        refine r_iadd 101 rfl ?_
        refine r_iaload 102 rfl (hp_at rfl) (by decide) (by omega) (by omega) ?_
        refine r_if_le (t := 173) 103 rfl (by decide) (by first | exact hA _ _ | exact ⟨by decide, by decide⟩ | assumption | exact ⟨by omega, by omega⟩) (fun c_166 => by omega) (fun c_166 => ?_)
        refine r_iconst 104 rfl ?_
        refine r_goto (t := 174) 105 rfl (by decide) ?_
        refine r_istore 107 rfl (Nat.le_of_ble_eq_true rfl) ?_
        refine r_iload 108 rfl rfl ?_
        refine r_if_ne (t := 191) 109 rfl (by decide) (by first | exact hA _ _ | exact ⟨by decide, by decide⟩ | assumption | exact ⟨by omega, by omega⟩) (fun c_178 => ?_) (fun c_178 => by omega)
        refine r_iload 116 rfl rfl ?_
        refine r_if_eq (t := 225) 117 rfl (by decide) (by first | exact hA _ _ | exact ⟨by decide, by decide⟩ | assumption | exact ⟨by omega, by omega⟩) (fun c_193 => by omega) (fun c_193 => ?_)
        refine r_aload_n 118 rfl rfl ?_
        refine r_get 119 rfl f_T_26 (hp_at rfl) rfl ?_
        refine r_bipush 120 rfl rfl ?_
        refine r_iload_n 121 rfl rfl ?_
        refine r_imul 122 rfl ?_
        refine r_iload 123 rfl rfl ?_
        refine r_iadd 124 rfl ?_
        refine r_iaload 125 rfl (hp_at rfl) (by decide) (by omega) (by omega) ?_
        refine r_aload_n 126 rfl rfl ?_
        refine r_get 127 rfl f_T_26 (hp_at rfl) rfl ?_
        refine r_bipush 128 rfl rfl ?_
        refine r_iload_n 129 rfl rfl ?_
        refine r_imul 130 rfl ?_
        refine r_iload 131 rfl rfl ?_
        refine r_iadd 132 rfl ?_
        refine r_iaload 133 rfl (hp_at rfl) (by decide) (by omega) (by omega) ?_
        refine r_icmp_eq (t := 225) 134 rfl (by decide) (by first | exact hA _ _ | exact ⟨by decide, by decide⟩ | assumption | exact ⟨by omega, by omega⟩) (by first | exact hA _ _ | exact ⟨by decide, by decide⟩ | assumption | exact ⟨by omega, by omega⟩) (fun c_220 => ?_) (fun c_220 => by omega)
        refine r_iload 137 rfl rfl ?_
        refine r_if_eq (t := 261) 138 rfl (by decide) (by first | exact hA _ _ | exact ⟨by decide, by decide⟩ | assumption | exact ⟨by omega, by omega⟩) (fun c_227 => by omega) (fun c_227 => ?_)
        refine r_aload_n 139 rfl rfl ?_
        refine r_aload_n 140 rfl rfl ?_
        refine r_get 141 rfl f_T_29 (hp_at rfl) rfl ?_
        refine r_bipush 142 rfl rfl ?_
        refine r_iload_n 143 rfl rfl ?_
        refine r_imul 144 rfl ?_
        refine r_iload 145 rfl rfl ?_
        refine r_iadd 146 rfl ?_
        refine r_iaload 147 rfl (hp_at rfl) (by decide) (by omega) (by omega) ?_
        refine r_aload_n 148 rfl rfl ?_
        refine r_get 149 rfl f_T_29 (hp_at rfl) rfl ?_
        refine r_bipush 150 rfl rfl ?_
        refine r_iload_n 151 rfl rfl ?_
        refine r_imul 152 rfl ?_
        refine r_iload 153 rfl rfl ?_
        refine r_iadd 154 rfl ?_
        refine r_iaload 155 rfl (hp_at rfl) (by decide) (by omega) (by omega) ?_
        refine r_callv2 156 rfl l_T_169 (hp_at rfl) (Nat.le_of_ble_eq_true rfl) ?_
        refine c_T_later hA hca'.1 hca'.2 hrb q0 q1 u0 u1 (cp1 ?_)
        refine r_goto (t := 273) 157 rfl (by decide) ?_
        refine r_istore 166 rfl (Nat.le_of_ble_eq_true rfl) ?_
        refine r_aload_n 167 rfl rfl ?_
        refine r_iload_n 168 rfl rfl ?_
        refine r_iload 169 rfl rfl ?_
        refine r_aload_n 170 rfl rfl ?_
        refine r_get 171 rfl f_T_26 (hp_at rfl) rfl ?_
        refine r_bipush 172 rfl rfl ?_
        refine r_iload_n 173 rfl rfl ?_
        refine r_imul 174 rfl ?_
        refine r_iload 175 rfl rfl ?_
        refine r_iadd 176 rfl ?_
        refine r_iaload 177 rfl (hp_at rfl) (by decide) (by omega) (by omega) ?_
        rw [hl9]
        refine r_iload 178 rfl rfl ?_
        refine r_callv4 179 rfl l_T_134 (hp_at rfl) (Nat.le_of_ble_eq_true rfl) ?_
        refine c_T_addLabel hrl (by omega) (by omega) x0 x6 (cp0 ?_)
        rw [hC]
        refine r_iinc 180 rfl rfl ?_
        refine r_goto (t := 134) 181 rfl (by decide) ?_
        exact hnx _ _ _
end TW35


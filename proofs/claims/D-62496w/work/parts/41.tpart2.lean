/-! the twin: partAt -/
section TW41
variable {K : xk} {M : xm} {d : Nat} {Q : Outcome → xh → Prop} {A : Nat → Int → Int} {R : Nat → Int → Value} {g : Nat → Nat × List Value} {t u : Nat}
theorem tG_brB (A : Nat → Int → Int) (md : Bool) (k : Nat) (l r : Tr) (m i n : Int) : (tG A md (.branch k l r)).2 m i n = (A 108 (6 * m + (k / 3 : Nat)) = i + 1 ∧ A 109 (6 * m + (k / 3 : Nat)) = (k % 3 : Nat) ∧ A 110 (6 * m + (k / 3 : Nat)) = n ∧ (tG A md l).1 n ∧ (tG A md r).2 m (i + 1) (n + szT l)) := rfl
theorem tG_brT (A : Nat → Int → Int) (k : Nat) (l r : Tr) (n : Int) : (tG A false (.branch k l r)).1 n = (if k < 3 then A 105 n = 2 ∧ A 106 n = k ∧ A 110 (6 * n) = n + 1 ∧ (tG A false l).1 (n + 1)
      else (if false = true then A 105 n = 3 + ((k - 3) / 4 : Nat) ∧ A 106 n = ((k - 3) % 4 : Nat) else A 105 n = 5 ∧ A 106 n = ((k - 3 : Nat) : Int)) ∧ (tG A false l).2 n 0 (n + 1) ∧ ∀ x, 0 ≤ x → x < 6 → hasL l x = false → A 108 (6 * n + x) = 0) := rfl
theorem labG_n (A : Nat → Int → Int) (md : Bool) : ∀ (l : Tr) (m i n : Int), (tG A md l).2 m i n → A 107 m = i + lenB l
  | .leaf k, m, i, n, h => by replace h : A 107 m = i := h; rw [h]; show i = i + 0; omega
  | .branch k τ r, m, i, n, h => by
    rw [tG_brB] at h
    have := labG_n A md r m (i + 1) _ h.2.2.2.2
    rw [this, lenB_br]; omega
theorem labG_o (A : Nat → Int → Int) (md : Bool) : ∀ (l : Tr) (m i n : Int), (tG A md l).2 m i n → ∀ x, hasL l x = true → i + 1 ≤ A 108 (6 * m + x)
  | .leaf k, m, i, n, h, x, hx => by rw [hasL_lf] at hx; cases hx
  | .branch k τ r, m, i, n, h, x, hx => by
    rw [tG_brB] at h
    rw [hasL_br] at hx
    by_cases e : ((k / 3 : Nat) : Int) = x
    · rw [← e, h.1]; exact Int.le_refl _
    · rw [decide_eq_false e, Bool.false_or] at hx
      have := labG_o A md r m (i + 1) _ h.2.2.2.2 x hx
      omega
def P1 (A : Nat → Int → Int) (r : Int) (τ : Tr) (v lo hi : Int) : Prop := match (pt r τ).1 with
  | none => v < 0
  | some σ => (tR A σ).1 v ∧ ∀ x, (ct A σ).1 v x ≤ 1 ∧ ((ct A σ).1 v x ≠ 0 → lo ≤ x ∧ x < hi)
def PL (A : Nat → Int → Int) (r : Int) : Tr → Int → Int → Int → Prop
  | .leaf _, _, lo, hi => lo ≤ hi
  | .branch _ τ q, n, lo, hi => ∃ mid, lo ≤ mid ∧ mid ≤ hi ∧ P1 A r τ (A 117 n) mid hi ∧ PL A r q (n + szT τ) lo mid
theorem PL_br (A : Nat → Int → Int) (r : Int) (k : Nat) (τ q : Tr) (n lo hi : Int) : PL A r (.branch k τ q) n lo hi = ∃ mid, lo ≤ mid ∧ mid ≤ hi ∧ P1 A r τ (A 117 n) mid hi ∧ PL A r q (n + szT τ) lo mid := rfl
theorem PL_le (A : Nat → Int → Int) (r : Int) : ∀ (l : Tr) (n lo hi : Int), PL A r l n lo hi → lo ≤ hi
  | .leaf _, _, _, _, h => h
  | .branch _ τ q, n, lo, hi, h => by obtain ⟨mid, a, b, -, -⟩ := h; omega
def mcR : Tr → Nat
  | .leaf _ => 0
  | .branch _ τ q => szT τ + mcR q
def mcF : Tr → Nat
  | .leaf _ => 0
  | .branch _ _ q => mcR q
theorem mcR_br (k : Nat) (τ q : Tr) : mcR (.branch k τ q) = szT τ + mcR q := rfl
/-- one label of a message of the global type -/
theorem pa_lab {n i p x : Int} {k : Nat} {τ q : Tr} {B : Nat → Int → Int} (hx : x = ((k / 3 : Nat) : Int)) (hB : sameN A B n) (hT : (tG A false (.branch k τ q)).2 n i p) (hw : k / 3 < 6) (hu : ∀ x, 0 ≤ x → x < 6 → hasL (.branch k τ q) x = false → A 108 (6 * n + x) ≤ i) :
    B 108 (6 * n + x) = i + 1 ∧ B 109 (6 * n + x) = (k % 3 : Nat) ∧ B 110 (6 * n + x) = p ∧ (∀ j, 0 ≤ j → j < x → B 108 (6 * n + j) ≠ i + 1) ∧ ∀ j, 0 ≤ j → j < 6 → hasL q j = false → A 108 (6 * n + j) ≤ i + 1 := by
  rw [tG_brB, ← hx] at hT
  obtain ⟨r1, r2, r3, r4, r5⟩ := hT
  obtain ⟨s1, s2, s3, s4⟩ := hB
  obtain ⟨b1, b2, b3⟩ := s4 x (by omega) (by omega)
  refine ⟨b1.trans r1, b2.trans r2, b3.trans r3, fun j j0 j1 => ?_, fun j j0 j1 j2 => ?_⟩
  · rw [(s4 j j0 (by omega)).1]
    by_cases e : hasL q j = true
    · have := labG_o A false q n (i + 1) _ r5 j e; omega
    · have := hu j j0 (by omega) (by rw [hasL_br, ← hx, decide_eq_false (by omega), Bool.false_or]; cases hh : hasL q j; rfl; exact absurd hh e)
      omega
  · by_cases e : j = x
    · rw [e, r1]; omega
    · have := hu j j0 j1 (by rw [hasL_br, ← hx, decide_eq_false (by omega), Bool.false_or, j2]); omega
/-- a part that is somewhere, behind further steps -/
theorem P1_to {A B : Nat → Int → Int} {r : Int} {τ : Tr} {v lo hi : Int} (hw : (wfP τ).1) (hs : ∀ x, lo ≤ x → x < hi → sameN A B x) (h : P1 A r τ v lo hi) : P1 B r τ v lo hi := by
  unfold P1 at h ⊢
  cases hp : (pt r τ).1 with
  | none => rw [hp] at h; exact h
  | some σ =>
    rw [hp] at h
    dsimp only at h ⊢
    obtain ⟨h1, h2⟩ := h
    obtain ⟨i1, i2⟩ := (tR_frame A B σ).1 v ((pt_ok r τ).1 hw σ hp).1 (fun x hx => hs x ((h2 x).2 hx).1 ((h2 x).2 hx).2) h1
    exact ⟨i1, fun x => by rw [i2]; exact h2 x⟩
def fq (A B : Nat → Int → Int) (U : Int) : Prop := frM A B ∧ rga B ∧ ∀ x, x < U → sameN A B x
/-- the branches, for one that takes part -/
theorem pa_mine {n r U to fm tc : Int} (n0 : 0 ≤ n) (n1 : n < U) (hU : U < 300) :
    ∀ (q : Tr) (i p lo hi : Int) (B : Nat → Int → Int), (tG A false q).2 n i p → (wfP q).2 → 0 ≤ i → i + lenB q ≤ 6 → (∀ x, 0 ≤ x → x < 6 → hasL q x = false → A 108 (6 * n + x) ≤ i) → A 107 n = i + lenB q → 0 ≤ p → p + szB q ≤ 32 → PL A r q p lo hi → hi ≤ U → 0 ≤ lo → fq A B U → B 100 4 = U + 1 → B 107 U = i →
      (∀ A', (pt r q).2.1 = none → fq A A' U → A' 100 4 = U + 1 → Q (.returned (some (iv (-1)))) (hp K.n A' R g t u)) →
      (∀ x A', (pt r q).2.1 = some x → fq A A' U → A' 100 4 = U + 1 → A' 105 U = B 105 U → A' 106 U = B 106 U → (∀ y, 0 ≤ y → y < 6 → hasL q y = false → A' 108 (6 * U + y) = B 108 (6 * U + y) ∧ A' 109 (6 * U + y) = B 109 (6 * U + y) ∧ A' 110 (6 * U + y) = B 110 (6 * U + y)) → (tR A' x).2 U i → (∀ y, (ct A' x).2 U y ≤ 1 ∧ ((ct A' x).2 U y ≠ 0 → lo ≤ y ∧ y < hi)) → Q (.returned (some (iv U))) (hp K.n A' R g t u)) →
      wx K M_T_partAt (d + 4) Q 189 [some (.ref (xa K.n 32)), some (iv n), some (iv r), some (iv tc), some (iv fm), some (iv to), some (iv 1), some (iv U), some (iv (i + 1)), none, none] [] (hp K.n B R g t u) := by
  intro q
  induction q with
  | leaf k =>
    intro i p lo hi B hT hw i0 i6 hu h7 hp0 hp1 hPL hhi hlo hfq h4 hB7 hf hok
    have hA := hfq.2.1
    have e7 : B 107 n = A 107 n := (hfq.2.2 n n1).2.2.1
    have l7 : (lenB (.leaf k) : Int) = 0 := rfl
    have hq := hok (.leaf 0) B rfl hfq h4 rfl rfl (fun y _ _ _ => ⟨rfl, rfl, rfl⟩) hB7 (fun y => ⟨Nat.zero_le _, fun h => absurd rfl h⟩)
    refine r_iload 111 rfl rfl ?_
    refine r_aload_n 112 rfl rfl ?_
    refine r_get 113 rfl f_T_20 (hp_at rfl) rfl ?_
    refine r_iload_n 114 rfl rfl ?_
    refine r_iaload 115 rfl (hp_at rfl) (by decide) (by omega) (by omega) ?_
    refine r_icmp_gt (t := 299) 116 rfl (by decide) (by first | exact hA _ _ | exact ⟨by decide, by decide⟩ | assumption | exact ⟨by omega, by omega⟩) (by first | exact hA _ _ | exact ⟨by decide, by decide⟩ | assumption | exact ⟨by omega, by omega⟩) (fun c_197 => ?_) (fun c_197 => by omega)
    refine r_iload 170 rfl rfl ?_
    refine r_iret 171 rfl rfl rfl ?_
    exact hq
  | branch k τ q ihτ ih =>
    intro i p lo hi B hT hw i0 i6 hu h7 hp0 hp1 hPL hhi hlo hfq h4 hB7 hf hok
    clear ihτ
    obtain ⟨x, hx⟩ : ∃ x : Int, x = ((k / 3 : Nat) : Int) := ⟨_, rfl⟩
    rw [wfB_br] at hw
    obtain ⟨w1, w2, w3, w4⟩ := hw
    obtain ⟨A8, A9, A10, huq, hu'⟩ := pa_lab hx (hfq.2.2 n n1) hT w1 hu
    rw [tG_brB] at hT
    have r5 := hT.2.2.2.2
    have hA := hfq.2.1
    have x0 : 0 ≤ x := by omega
    have x6 : x < 6 := by omega
    have e7 : B 107 n = A 107 n := (hfq.2.2 n n1).2.2.1
    have hl7 : (lenB (.branch k τ q) : Int) = 1 + lenB q := by rw [lenB_br]; omega
    have hkk : rg (i + 1) := ⟨by omega, by omega⟩
    rw [PL_br] at hPL
    obtain ⟨mid, m1, m2, m3, m4⟩ := hPL
    have e117 : B 117 p = A 117 p := hfq.1 117 p (by omega) (by decide) (by decide) (by decide) (fun h => absurd h (by decide))
    have hvr : rg (A 117 p) := by rw [← e117]; exact hA _ _
    rw [szB_br] at hp1
    have szp := szT_pos τ
    rw [ptM_br] at hf hok
    unfold P1 at m3
    cases hpt : (pt r τ).1 with
    | none =>
      rw [hpt] at m3
      dsimp only at m3
      have hq := hf B (by rw [hpt]; rfl) hfq h4
      refine r_iload 111 rfl rfl ?_
      refine r_aload_n 112 rfl rfl ?_
      refine r_get 113 rfl f_T_20 (hp_at rfl) rfl ?_
      refine r_iload_n 114 rfl rfl ?_
      refine r_iaload 115 rfl (hp_at rfl) (by decide) (by omega) (by omega) ?_
      refine r_icmp_gt (t := 299) 116 rfl (by decide) (by first | exact hA _ _ | exact ⟨by decide, by decide⟩ | assumption | exact ⟨by omega, by omega⟩) (by first | exact hA _ _ | exact ⟨by decide, by decide⟩ | assumption | exact ⟨by omega, by omega⟩) (fun c_197 => by omega) (fun c_197 => ?_)
      refine r_aload_n 117 rfl rfl ?_
      refine r_iload_n 118 rfl rfl ?_
      refine r_iload 119 rfl rfl ?_
      refine r_callv2 120 rfl l_T_176 (hp_at rfl) (Nat.le_of_ble_eq_true rfl) ?_
      refine c_T_labelAt hA hkk n0 (by omega) x0 x6 A8 huq (cp1 ?_)
      refine r_istore 121 rfl (Nat.le_of_ble_eq_true rfl) ?_
      refine r_aload_n 122 rfl rfl ?_
      refine r_get 123 rfl f_T_41 (hp_at rfl) rfl ?_
      refine r_aload_n 124 rfl rfl ?_
      refine r_get 125 rfl f_T_29 (hp_at rfl) rfl ?_
      refine r_bipush 126 rfl rfl ?_
      refine r_iload_n 127 rfl rfl ?_
      refine r_imul 128 rfl ?_
      refine r_iload 129 rfl rfl ?_
      refine r_iadd 130 rfl ?_
      refine r_iaload 131 rfl (hp_at rfl) (by decide) (by omega) (by omega) ?_
      rw [A10]
      refine r_iaload 132 rfl (hp_at rfl) (by decide) (by omega) (by omega) ?_
      rw [e117]
      refine r_istore 133 rfl (Nat.le_of_ble_eq_true rfl) ?_
      refine r_iload 134 rfl rfl ?_
      refine r_if_ge (t := 235) 135 rfl (by decide) (by first | exact hA _ _ | exact ⟨by decide, by decide⟩ | assumption | exact ⟨by omega, by omega⟩) (fun c_230 => by omega) (fun c_230 => ?_)
      refine r_iconst 136 rfl ?_
      refine r_iret 137 rfl rfl rfl ?_
      exact hq
    | some σ =>
      rw [hpt] at m3
      dsimp only at m3
      obtain ⟨t1, t2⟩ := m3
      have hv := (t2 (A 117 p)).2 (by have := ct_self A σ (A 117 p); omega)
      have hwσ := ((pt_ok r τ).1 w3 σ hpt).1
      generalize hC : adF B U x (B 109 (6 * n + x)) (A 117 p) = C
      have Cr : ∀ (j : Nat) (y : Int), C j y = if j = 110 ∧ y = 6 * U + x then A 117 p else if j = 109 ∧ y = 6 * U + x then B 109 (6 * n + x) else if j = 108 ∧ y = 6 * U + x then i + 1 else if j = 107 ∧ y = U then i + 1 else B j y := fun j y => by rw [← hC, ad_row, hB7]
      have hfC : fq A C U := by
        refine ⟨fun j y g1 g2 g3 g4 g5 => by rw [Cr, if_neg (by omega), if_neg (by omega), if_neg (by omega), if_neg (by omega)]; exact hfq.1 j y g1 g2 g3 g4 g5, by rw [← hC]; exact rga_ad hA (by omega) (hA _ _) (by rw [← e117]; exact hA _ _), fun y hy => (hfq.2.2 y hy).tr ⟨?_, ?_, ?_, fun l l0 l1 => ⟨?_, ?_, ?_⟩⟩⟩
        all_goals rw [Cr, if_neg (by omega), if_neg (by omega), if_neg (by omega), if_neg (by omega)]
      have C4 : C 100 4 = U + 1 := by rw [Cr, if_neg (by omega), if_neg (by omega), if_neg (by omega), if_neg (by omega)]; exact h4
      have nx := ih (i + 1) (p + szT τ) lo mid C r5 w4 (by omega) (by omega) hu' (by omega) (by omega) (by omega) m4 (by omega) hlo hfC C4 (by rw [Cr, if_neg (by omega), if_neg (by omega), if_neg (by omega), if_pos ⟨rfl, rfl⟩])
        (fun A' h1 h2 h3 => hf A' (by rw [hpt, h1]; rfl) h2 h3) (fun x' A' h1 h2 h3 h4 h5 h6 h7 h8 => by
          obtain ⟨z1, z2, z3⟩ := h6 x x0 x6 (by rw [hx]; exact w2)
          obtain ⟨j1, j2⟩ := (tR_frame A A' σ).1 (A 117 p) hwσ (fun y hy => h2.2.2 y (by have := (t2 y).2 hy; omega)) t1
          have z3' : A' 110 (6 * U + x) = A 117 p := by rw [z3, Cr, if_pos ⟨rfl, rfl⟩]
          refine hok (.branch k σ x') A' (by rw [hpt, h1]; rfl) h2 h3 ?_ ?_ (fun y y0 y1 hy => ?_) ?_ (fun y => ?_)
          · rw [h4, Cr, if_neg (by omega), if_neg (by omega), if_neg (by omega), if_neg (by omega)]
          · rw [h5, Cr, if_neg (by omega), if_neg (by omega), if_neg (by omega), if_neg (by omega)]
          · rw [hasL_br, Bool.or_eq_false_iff, decide_eq_false_iff_not, ← hx] at hy
            obtain ⟨u1, u2, u3⟩ := h6 y y0 y1 hy.2
            have : y ≠ x := fun e => hy.1 e.symm
            rw [u1, u2, u3]
            refine ⟨?_, ?_, ?_⟩ <;> rw [Cr, if_neg (by omega), if_neg (by omega), if_neg (by omega), if_neg (by omega)]
          · rw [tR_brB, ← hx, z3']
            refine ⟨?_, ?_, j1, h7⟩
            · rw [z1, Cr, if_neg (by omega), if_neg (by omega), if_pos ⟨rfl, rfl⟩]
            · rw [z2, Cr, if_neg (by omega), if_pos ⟨rfl, rfl⟩, A9]
          · rw [ct_brB, ← hx, z3', j2]
            have a1 := t2 y
            have a2 := h8 y
            by_cases e1 : (ct A σ).1 (A 117 p) y = 0
            · rw [e1, Nat.zero_add]; exact ⟨a2.1, fun h => by have := a2.2 h; omega⟩
            · have b1 := a1.2 e1
              have b2 : (ct A' x').2 U y = 0 := Decidable.byContradiction (fun h => by have := a2.2 h; omega)
              rw [b2, Nat.add_zero]; exact ⟨a1.1, fun h => by omega⟩)
      have hnx : ∀ v5 v6 : Value, wx K M_T_partAt (d + 4) Q 189 [some (.ref (xa K.n 32)), some (iv n), some (iv r), some (iv tc), some (iv fm), some (iv to), some (iv 1), some (iv U), some (iv (i + 1 + 1)), some v5, some v6] [] (hp K.n C R g t u) := fun v5 v6 => wx_t (pre := [some (.ref (xa K.n 32)), some (iv n), some (iv r), some (iv tc), some (iv fm), some (iv to), some (iv 1), some (iv U), some (iv (i + 1 + 1))]) (tl := [some v5, some v6]) nx
      refine r_iload 111 rfl rfl ?_
      refine r_aload_n 112 rfl rfl ?_
      refine r_get 113 rfl f_T_20 (hp_at rfl) rfl ?_
      refine r_iload_n 114 rfl rfl ?_
      refine r_iaload 115 rfl (hp_at rfl) (by decide) (by omega) (by omega) ?_
      refine r_icmp_gt (t := 299) 116 rfl (by decide) (by first | exact hA _ _ | exact ⟨by decide, by decide⟩ | assumption | exact ⟨by omega, by omega⟩) (by first | exact hA _ _ | exact ⟨by decide, by decide⟩ | assumption | exact ⟨by omega, by omega⟩) (fun c_197 => by omega) (fun c_197 => ?_)
      refine r_aload_n 117 rfl rfl ?_
      refine r_iload_n 118 rfl rfl ?_
      refine r_iload 119 rfl rfl ?_
      refine r_callv2 120 rfl l_T_176 (hp_at rfl) (Nat.le_of_ble_eq_true rfl) ?_
      refine c_T_labelAt hA hkk n0 (by omega) x0 x6 A8 huq (cp1 ?_)
      refine r_istore 121 rfl (Nat.le_of_ble_eq_true rfl) ?_
      refine r_aload_n 122 rfl rfl ?_
      refine r_get 123 rfl f_T_41 (hp_at rfl) rfl ?_
      refine r_aload_n 124 rfl rfl ?_
      refine r_get 125 rfl f_T_29 (hp_at rfl) rfl ?_
      refine r_bipush 126 rfl rfl ?_
      refine r_iload_n 127 rfl rfl ?_
      refine r_imul 128 rfl ?_
      refine r_iload 129 rfl rfl ?_
      refine r_iadd 130 rfl ?_
      refine r_iaload 131 rfl (hp_at rfl) (by decide) (by omega) (by omega) ?_
      rw [A10]
      refine r_iaload 132 rfl (hp_at rfl) (by decide) (by omega) (by omega) ?_
      rw [e117]
      refine r_istore 133 rfl (Nat.le_of_ble_eq_true rfl) ?_
      refine r_iload 134 rfl rfl ?_
      refine r_if_ge (t := 235) 135 rfl (by decide) (by first | exact hA _ _ | exact ⟨by decide, by decide⟩ | assumption | exact ⟨by omega, by omega⟩) (fun c_230 => ?_) (fun c_230 => by omega)
      refine r_iload 138 rfl rfl ?_
      refine r_if_eq (t := 265) 139 rfl (by decide) (by first | exact hA _ _ | exact ⟨by decide, by decide⟩ | assumption | exact ⟨by omega, by omega⟩) (fun c_237 => by omega) (fun c_237 => ?_)
      refine r_aload_n 140 rfl rfl ?_
      refine r_iload 141 rfl rfl ?_
      refine r_iload 142 rfl rfl ?_
      refine r_aload_n 143 rfl rfl ?_
      refine r_get 144 rfl f_T_26 (hp_at rfl) rfl ?_
      refine r_bipush 145 rfl rfl ?_
      refine r_iload_n 146 rfl rfl ?_
      refine r_imul 147 rfl ?_
      refine r_iload 148 rfl rfl ?_
      refine r_iadd 149 rfl ?_
      refine r_iaload 150 rfl (hp_at rfl) (by decide) (by omega) (by omega) ?_
      refine r_iload 151 rfl rfl ?_
      refine r_callv4 152 rfl l_T_134 (hp_at rfl) (Nat.le_of_ble_eq_true rfl) ?_
      refine c_T_addLabel hA (by omega) (by omega) x0 x6 (cp0 ?_)
      rw [hC]
      refine r_goto (t := 293) 153 rfl (by decide) ?_
      refine r_iinc 168 rfl rfl ?_
      refine r_goto (t := 189) 169 rfl (by decide) ?_
      exact hnx _ _
/-- the branches behind the first, for one that takes no part -/
theorem pa_other {n r U to fm tc : Int} (n0 : 0 ≤ n) (n1 : n < U) (hA4 : A 100 4 = U) :
    ∀ (q : Tr) (i p lo hi md : Int) (B : Nat → Int → Int) (a : Tr), (tG A false q).2 n i p → (wfP q).2 → 1 ≤ i → i + lenB q ≤ 6 → (∀ x, 0 ≤ x → x < 6 → hasL q x = false → A 108 (6 * n + x) ≤ i) → A 107 n = i + lenB q → 0 ≤ p → p + szB q ≤ 32 → PL A r q p lo hi → hi ≤ U → 0 ≤ lo → fq A B U → U ≤ B 100 4 → B 100 4 + mcR q ≤ 300 →
      (tR B a).1 md → (wfP a).1 → (lkP a).1 → (∀ x, (ct B a).1 md x ≤ 1 ∧ ((ct B a).1 md x ≠ 0 → hi ≤ x ∧ x < B 100 4)) →
      (∀ A', (pt r q).2.2.1 a = none → fq A A' U → U ≤ A' 100 4 → A' 100 4 ≤ B 100 4 + mcR q → Q (.returned (some (iv (-1)))) (hp K.n A' R g t u)) →
      (∀ σ v A', (pt r q).2.2.1 a = some σ → fq A A' U → U ≤ A' 100 4 → A' 100 4 ≤ B 100 4 + mcR q → (tR A' σ).1 v → (∀ x, (ct A' σ).1 v x ≤ 1 ∧ ((ct A' σ).1 v x ≠ 0 → lo ≤ x ∧ x < A' 100 4)) → Q (.returned (some (iv v))) (hp K.n A' R g t u)) →
      wx K M_T_partAt (d + 4) Q 189 [some (.ref (xa K.n 32)), some (iv n), some (iv r), some (iv tc), some (iv fm), some (iv to), some (iv 0), some (iv md), some (iv (i + 1)), none, none] [] (hp K.n B R g t u) := by
  intro q
  induction q with
  | leaf k =>
    intro i p lo hi md B a hT hw i0 i6 hu h7 hp0 hp1 hPL hhi hlo hfq h4 hlim ta wa la ca hf hok
    have hA := hfq.2.1
    have e7 : B 107 n = A 107 n := (hfq.2.2 n n1).2.2.1
    have l7 : (lenB (.leaf k) : Int) = 0 := rfl
    have hle : lo ≤ hi := hPL
    have hq := hok a md B rfl hfq h4 (by omega) ta (fun x => ⟨(ca x).1, fun h => by have := (ca x).2 h; omega⟩)
    refine r_iload 111 rfl rfl ?_
    refine r_aload_n 112 rfl rfl ?_
    refine r_get 113 rfl f_T_20 (hp_at rfl) rfl ?_
    refine r_iload_n 114 rfl rfl ?_
    refine r_iaload 115 rfl (hp_at rfl) (by decide) (by omega) (by omega) ?_
    refine r_icmp_gt (t := 299) 116 rfl (by decide) (by first | exact hA _ _ | exact ⟨by decide, by decide⟩ | assumption | exact ⟨by omega, by omega⟩) (by first | exact hA _ _ | exact ⟨by decide, by decide⟩ | assumption | exact ⟨by omega, by omega⟩) (fun c_197 => ?_) (fun c_197 => by omega)
    refine r_iload 170 rfl rfl ?_
    refine r_iret 171 rfl rfl rfl ?_
    exact hq
  | branch k τ q ihτ ih =>
    intro i p lo hi md B a hT hw i0 i6 hu h7 hp0 hp1 hPL hhi hlo hfq h4 hlim ta wa la ca hf hok
    clear ihτ
    obtain ⟨x, hx⟩ : ∃ x : Int, x = ((k / 3 : Nat) : Int) := ⟨_, rfl⟩
    rw [wfB_br] at hw
    obtain ⟨w1, w2, w3, w4⟩ := hw
    obtain ⟨A8, A9, A10, huq, hu'⟩ := pa_lab hx (hfq.2.2 n n1) hT w1 hu
    rw [tG_brB] at hT
    have r5 := hT.2.2.2.2
    have hA := hfq.2.1
    have x0 : 0 ≤ x := by omega
    have x6 : x < 6 := by omega
    have e7 : B 107 n = A 107 n := (hfq.2.2 n n1).2.2.1
    have hl7 : (lenB (.branch k τ q) : Int) = 1 + lenB q := by rw [lenB_br]; omega
    have hkk : rg (i + 1) := ⟨by omega, by omega⟩
    rw [PL_br] at hPL
    obtain ⟨mid, m1, m2, m3, m4⟩ := hPL
    have e117 : B 117 p = A 117 p := hfq.1 117 p (by omega) (by decide) (by decide) (by decide) (fun h => absurd h (by decide))
    have hvr : rg (A 117 p) := by rw [← e117]; exact hA _ _
    rw [szB_br] at hp1
    rw [mcR_br] at hlim hf hok
    have szp := szT_pos τ
    rw [ptA_br] at hf hok
    unfold P1 at m3
    cases hpt : (pt r τ).1 with
    | none =>
      rw [hpt] at m3
      dsimp only at m3
      have hq := hf B (by rw [hpt]; rfl) hfq h4 (by omega)
      refine r_iload 111 rfl rfl ?_
      refine r_aload_n 112 rfl rfl ?_
      refine r_get 113 rfl f_T_20 (hp_at rfl) rfl ?_
      refine r_iload_n 114 rfl rfl ?_
      refine r_iaload 115 rfl (hp_at rfl) (by decide) (by omega) (by omega) ?_
      refine r_icmp_gt (t := 299) 116 rfl (by decide) (by first | exact hA _ _ | exact ⟨by decide, by decide⟩ | assumption | exact ⟨by omega, by omega⟩) (by first | exact hA _ _ | exact ⟨by decide, by decide⟩ | assumption | exact ⟨by omega, by omega⟩) (fun c_197 => by omega) (fun c_197 => ?_)
      refine r_aload_n 117 rfl rfl ?_
      refine r_iload_n 118 rfl rfl ?_
      refine r_iload 119 rfl rfl ?_
      refine r_callv2 120 rfl l_T_176 (hp_at rfl) (Nat.le_of_ble_eq_true rfl) ?_
      refine c_T_labelAt hA hkk n0 (by omega) x0 x6 A8 huq (cp1 ?_)
      refine r_istore 121 rfl (Nat.le_of_ble_eq_true rfl) ?_
      refine r_aload_n 122 rfl rfl ?_
      refine r_get 123 rfl f_T_41 (hp_at rfl) rfl ?_
      refine r_aload_n 124 rfl rfl ?_
      refine r_get 125 rfl f_T_29 (hp_at rfl) rfl ?_
      refine r_bipush 126 rfl rfl ?_
      refine r_iload_n 127 rfl rfl ?_
      refine r_imul 128 rfl ?_
      refine r_iload 129 rfl rfl ?_
      refine r_iadd 130 rfl ?_
      refine r_iaload 131 rfl (hp_at rfl) (by decide) (by omega) (by omega) ?_
      rw [A10]
      refine r_iaload 132 rfl (hp_at rfl) (by decide) (by omega) (by omega) ?_
      rw [e117]
      refine r_istore 133 rfl (Nat.le_of_ble_eq_true rfl) ?_
      refine r_iload 134 rfl rfl ?_
      refine r_if_ge (t := 235) 135 rfl (by decide) (by first | exact hA _ _ | exact ⟨by decide, by decide⟩ | assumption | exact ⟨by omega, by omega⟩) (fun c_230 => by omega) (fun c_230 => ?_)
      refine r_iconst 136 rfl ?_
      refine r_iret 137 rfl rfl rfl ?_
      exact hq
    | some σ =>
      rw [hpt] at m3
      dsimp only at m3
      obtain ⟨t1, t2⟩ := m3
      obtain ⟨s1, s2, s3⟩ := (pt_ok r τ).1 w3 σ hpt
      obtain ⟨j1, j2⟩ := (tR_frame A B σ).1 (A 117 p) s1 (fun y hy => hfq.2.2 y (by have := (t2 y).2 hy; omega)) t1
      have hv := (t2 (A 117 p)).2 (by have := ct_self A σ (A 117 p); omega)
      have hm := (ca md).2 (by have := ct_self B a md; omega)
      refine r_iload 111 rfl rfl ?_
      refine r_aload_n 112 rfl rfl ?_
      refine r_get 113 rfl f_T_20 (hp_at rfl) rfl ?_
      refine r_iload_n 114 rfl rfl ?_
      refine r_iaload 115 rfl (hp_at rfl) (by decide) (by omega) (by omega) ?_
      refine r_icmp_gt (t := 299) 116 rfl (by decide) (by first | exact hA _ _ | exact ⟨by decide, by decide⟩ | assumption | exact ⟨by omega, by omega⟩) (by first | exact hA _ _ | exact ⟨by decide, by decide⟩ | assumption | exact ⟨by omega, by omega⟩) (fun c_197 => by omega) (fun c_197 => ?_)
      refine r_aload_n 117 rfl rfl ?_
      refine r_iload_n 118 rfl rfl ?_
      refine r_iload 119 rfl rfl ?_
      refine r_callv2 120 rfl l_T_176 (hp_at rfl) (Nat.le_of_ble_eq_true rfl) ?_
      refine c_T_labelAt hA hkk n0 (by omega) x0 x6 A8 huq (cp1 ?_)
      refine r_istore 121 rfl (Nat.le_of_ble_eq_true rfl) ?_
      refine r_aload_n 122 rfl rfl ?_
      refine r_get 123 rfl f_T_41 (hp_at rfl) rfl ?_
      refine r_aload_n 124 rfl rfl ?_
      refine r_get 125 rfl f_T_29 (hp_at rfl) rfl ?_
      refine r_bipush 126 rfl rfl ?_
      refine r_iload_n 127 rfl rfl ?_
      refine r_imul 128 rfl ?_
      refine r_iload 129 rfl rfl ?_
      refine r_iadd 130 rfl ?_
      refine r_iaload 131 rfl (hp_at rfl) (by decide) (by omega) (by omega) ?_
      rw [A10]
      refine r_iaload 132 rfl (hp_at rfl) (by decide) (by omega) (by omega) ?_
      rw [e117]
      refine r_istore 133 rfl (Nat.le_of_ble_eq_true rfl) ?_
      refine r_iload 134 rfl rfl ?_
      refine r_if_ge (t := 235) 135 rfl (by decide) (by first | exact hA _ _ | exact ⟨by decide, by decide⟩ | assumption | exact ⟨by omega, by omega⟩) (fun c_230 => ?_) (fun c_230 => by omega)
      refine r_iload 138 rfl rfl ?_
      refine r_if_eq (t := 265) 139 rfl (by decide) (by first | exact hA _ _ | exact ⟨by decide, by decide⟩ | assumption | exact ⟨by omega, by omega⟩) (fun c_237 => ?_) (fun c_237 => by omega)
      refine r_iload 154 rfl rfl ?_
      refine r_iconst 155 rfl ?_
      refine r_icmp_ne (t := 276) 156 rfl (by decide) (by first | exact hA _ _ | exact ⟨by decide, by decide⟩ | assumption | exact ⟨by omega, by omega⟩) (by first | exact hA _ _ | exact ⟨by decide, by decide⟩ | assumption | exact ⟨by omega, by omega⟩) (fun c_268 => ?_) (fun c_268 => by omega)
      refine r_aload_n 159 rfl rfl ?_
      refine r_iload 160 rfl rfl ?_
      refine r_iload 161 rfl rfl ?_
      refine r_callv2 162 rfl l_T_179 (hp_at rfl) (Nat.le_of_ble_eq_true rfl) ?_
      refine c_T_merged (d := d) hA (by omega) ta j1 wa s1 la s2 (fun y hy => by rcases hy with hy | hy; (have := (ca y).2 hy; omega); (rw [j2] at hy; have := (t2 y).2 hy; omega)) (by omega) (fun hn A' g1 g2 g3 g4 g5 => cp1 ?_) (fun γ A' hs g1 g2 g3 g4 g5 g6 g7 g8 => cp1 ?_)
      · have hq := hf A' (by rw [hpt]; show ((mg a).1 σ).bind _ = none; rw [hn]; rfl) ⟨hfq.1.tr g1, g2, fun y hy => (hfq.2.2 y hy).tr (g3 y (by omega))⟩ (by omega) (by omega)
        have hA := g2
        refine r_istore 163 rfl (Nat.le_of_ble_eq_true rfl) ?_
        refine r_iload 164 rfl rfl ?_
        refine r_if_ge (t := 293) 165 rfl (by decide) ⟨by decide, by decide⟩ (fun h => absurd h (by decide)) (fun _ => ?_)
        refine r_iconst 166 rfl ?_
        refine r_iret 167 rfl rfl rfl ?_
        exact hq
      obtain ⟨γ1, γ2, γ3⟩ := (mg_ok a).1 σ γ wa s1 hs
      have nx := ih (i + 1) (p + szT τ) lo mid (B 100 4) A' γ r5 w4 (by omega) (by omega) hu' (by omega) (by omega) (by omega) m4 (by omega) hlo ⟨hfq.1.tr g1, g2, fun y hy => (hfq.2.2 y hy).tr (g3 y (by omega))⟩ (by omega) (by omega) g6 γ1 (γ3 la s2) (fun y => by
        by_cases hy : y < B 100 4
        · have b1 := g7 y hy
          rw [j2] at b1
          have b2 := ca y
          have b3 := t2 y
          have b4 : (ct B a).1 md y = 0 ∨ (ct A σ).1 (A 117 p) y = 0 := by
            by_cases e1 : (ct B a).1 md y = 0
            · exact Or.inl e1
            · exact Or.inr (Decidable.byContradiction (fun e2 => by have := b2.2 e1; have := b3.2 e2; omega))
          refine ⟨by omega, fun h => ?_⟩
          by_cases e1 : (ct B a).1 md y = 0
          · have := b3.2 (by omega); omega
          · have := b2.2 e1; omega
        · have b1 := g8 y (by omega)
          by_cases hy2 : y < A' 100 4
          · rw [if_pos hy2] at b1; exact ⟨b1, fun _ => by omega⟩
          · rw [if_neg hy2] at b1; exact ⟨by omega, fun h => absurd h (by omega)⟩) (fun A'' h1 h2 h3 h4 => hf A'' (by rw [hpt]; show ((mg a).1 σ).bind _ = none; rw [hs]; exact h1) h2 h3 (by omega)) (fun σ' v A'' h1 h2 h3 h4 h5 h6 => hok σ' v A'' (by rw [hpt]; show ((mg a).1 σ).bind _ = some σ'; rw [hs]; exact h1) h2 h3 (by omega) h5 h6)
      have hnx : ∀ v5 v6 : Value, wx K M_T_partAt (d + 4) Q 189 [some (.ref (xa K.n 32)), some (iv n), some (iv r), some (iv tc), some (iv fm), some (iv to), some (iv 0), some (iv (B 100 4)), some (iv (i + 1 + 1)), some v5, some v6] [] (hp K.n A' R g t u) := fun v5 v6 => wx_t (pre := [some (.ref (xa K.n 32)), some (iv n), some (iv r), some (iv tc), some (iv fm), some (iv to), some (iv 0), some (iv (B 100 4)), some (iv (i + 1 + 1))]) (tl := [some v5, some v6]) nx
      have hA0 := hA
      clear hA
      have hA := g2
      refine r_istore 163 rfl (Nat.le_of_ble_eq_true rfl) ?_
      refine r_iload 164 rfl rfl ?_
      refine r_if_ge (t := 293) 165 rfl (by decide) (by first | exact hA _ _ | exact ⟨by decide, by decide⟩ | assumption | exact ⟨by omega, by omega⟩) (fun c_288 => ?_) (fun c_288 => by omega)
      refine r_iinc 168 rfl rfl ?_
      refine r_goto (t := 189) 169 rfl (by decide) ?_
      exact hnx _ _
end TW41


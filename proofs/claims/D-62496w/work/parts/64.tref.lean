/-! the twin: same, refines -/
section TW64
variable {K : xk} {M : xm} {d : Nat} {Q : Outcome → xh → Prop} {R : Nat → Int → Value} {g : Nat → Nat × List Value} {t u : Nat}
theorem sam_s (P : Nat → Int → Int → Int) (y l so : Int) (c : Nat) (j : Int) : sam P y l so (c + 1) j = if P 3 y j = l ∧ P 4 y j = so then P 5 y j else sam P y l so c (j + 1) := rfl
theorem c_T_same {A : Nat → Int → Int} {s k p y : Int} (hA : rga A) (s0 : 0 ≤ s) (s1 : s < 279) (k0 : 0 ≤ k) (k1 : k < 6) (t0 : 0 ≤ 31 * p + y) (t1 : 31 * p + y < 279) (c0 : 0 ≤ A 125 (31 * p + y)) (c1 : A 125 (31 * p + y) ≤ 6)
    (hq : Q (.returned (some (iv (sam (tM A p) y (A 126 (6 * s + k)) (A 127 (6 * s + k)) (A 125 (31 * p + y)).toNat 0)))) (hp K.n A R g t u)) : mx K M_T_same d [.ref (xa K.n 32), iv s, iv k, iv (31 * p + y)] (hp K.n A R g t u) Q := by
  have loop : ∀ (c : Nat) (j : Int), 0 ≤ j → j + c = A 125 (31 * p + y) → Q (.returned (some (iv (sam (tM A p) y (A 126 (6 * s + k)) (A 127 (6 * s + k)) c j)))) (hp K.n A R g t u) → wx K M_T_same d Q 3 [some (.ref (xa K.n 32)), some (iv s), some (iv k), some (iv (31 * p + y)), some (iv j)] [] (hp K.n A R g t u) := by
    intro c
    induction c with
    | zero =>
      intro j j0 hj hq
      refine r_iload 2 rfl rfl ?_
      refine r_aload_n 3 rfl rfl ?_
      refine r_get 4 rfl f_T_62 (hp_at rfl) rfl ?_
      refine r_iload_n 5 rfl rfl ?_
      refine r_iaload 6 rfl (hp_at rfl) (by decide) (by omega) (by omega) ?_
      refine r_icmp_ge (t := 85) 7 rfl (by decide) (by first | exact hA _ _ | exact ⟨by decide, by decide⟩ | assumption | exact ⟨by omega, by omega⟩) (by first | exact hA _ _ | exact ⟨by decide, by decide⟩ | assumption | exact ⟨by omega, by omega⟩) (fun c_11 => ?_) (fun c_11 => by omega)
      refine r_iconst 53 rfl ?_
      refine r_iret 54 rfl rfl rfl ?_
      exact hq
    | succ c ih =>
      intro j j0 hj hq
      rw [sam_s] at hq
      have e3 : tM A p 3 y j = A 126 (6 * (31 * p + y) + j) := rfl
      have e4 : tM A p 4 y j = A 127 (6 * (31 * p + y) + j) := rfl
      have e5 : tM A p 5 y j = A 128 (6 * (31 * p + y) + j) := rfl
      rw [e3, e4, e5] at hq
      by_cases h1 : A 126 (6 * (31 * p + y) + j) = A 126 (6 * s + k)
      · by_cases h2 : A 127 (6 * (31 * p + y) + j) = A 127 (6 * s + k)
        · rw [if_pos ⟨h1, h2⟩] at hq
          refine r_iload 2 rfl rfl ?_
          refine r_aload_n 3 rfl rfl ?_
          refine r_get 4 rfl f_T_62 (hp_at rfl) rfl ?_
          refine r_iload_n 5 rfl rfl ?_
          refine r_iaload 6 rfl (hp_at rfl) (by decide) (by omega) (by omega) ?_
          refine r_icmp_ge (t := 85) 7 rfl (by decide) (by first | exact hA _ _ | exact ⟨by decide, by decide⟩ | assumption | exact ⟨by omega, by omega⟩) (by first | exact hA _ _ | exact ⟨by decide, by decide⟩ | assumption | exact ⟨by omega, by omega⟩) (fun c_11 => by omega) (fun c_11 => ?_)
          refine r_aload_n 8 rfl rfl ?_
          refine r_get 9 rfl f_T_65 (hp_at rfl) rfl ?_
          refine r_bipush 10 rfl rfl ?_
          refine r_iload_n 11 rfl rfl ?_
          refine r_imul 12 rfl ?_
          refine r_iload 13 rfl rfl ?_
          refine r_iadd 14 rfl ?_
          refine r_iaload 15 rfl (hp_at rfl) (by decide) (by omega) (by omega) ?_
          refine r_aload_n 16 rfl rfl ?_
          refine r_get 17 rfl f_T_65 (hp_at rfl) rfl ?_
          refine r_bipush 18 rfl rfl ?_
          refine r_iload_n 19 rfl rfl ?_
          refine r_imul 20 rfl ?_
          refine r_iload_n 21 rfl rfl ?_
          refine r_iadd 22 rfl ?_
          refine r_iaload 23 rfl (hp_at rfl) (by decide) (by omega) (by omega) ?_
          refine r_icmp_ne (t := 79) 24 rfl (by decide) (by first | exact hA _ _ | exact ⟨by decide, by decide⟩ | assumption | exact ⟨by omega, by omega⟩) (by first | exact hA _ _ | exact ⟨by decide, by decide⟩ | assumption | exact ⟨by omega, by omega⟩) (fun c_37 => by omega) (fun c_37 => ?_)
          refine r_aload_n 25 rfl rfl ?_
          refine r_get 26 rfl f_T_68 (hp_at rfl) rfl ?_
          refine r_bipush 27 rfl rfl ?_
          refine r_iload_n 28 rfl rfl ?_
          refine r_imul 29 rfl ?_
          refine r_iload 30 rfl rfl ?_
          refine r_iadd 31 rfl ?_
          refine r_iaload 32 rfl (hp_at rfl) (by decide) (by omega) (by omega) ?_
          refine r_aload_n 33 rfl rfl ?_
          refine r_get 34 rfl f_T_68 (hp_at rfl) rfl ?_
          refine r_bipush 35 rfl rfl ?_
          refine r_iload_n 36 rfl rfl ?_
          refine r_imul 37 rfl ?_
          refine r_iload_n 38 rfl rfl ?_
          refine r_iadd 39 rfl ?_
          refine r_iaload 40 rfl (hp_at rfl) (by decide) (by omega) (by omega) ?_
          refine r_icmp_ne (t := 79) 41 rfl (by decide) (by first | exact hA _ _ | exact ⟨by decide, by decide⟩ | assumption | exact ⟨by omega, by omega⟩) (by first | exact hA _ _ | exact ⟨by decide, by decide⟩ | assumption | exact ⟨by omega, by omega⟩) (fun c_63 => by omega) (fun c_63 => ?_)
          refine r_aload_n 42 rfl rfl ?_
          refine r_get 43 rfl f_T_71 (hp_at rfl) rfl ?_
          refine r_bipush 44 rfl rfl ?_
          refine r_iload_n 45 rfl rfl ?_
          refine r_imul 46 rfl ?_
          refine r_iload 47 rfl rfl ?_
          refine r_iadd 48 rfl ?_
          refine r_iaload 49 rfl (hp_at rfl) (by decide) (by omega) (by omega) ?_
          refine r_iret 50 rfl rfl rfl ?_
          exact hq
        · rw [if_neg (fun h => h2 h.2)] at hq
          have nx := ih (j + 1) (by omega) (by omega) hq
          refine r_iload 2 rfl rfl ?_
          refine r_aload_n 3 rfl rfl ?_
          refine r_get 4 rfl f_T_62 (hp_at rfl) rfl ?_
          refine r_iload_n 5 rfl rfl ?_
          refine r_iaload 6 rfl (hp_at rfl) (by decide) (by omega) (by omega) ?_
          refine r_icmp_ge (t := 85) 7 rfl (by decide) (by first | exact hA _ _ | exact ⟨by decide, by decide⟩ | assumption | exact ⟨by omega, by omega⟩) (by first | exact hA _ _ | exact ⟨by decide, by decide⟩ | assumption | exact ⟨by omega, by omega⟩) (fun c_11 => by omega) (fun c_11 => ?_)
          refine r_aload_n 8 rfl rfl ?_
          refine r_get 9 rfl f_T_65 (hp_at rfl) rfl ?_
          refine r_bipush 10 rfl rfl ?_
          refine r_iload_n 11 rfl rfl ?_
          refine r_imul 12 rfl ?_
          refine r_iload 13 rfl rfl ?_
          refine r_iadd 14 rfl ?_
          refine r_iaload 15 rfl (hp_at rfl) (by decide) (by omega) (by omega) ?_
          refine r_aload_n 16 rfl rfl ?_
          refine r_get 17 rfl f_T_65 (hp_at rfl) rfl ?_
          refine r_bipush 18 rfl rfl ?_
          refine r_iload_n 19 rfl rfl ?_
          refine r_imul 20 rfl ?_
          refine r_iload_n 21 rfl rfl ?_
          refine r_iadd 22 rfl ?_
          refine r_iaload 23 rfl (hp_at rfl) (by decide) (by omega) (by omega) ?_
          refine r_icmp_ne (t := 79) 24 rfl (by decide) (by first | exact hA _ _ | exact ⟨by decide, by decide⟩ | assumption | exact ⟨by omega, by omega⟩) (by first | exact hA _ _ | exact ⟨by decide, by decide⟩ | assumption | exact ⟨by omega, by omega⟩) (fun c_37 => by omega) (fun c_37 => ?_)
          refine r_aload_n 25 rfl rfl ?_
          refine r_get 26 rfl f_T_68 (hp_at rfl) rfl ?_
          refine r_bipush 27 rfl rfl ?_
          refine r_iload_n 28 rfl rfl ?_
          refine r_imul 29 rfl ?_
          refine r_iload 30 rfl rfl ?_
          refine r_iadd 31 rfl ?_
          refine r_iaload 32 rfl (hp_at rfl) (by decide) (by omega) (by omega) ?_
          refine r_aload_n 33 rfl rfl ?_
          refine r_get 34 rfl f_T_68 (hp_at rfl) rfl ?_
          refine r_bipush 35 rfl rfl ?_
          refine r_iload_n 36 rfl rfl ?_
          refine r_imul 37 rfl ?_
          refine r_iload_n 38 rfl rfl ?_
          refine r_iadd 39 rfl ?_
          refine r_iaload 40 rfl (hp_at rfl) (by decide) (by omega) (by omega) ?_
          refine r_icmp_ne (t := 79) 41 rfl (by decide) (by first | exact hA _ _ | exact ⟨by decide, by decide⟩ | assumption | exact ⟨by omega, by omega⟩) (by first | exact hA _ _ | exact ⟨by decide, by decide⟩ | assumption | exact ⟨by omega, by omega⟩) (fun c_63 => ?_) (fun c_63 => by omega)
          refine r_iinc 51 rfl rfl ?_
          refine r_goto (t := 3) 52 rfl (by decide) ?_
          exact nx
      · rw [if_neg (fun h => h1 h.1)] at hq
        have nx := ih (j + 1) (by omega) (by omega) hq
        refine r_iload 2 rfl rfl ?_
        refine r_aload_n 3 rfl rfl ?_
        refine r_get 4 rfl f_T_62 (hp_at rfl) rfl ?_
        refine r_iload_n 5 rfl rfl ?_
        refine r_iaload 6 rfl (hp_at rfl) (by decide) (by omega) (by omega) ?_
        refine r_icmp_ge (t := 85) 7 rfl (by decide) (by first | exact hA _ _ | exact ⟨by decide, by decide⟩ | assumption | exact ⟨by omega, by omega⟩) (by first | exact hA _ _ | exact ⟨by decide, by decide⟩ | assumption | exact ⟨by omega, by omega⟩) (fun c_11 => by omega) (fun c_11 => ?_)
        refine r_aload_n 8 rfl rfl ?_
        refine r_get 9 rfl f_T_65 (hp_at rfl) rfl ?_
        refine r_bipush 10 rfl rfl ?_
        refine r_iload_n 11 rfl rfl ?_
        refine r_imul 12 rfl ?_
        refine r_iload 13 rfl rfl ?_
        refine r_iadd 14 rfl ?_
        refine r_iaload 15 rfl (hp_at rfl) (by decide) (by omega) (by omega) ?_
        refine r_aload_n 16 rfl rfl ?_
        refine r_get 17 rfl f_T_65 (hp_at rfl) rfl ?_
        refine r_bipush 18 rfl rfl ?_
        refine r_iload_n 19 rfl rfl ?_
        refine r_imul 20 rfl ?_
        refine r_iload_n 21 rfl rfl ?_
        refine r_iadd 22 rfl ?_
        refine r_iaload 23 rfl (hp_at rfl) (by decide) (by omega) (by omega) ?_
        refine r_icmp_ne (t := 79) 24 rfl (by decide) (by first | exact hA _ _ | exact ⟨by decide, by decide⟩ | assumption | exact ⟨by omega, by omega⟩) (by first | exact hA _ _ | exact ⟨by decide, by decide⟩ | assumption | exact ⟨by omega, by omega⟩) (fun c_37 => ?_) (fun c_37 => by omega)
        refine r_iinc 51 rfl rfl ?_
        refine r_goto (t := 3) 52 rfl (by decide) ?_
        exact nx
  have nx := loop (A 125 (31 * p + y)).toNat 0 (by omega) (by omega) hq
  refine mx_in ok_T_same rfl (Nat.le_of_ble_eq_true rfl) ?_
  refine r_iconst 0 rfl ?_
  refine r_istore 1 rfl (Nat.le_of_ble_eq_true rfl) ?_
  exact nx
/-- the list of pairs in the rows -/
def wl (B : Nat → Int → Int) (w : List (Int × Int)) : Prop := B 100 18 = w.length ∧ (∀ (i : Nat) p, w[i]? = some p → B 119 i = p.1 ∧ B 120 i = p.2) ∧ ∀ a b, 0 ≤ a → a < 31 → 0 ≤ b → b < 31 → (B 131 (31 * a + b) ≠ 0 ↔ (a, b) ∈ w)
def fRf (A B : Nat → Int → Int) : Prop := (∀ j i, j ≠ 119 → j ≠ 120 → j ≠ 131 → (j = 100 → i ≠ 18) → B j i = A j i) ∧ rga B
theorem wl_add {B : Nat → Int → Int} {w : List (Int × Int)} {a b : Int} (h : wl B w) (a0 : 0 ≤ a) (a1 : a < 31) (b0 : 0 ≤ b) (b1 : b < 31) : wl (au (au (au (au B 131 (31 * a + b) 1) 119 w.length a) 120 w.length b) 100 18 (w.length + 1)) (w ++ [(a, b)]) := by
  obtain ⟨h1, h2, h3⟩ := h
  have Xr : ∀ (j : Nat) (i : Int), au (au (au (au B 131 (31 * a + b) 1) 119 w.length a) 120 w.length b) 100 18 (w.length + 1) j i = if j = 100 ∧ i = 18 then (w.length : Int) + 1 else if j = 120 ∧ i = w.length then b else if j = 119 ∧ i = w.length then a else if j = 131 ∧ i = 31 * a + b then 1 else B j i := fun j i => by rw [au_ite, au_ite, au_ite, au_ite]
  refine ⟨by rw [au_same, List.length_append]; rfl, fun i p hp => ?_, fun x y x0 x1 y0 y1 => ?_⟩
  · by_cases e : i < w.length
    · rw [List.getElem?_append_left e] at hp
      obtain ⟨g1, g2⟩ := h2 i p hp
      exact ⟨by rw [Xr, if_neg (by omega), if_neg (by omega), if_neg (by omega), if_neg (by omega)]; exact g1, by rw [Xr, if_neg (by omega), if_neg (by omega), if_neg (by omega), if_neg (by omega)]; exact g2⟩
    · rw [List.getElem?_append_right (by omega)] at hp
      have e2 : i = w.length := by
        apply Decidable.byContradiction
        intro h
        rw [List.getElem?_eq_none (by show 1 ≤ _; omega)] at hp
        cases hp
      rw [e2, Nat.sub_self] at hp
      cases hp
      rw [e2]
      exact ⟨by rw [Xr, if_neg (by omega), if_neg (by omega), if_pos ⟨rfl, rfl⟩], by rw [Xr, if_neg (by omega), if_pos ⟨rfl, rfl⟩]⟩
  · rw [Xr, if_neg (by omega), if_neg (by omega), if_neg (by omega), List.mem_append, List.mem_singleton]
    by_cases e : x = a ∧ y = b
    · rw [if_pos (by omega), e.1, e.2]
      exact ⟨fun _ => Or.inr rfl, fun _ => by decide⟩
    · rw [if_neg (fun h => e (by omega)), h3 x y x0 x1 y0 y1]
      refine ⟨fun h => Or.inl h, fun h => ?_⟩
      rcases h with h | h
      · exact h
      · cases h; exact absurd ⟨rfl, rfl⟩ e
theorem fRf_add {A B : Nat → Int → Int} (h : fRf A B) {a b n : Int} (ha : rg a) (hb : rg b) (hn : rg (n + 1)) (i : Int) : fRf A (au (au (au (au B 131 i 1) 119 n a) 120 n b) 100 18 (n + 1)) := by
  refine ⟨fun j x e1 e2 e3 e4 => ?_, rga_au (rga_au (rga_au (rga_au h.2 ⟨by decide, by decide⟩) ha) hb) hn⟩
  rw [au_ite, if_neg (by omega), au_ite, if_neg (by omega), au_ite, if_neg (by omega), au_ite, if_neg (by omega)]
  exact h.1 j x e1 e2 e3 e4
theorem rf_add {A B : Nat → Int → Int} {w : List (Int × Int)} {m p k a b j : Int} {v4 v5 v6 v7 v8 v10 : Value} (hf : fRf A B) (hw : wl B w) (hlen : w.length < 1000) (a0 : 0 ≤ a) (a1 : a < 31) (b0 : 0 ≤ b) (b1 : b < 31)
    (hq : ∀ B', fRf A B' → wl B' (if (a, b) ∈ w then w else w ++ [(a, b)]) → wx K M_T_refines (d + 1) Q 332 [some (.ref (xa K.n 32)), some (iv m), some (iv p), some (iv k), some v4, some v5, some v6, some v7, some v8, some (iv j), some v10, some (iv a), some (iv b)] [] (hp K.n B' R g t u)) :
    wx K M_T_refines (d + 1) Q 270 [some (.ref (xa K.n 32)), some (iv m), some (iv p), some (iv k), some v4, some v5, some v6, some v7, some v8, some (iv j), some v10, some (iv a), some (iv b)] [] (hp K.n B R g t u) := by
  have hA := hf.2
  have hm := hw.2.2 a b a0 a1 b0 b1
  by_cases h : (a, b) ∈ w
  · rw [if_pos h] at hq
    have h2 := hm.mpr h
    have nx := hq B hf hw
    refine r_aload_n 152 rfl rfl ?_
    refine r_get 153 rfl f_T_80 (hp_at rfl) rfl ?_
    refine r_bipush 154 rfl rfl ?_
    refine r_iload 155 rfl rfl ?_
    refine r_imul 156 rfl ?_
    refine r_iload 157 rfl rfl ?_
    refine r_iadd 158 rfl ?_
    refine r_baload 159 rfl (hp_at rfl) (by decide) (by omega) (by omega) ?_
    refine r_if_ne (t := 332) 160 rfl (by decide) (by first | exact hA _ _ | exact ⟨by decide, by decide⟩ | assumption | exact ⟨by omega, by omega⟩) (fun c_283 => ?_) (fun c_283 => by omega)
    exact nx
  · rw [if_neg h] at hq
    have h2 : B 131 (31 * a + b) = 0 := Decidable.byContradiction fun h2 => h (hm.mp h2)
    have e18 := hw.1
    have nx := hq _ (fRf_add hf ⟨by omega, by omega⟩ ⟨by omega, by omega⟩ ⟨by omega, by omega⟩ (31 * a + b)) (wl_add hw a0 a1 b0 b1)
    refine r_aload_n 152 rfl rfl ?_
    refine r_get 153 rfl f_T_80 (hp_at rfl) rfl ?_
    refine r_bipush 154 rfl rfl ?_
    refine r_iload 155 rfl rfl ?_
    refine r_imul 156 rfl ?_
    refine r_iload 157 rfl rfl ?_
    refine r_iadd 158 rfl ?_
    refine r_baload 159 rfl (hp_at rfl) (by decide) (by omega) (by omega) ?_
    try simp +decide only [au_ne, au_same, au_ni, fil_ne]
    refine r_if_ne (t := 332) 160 rfl (by decide) (by first | exact hA _ _ | exact ⟨by decide, by decide⟩ | assumption | exact ⟨by omega, by omega⟩) (fun c_283 => by omega) (fun c_283 => ?_)
    refine r_aload_n 161 rfl rfl ?_
    refine r_get 162 rfl f_T_80 (hp_at rfl) rfl ?_
    refine r_bipush 163 rfl rfl ?_
    refine r_iload 164 rfl rfl ?_
    refine r_imul 165 rfl ?_
    refine r_iload 166 rfl rfl ?_
    refine r_iadd 167 rfl ?_
    refine r_iconst 168 rfl ?_
    refine r_bastore 169 rfl (hp_at rfl) (by decide) (by omega) (by omega) rfl ?_
    rw [ws_131]
    refine r_aload_n 170 rfl rfl ?_
    refine r_get 171 rfl f_T_44 (hp_at rfl) rfl ?_
    refine r_aload_n 172 rfl rfl ?_
    refine r_get 173 rfl f_T_166 (hp_at rfl) rfl ?_
    try simp +decide only [au_ne, au_same, au_ni, fil_ne]
    rw [e18]
    refine r_iload 174 rfl rfl ?_
    refine r_iastore 175 rfl (hp_at rfl) (by decide) (by omega) (by omega) ?_
    rw [ws_119]
    refine r_aload_n 176 rfl rfl ?_
    refine r_get 177 rfl f_T_47 (hp_at rfl) rfl ?_
    refine r_aload_n 178 rfl rfl ?_
    refine r_get 179 rfl f_T_166 (hp_at rfl) rfl ?_
    try simp +decide only [au_ne, au_same, au_ni, fil_ne]
    rw [e18]
    refine r_iload 180 rfl rfl ?_
    refine r_iastore 181 rfl (hp_at rfl) (by decide) (by omega) (by omega) ?_
    rw [ws_120]
    refine r_aload_n 182 rfl rfl ?_
    refine r_dup 183 rfl rfl ?_
    refine r_get 184 rfl f_T_166 (hp_at rfl) rfl ?_
    try simp +decide only [au_ne, au_same, au_ni, fil_ne]
    rw [e18]
    refine r_iconst 185 rfl ?_
    refine r_iadd 186 rfl ?_
    refine r_put 187 rfl f_T_166 (hp_at rfl) rfl rfl ?_
    rw [wT_18]
    exact nx
def pq (sw : Int) (q : Int × Int) : Int × Int := if sw = 1 then q else swp q
theorem nxL_s (G H : Nat → Int → Int → Int) (x y : Int) (c : Nat) (j : Int) : nxL G H x y (c + 1) j = if sam H y (G 3 x j) (G 4 x j) (H 2 y 0).toNat 0 < 0 then none else (nxL G H x y c (j + 1)).map (fun l => (G 5 x j, sam H y (G 3 x j) (G 4 x j) (H 2 y 0).toNat 0) :: l) := rfl
theorem addP_c (w : List (Int × Int)) (p : Int × Int) (l : List (Int × Int)) : addP w (p :: l) = addP (if p ∈ w then w else w ++ [p]) l := rfl
theorem tM_fr {A B : Nat → Int → Int} (h : ∀ j i, 123 ≤ j → j ≤ 128 → B j i = A j i) (m : Int) (f : Nat) (hf : f ≤ 5) (s j : Int) : tM B m f s j = tM A m f s j := by
  unfold tM
  split
  · exact h _ _ (by omega) (by omega)
  · exact h _ _ (by omega) (by omega)
theorem sam_fr {P P' : Nat → Int → Int → Int} (h : ∀ f s j, f ≤ 5 → P' f s j = P f s j) (y l so : Int) : ∀ (c : Nat) (j : Int), sam P' y l so c j = sam P y l so c j
  | 0, j => rfl
  | c + 1, j => by rw [sam_s, sam_s, h 3 y j (by decide), h 4 y j (by decide), h 5 y j (by decide), sam_fr h y l so c (j + 1)]
theorem rf_in {A : Nat → Int → Int} {m p k sw mg x mh y N N' Ng Nh : Int} {v4 v5 : Value} (hsw : sw = 0 ∨ sw = 1) (g0 : 0 ≤ mg) (g1 : mg < 9) (h0 : 0 ≤ mh) (h1 : mh < 9) (x0 : 0 ≤ x) (x1 : x < 31) (y0 : 0 ≤ y) (y1 : y < 31) (hG : okS (tM A mg) Ng x) (hH : okS (tM A mh) Nh y) (hN : N ≤ 30) (hN' : N' ≤ 30) (hNg : Ng ≤ 30) (hNh : Nh ≤ 30)
    (hR : ∀ a b, 0 ≤ a → a < Ng → 0 ≤ b → b < Nh → (0 ≤ (pq sw (a, b)).1 ∧ (pq sw (a, b)).1 < N) ∧ 0 ≤ (pq sw (a, b)).2 ∧ (pq sw (a, b)).2 < N') :
    ∀ (c : Nat) (j : Int) (B : Nat → Int → Int) (w : List (Int × Int)), 0 ≤ j → j + c = A 125 (31 * mg + x) → fRf A B → wl B w → wok N N' w →
      (nxL (tM A mg) (tM A mh) x y c j = none → ∀ B', fRf A B' → Q (.returned (some (iv 0))) (hp K.n B' R g t u)) →
      (∀ l B', nxL (tM A mg) (tM A mh) x y c j = some l → fRf A B' → wl B' (addP w (l.map (pq sw))) → wok N N' (addP w (l.map (pq sw))) → wx K M_T_refines (d + 1) Q 338 [some (.ref (xa K.n 32)), some (iv m), some (iv p), some (iv k), some v4, some v5, some (iv sw), some (iv (31 * mg + x)), some (iv (31 * mh + y)), none, none, none, none] [] (hp K.n B' R g t u)) →
      wx K M_T_refines (d + 1) Q 189 [some (.ref (xa K.n 32)), some (iv m), some (iv p), some (iv k), some v4, some v5, some (iv sw), some (iv (31 * mg + x)), some (iv (31 * mh + y)), some (iv j), none, none, none] [] (hp K.n B R g t u) := by
  obtain ⟨G1, G2, G3, G4, G5, G6⟩ := hG
  have G4' : 0 ≤ A 125 (31 * mg + x) ∧ A 125 (31 * mg + x) ≤ 6 := G4
  have H4' : 0 ≤ A 125 (31 * mh + y) ∧ A 125 (31 * mh + y) ≤ 6 := hH.2.2.2.1
  have rsw : rg sw := by rcases hsw with h | h <;> rw [h] <;> exact ⟨by decide, by decide⟩
  intro c
  induction c with
  | zero =>
    intro j B w j0 hj hf hw hok hno hq
    have hA := hf.2
    have b25 : B 125 (31 * mg + x) = A 125 (31 * mg + x) := hf.1 _ _ (by decide) (by decide) (by decide) (by omega)
    have nx := hq [] B rfl hf hw hok
    have hnx : wx K M_T_refines (d + 1) Q 338 [some (.ref (xa K.n 32)), some (iv m), some (iv p), some (iv k), some v4, some v5, some (iv sw), some (iv (31 * mg + x)), some (iv (31 * mh + y)), some (iv j), none, none, none] [] (hp K.n B R g t u) := wx_t (pre := [some (.ref (xa K.n 32)), some (iv m), some (iv p), some (iv k), some v4, some v5, some (iv sw), some (iv (31 * mg + x)), some (iv (31 * mh + y))]) (tl := [some (iv j), none, none, none]) nx
    refine r_iload 110 rfl rfl ?_
    refine r_aload_n 111 rfl rfl ?_
    refine r_get 112 rfl f_T_62 (hp_at rfl) rfl ?_
    refine r_iload 113 rfl rfl ?_
    refine r_iaload 114 rfl (hp_at rfl) (by decide) (by omega) (by omega) ?_
    refine r_icmp_ge (t := 338) 115 rfl (by decide) (by first | exact hA _ _ | exact ⟨by decide, by decide⟩ | assumption | exact ⟨by omega, by omega⟩) (by first | exact hA _ _ | exact ⟨by decide, by decide⟩ | assumption | exact ⟨by omega, by omega⟩) (fun c_198 => ?_) (fun c_198 => by omega)
    exact hnx
  | succ c ih =>
    intro j B w j0 hj hf hw hok hno hq
    have hA := hf.2
    have bs : ∀ jj i, 123 ≤ jj → jj ≤ 128 → B jj i = A jj i := fun jj i _ _ => hf.1 _ _ (by omega) (by omega) (by omega) (by omega)
    have b25 : B 125 (31 * mg + x) = A 125 (31 * mg + x) := bs _ _ (by decide) (by decide)
    have b25h : B 125 (31 * mh + y) = A 125 (31 * mh + y) := bs _ _ (by decide) (by decide)
    obtain ⟨-, -, G7⟩ := G5 j j0 (by show j < A 125 (31 * mg + x); omega)
    replace G7 : 0 ≤ A 128 (6 * (31 * mg + x) + j) ∧ A 128 (6 * (31 * mg + x) + j) < Ng := G7
    obtain ⟨to, hto⟩ : ∃ to : Int, to = sam (tM A mh) y (A 126 (6 * (31 * mg + x) + j)) (A 127 (6 * (31 * mg + x) + j)) (A 125 (31 * mh + y)).toNat 0 := ⟨_, rfl⟩
    have hsam : sam (tM B mh) y (B 126 (6 * (31 * mg + x) + j)) (B 127 (6 * (31 * mg + x) + j)) (B 125 (31 * mh + y)).toNat 0 = to := by
      rw [sam_fr (fun f s j hff => tM_fr bs mh f hff s j), bs 126 _ (by decide) (by decide), bs 127 _ (by decide) (by decide), b25h, hto]
    have hrgt := sam_rg (l := A 126 (6 * (31 * mg + x) + j)) (so := A 127 (6 * (31 * mg + x) + j)) hH (A 125 (31 * mh + y)).toNat 0 (by omega) (by show 0 + _ ≤ A 125 (31 * mh + y); omega)
    rw [← hto] at hrgt
    rw [nxL_s] at hno hq
    replace hno : (if to < 0 then none else (nxL (tM A mg) (tM A mh) x y c (j + 1)).map (fun l => (A 128 (6 * (31 * mg + x) + j), to) :: l)) = none → ∀ B', fRf A B' → Q (.returned (some (iv 0))) (hp K.n B' R g t u) := by rw [hto]; exact hno
    replace hq : ∀ l B', (if to < 0 then none else (nxL (tM A mg) (tM A mh) x y c (j + 1)).map (fun l => (A 128 (6 * (31 * mg + x) + j), to) :: l)) = some l → fRf A B' → wl B' (addP w (l.map (pq sw))) → wok N N' (addP w (l.map (pq sw))) → wx K M_T_refines (d + 1) Q 338 [some (.ref (xa K.n 32)), some (iv m), some (iv p), some (iv k), some v4, some v5, some (iv sw), some (iv (31 * mg + x)), some (iv (31 * mh + y)), none, none, none, none] [] (hp K.n B' R g t u) := by rw [hto]; exact hq
    have rto : rg to := by rcases hrgt with h | h <;> exact ⟨by omega, by omega⟩
    by_cases hneg : to < 0
    · rw [if_pos hneg] at hno
      have fin := hno rfl B hf
      refine r_iload 110 rfl rfl ?_
      refine r_aload_n 111 rfl rfl ?_
      refine r_get 112 rfl f_T_62 (hp_at rfl) rfl ?_
      refine r_iload 113 rfl rfl ?_
      refine r_iaload 114 rfl (hp_at rfl) (by decide) (by omega) (by omega) ?_
      refine r_icmp_ge (t := 338) 115 rfl (by decide) (by first | exact hA _ _ | exact ⟨by decide, by decide⟩ | assumption | exact ⟨by omega, by omega⟩) (by first | exact hA _ _ | exact ⟨by decide, by decide⟩ | assumption | exact ⟨by omega, by omega⟩) (fun c_198 => by omega) (fun c_198 => ?_)
      refine r_aload_n 116 rfl rfl ?_
      refine r_iload 117 rfl rfl ?_
      refine r_iload 118 rfl rfl ?_
      refine r_iload 119 rfl rfl ?_
      refine r_callv3 120 rfl l_T_216 (hp_at rfl) (Nat.le_of_ble_eq_true rfl) ?_
      refine c_T_same hA (by omega) (by omega) (by omega) (by omega) (by omega) (by omega) (by omega) (by omega) (cp1 ?_)
      rw [hsam]
      refine r_istore 121 rfl (Nat.le_of_ble_eq_true rfl) ?_
      refine r_iload 122 rfl rfl ?_
      refine r_if_ge (t := 220) 123 rfl (by decide) (by first | exact hA _ _ | exact ⟨by decide, by decide⟩ | assumption | exact ⟨by omega, by omega⟩) (fun c_215 => by omega) (fun c_215 => ?_)
      refine r_iconst 124 rfl ?_
      refine r_iret 125 rfl rfl (by first | rfl | assumption) ?_
      exact fin
    · rw [if_neg hneg] at hno hq
      have hto2 : 0 ≤ to ∧ to < Nh := by rcases hrgt with h | h; omega; exact h
      have hr := hR (A 128 (6 * (31 * mg + x) + j)) to G7.1 G7.2 hto2.1 hto2.2
      generalize hab : pq sw (A 128 (6 * (31 * mg + x) + j), to) = ab at hr
      obtain ⟨a, b⟩ := ab
      replace hr : (0 ≤ a ∧ a < N) ∧ 0 ≤ b ∧ b < N' := hr
      have hlen := wok_len hok hN hN'
      have nx : ∀ v10 : Value, ∀ B', fRf A B' → wl B' (if (a, b) ∈ w then w else w ++ [(a, b)]) → wx K M_T_refines (d + 1) Q 332 [some (.ref (xa K.n 32)), some (iv m), some (iv p), some (iv k), some v4, some v5, some (iv sw), some (iv (31 * mg + x)), some (iv (31 * mh + y)), some (iv j), some v10, some (iv a), some (iv b)] [] (hp K.n B' R g t u) := by
        intro v10 B' f1 f2
        have hok' : wok N N' (if (a, b) ∈ w then w else w ++ [(a, b)]) := by
          by_cases h : (a, b) ∈ w
          · rw [if_pos h]; exact hok
          · rw [if_neg h]; exact wok_add hok hr.1 hr.2 h
        have n2 := ih (j + 1) B' _ (by omega) (by omega) f1 f2 hok' (fun h => hno (by rw [h]; rfl)) (fun l C h1 h2 h3 h4 => hq ((A 128 (6 * (31 * mg + x) + j), to) :: l) C (by rw [h1]; rfl) h2 (by rw [List.map_cons, addP_c, hab]; exact h3) (by rw [List.map_cons, addP_c, hab]; exact h4))
        have hn2 : wx K M_T_refines (d + 1) Q 189 [some (.ref (xa K.n 32)), some (iv m), some (iv p), some (iv k), some v4, some v5, some (iv sw), some (iv (31 * mg + x)), some (iv (31 * mh + y)), some (iv (j + 1)), some v10, some (iv a), some (iv b)] [] (hp K.n B' R g t u) := wx_t (pre := [some (.ref (xa K.n 32)), some (iv m), some (iv p), some (iv k), some v4, some v5, some (iv sw), some (iv (31 * mg + x)), some (iv (31 * mh + y)), some (iv (j + 1))]) (tl := [some v10, some (iv a), some (iv b)]) n2
        refine r_iinc 188 rfl rfl ?_
        refine r_goto (t := 189) 189 rfl (by decide) ?_
        exact hn2
      have b28 : B 128 (6 * (31 * mg + x) + j) = A 128 (6 * (31 * mg + x) + j) := bs _ _ (by decide) (by decide)
      rcases hsw with e | e
      · subst e
        have e1 : (to, A 128 (6 * (31 * mg + x) + j)) = (a, b) := hab
        cases e1
        have n3 := rf_add (K := K) (d := d) (Q := Q) (R := R) (g := g) (t := t) (u := u) (m := m) (p := p) (k := k) (j := j) (v4 := v4) (v5 := v5) (v6 := iv 0) (v7 := iv (31 * mg + x)) (v8 := iv (31 * mh + y)) (v10 := iv to) hf hw (by omega) hr.1.1 (by omega) hr.2.1 (by omega) (nx _)
        refine r_iload 110 rfl rfl ?_
        refine r_aload_n 111 rfl rfl ?_
        refine r_get 112 rfl f_T_62 (hp_at rfl) rfl ?_
        refine r_iload 113 rfl rfl ?_
        refine r_iaload 114 rfl (hp_at rfl) (by decide) (by omega) (by omega) ?_
        refine r_icmp_ge (t := 338) 115 rfl (by decide) (by first | exact hA _ _ | exact ⟨by decide, by decide⟩ | assumption | exact ⟨by omega, by omega⟩) (by first | exact hA _ _ | exact ⟨by decide, by decide⟩ | assumption | exact ⟨by omega, by omega⟩) (fun c_198 => by omega) (fun c_198 => ?_)
        refine r_aload_n 116 rfl rfl ?_
        refine r_iload 117 rfl rfl ?_
        refine r_iload 118 rfl rfl ?_
        refine r_iload 119 rfl rfl ?_
        refine r_callv3 120 rfl l_T_216 (hp_at rfl) (Nat.le_of_ble_eq_true rfl) ?_
        refine c_T_same hA (by omega) (by omega) (by omega) (by omega) (by omega) (by omega) (by omega) (by omega) (cp1 ?_)
        rw [hsam]
        refine r_istore 121 rfl (Nat.le_of_ble_eq_true rfl) ?_
        refine r_iload 122 rfl rfl ?_
        refine r_if_ge (t := 220) 123 rfl (by decide) (by first | exact hA _ _ | exact ⟨by decide, by decide⟩ | assumption | exact ⟨by omega, by omega⟩) (fun c_215 => ?_) (fun c_215 => by omega)
        refine r_iload 126 rfl rfl ?_
        refine r_if_eq (t := 241) 127 rfl (by decide) (by first | exact hA _ _ | exact ⟨by decide, by decide⟩ | assumption | exact ⟨by omega, by omega⟩) (fun c_222 => ?_) (fun c_222 => by omega)
        refine r_iload 137 rfl rfl ?_
        refine r_istore 138 rfl (Nat.le_of_ble_eq_true rfl) ?_
        refine r_iload 139 rfl rfl ?_
        refine r_if_eq (t := 255) 140 rfl (by decide) (by first | exact hA _ _ | exact ⟨by decide, by decide⟩ | assumption | exact ⟨by omega, by omega⟩) (fun c_247 => ?_) (fun c_247 => by omega)
        refine r_aload_n 143 rfl rfl ?_
        refine r_get 144 rfl f_T_71 (hp_at rfl) rfl ?_
        refine r_bipush 145 rfl rfl ?_
        refine r_iload 146 rfl rfl ?_
        refine r_imul 147 rfl ?_
        refine r_iload 148 rfl rfl ?_
        refine r_iadd 149 rfl ?_
        refine r_iaload 150 rfl (hp_at rfl) (by decide) (by omega) (by omega) ?_
        rw [b28]
        refine r_istore 151 rfl (Nat.le_of_ble_eq_true rfl) ?_
        exact n3
      · subst e
        have e1 : (A 128 (6 * (31 * mg + x) + j), to) = (a, b) := hab
        cases e1
        have n3 := rf_add (K := K) (d := d) (Q := Q) (R := R) (g := g) (t := t) (u := u) (m := m) (p := p) (k := k) (j := j) (v4 := v4) (v5 := v5) (v6 := iv 1) (v7 := iv (31 * mg + x)) (v8 := iv (31 * mh + y)) (v10 := iv to) hf hw (by omega) hr.1.1 (by omega) hr.2.1 (by omega) (nx _)
        refine r_iload 110 rfl rfl ?_
        refine r_aload_n 111 rfl rfl ?_
        refine r_get 112 rfl f_T_62 (hp_at rfl) rfl ?_
        refine r_iload 113 rfl rfl ?_
        refine r_iaload 114 rfl (hp_at rfl) (by decide) (by omega) (by omega) ?_
        refine r_icmp_ge (t := 338) 115 rfl (by decide) (by first | exact hA _ _ | exact ⟨by decide, by decide⟩ | assumption | exact ⟨by omega, by omega⟩) (by first | exact hA _ _ | exact ⟨by decide, by decide⟩ | assumption | exact ⟨by omega, by omega⟩) (fun c_198 => by omega) (fun c_198 => ?_)
        refine r_aload_n 116 rfl rfl ?_
        refine r_iload 117 rfl rfl ?_
        refine r_iload 118 rfl rfl ?_
        refine r_iload 119 rfl rfl ?_
        refine r_callv3 120 rfl l_T_216 (hp_at rfl) (Nat.le_of_ble_eq_true rfl) ?_
        refine c_T_same hA (by omega) (by omega) (by omega) (by omega) (by omega) (by omega) (by omega) (by omega) (cp1 ?_)
        rw [hsam]
        refine r_istore 121 rfl (Nat.le_of_ble_eq_true rfl) ?_
        refine r_iload 122 rfl rfl ?_
        refine r_if_ge (t := 220) 123 rfl (by decide) (by first | exact hA _ _ | exact ⟨by decide, by decide⟩ | assumption | exact ⟨by omega, by omega⟩) (fun c_215 => ?_) (fun c_215 => by omega)
        refine r_iload 126 rfl rfl ?_
        refine r_if_eq (t := 241) 127 rfl (by decide) (by first | exact hA _ _ | exact ⟨by decide, by decide⟩ | assumption | exact ⟨by omega, by omega⟩) (fun c_222 => by omega) (fun c_222 => ?_)
        refine r_aload_n 128 rfl rfl ?_
        refine r_get 129 rfl f_T_71 (hp_at rfl) rfl ?_
        refine r_bipush 130 rfl rfl ?_
        refine r_iload 131 rfl rfl ?_
        refine r_imul 132 rfl ?_
        refine r_iload 133 rfl rfl ?_
        refine r_iadd 134 rfl ?_
        refine r_iaload 135 rfl (hp_at rfl) (by decide) (by omega) (by omega) ?_
        refine r_goto (t := 243) 136 rfl (by decide) ?_
        rw [b28]
        refine r_istore 138 rfl (Nat.le_of_ble_eq_true rfl) ?_
        refine r_iload 139 rfl rfl ?_
        refine r_if_eq (t := 255) 140 rfl (by decide) (by first | exact hA _ _ | exact ⟨by decide, by decide⟩ | assumption | exact ⟨by omega, by omega⟩) (fun c_247 => by omega) (fun c_247 => ?_)
        refine r_iload 141 rfl rfl ?_
        refine r_goto (t := 268) 142 rfl (by decide) ?_
        refine r_istore 151 rfl (Nat.le_of_ble_eq_true rfl) ?_
        exact n3
end TW64


/-! the twin: makeMachine, the second loop; whole -/
section TW60
variable {K : xk} {M : xm} {d : Nat} {Q : Outcome → xh → Prop} {R : Nat → Int → Value} {g : Nat → Nat × List Value} {t u : Nat}
/-- what the second loop keeps -/
def fL (A A' : Nat → Int → Int) (m : Int) : Prop := (∀ j i, (j = 126 ∨ j = 127 ∨ j = 128 → i < 186 * m ∨ 186 * m + 186 ≤ i) → A' j i = A j i) ∧ rga A'
theorem fL.e {A A' : Nat → Int → Int} {m : Int} (h : fL A A' m) : eqT A A' := fun j i h1 h2 => h.1 j i (by omega)
/-- the labels of a state -/
theorem mm_lab {A : Nat → Int → Int} {m s0 tp s n : Int} (m0 : 0 ≤ m) (m1 : m < 9) (s00 : 0 ≤ s) (s1 : s < 31) (hn : A 119 s = n) (hG : gs A s) (hA0 : rga A) :
    ∀ (c : Nat) (k : Int) (A' : Nat → Int → Int), 1 ≤ k → k + c = A 107 n + 1 → fL A A' m → (∀ i, 0 ≤ i → i < s → ∀ k', 1 ≤ k' → k' ≤ A 107 (A 119 i) → A 107 (A 119 i) ≤ 6 → rd A A' m i k') → (∀ k', 1 ≤ k' → k' < k → rd A A' m s k') →
      (∀ A'', fL A A'' m → (∀ i, 0 ≤ i → i < s + 1 → ∀ k', 1 ≤ k' → k' ≤ A 107 (A 119 i) → A 107 (A 119 i) ≤ 6 → rd A A'' m i k') → wx K M_T_makeMachine (d + 2) Q 388 [some (.ref (xa K.n 32)), some (iv m), some (iv s0), some (iv tp), some (iv 1), some (iv s), none, none, none, none] [] (hp K.n A'' R g t u)) →
      wx K M_T_makeMachine (d + 2) Q 285 [some (.ref (xa K.n 32)), some (iv m), some (iv s0), some (iv tp), some (iv 1), some (iv s), some (iv n), some (iv k), none, none] [] (hp K.n A' R g t u) := by
  obtain ⟨g1, g2, g3⟩ := hG
  rw [hn] at g1 g2 g3
  intro c
  induction c with
  | zero =>
    intro k A' k1 hk hf hold hcur hq
    have hA := hf.2
    have a7 : A' 107 n = A 107 n := hf.1 _ _ (by omega)
    have nx := hq A' hf (fun i i0 i1 k' c1 c2 c3 => by
      by_cases e : i = s
      · rw [e]; rw [e, hn] at c2; exact hcur k' c1 (by omega)
      · exact hold i i0 (by omega) k' c1 c2 c3)
    have hnx : wx K M_T_makeMachine (d + 2) Q 388 [some (.ref (xa K.n 32)), some (iv m), some (iv s0), some (iv tp), some (iv 1), some (iv s), some (iv n), some (iv k), none, none] [] (hp K.n A' R g t u) := wx_t (pre := [some (.ref (xa K.n 32)), some (iv m), some (iv s0), some (iv tp), some (iv 1), some (iv s)]) (tl := [some (iv n), some (iv k), none, none]) nx
    refine r_iload 161 rfl rfl ?_
    refine r_aload_n 162 rfl rfl ?_
    refine r_get 163 rfl f_T_20 (hp_at rfl) rfl ?_
    refine r_iload 164 rfl rfl ?_
    refine r_iaload 165 rfl (hp_at rfl) (by decide) (by omega) (by omega) ?_
    refine r_icmp_gt (t := 388) 166 rfl (by decide) (by first | exact hA _ _ | exact ⟨by decide, by decide⟩ | assumption | exact ⟨by omega, by omega⟩) (by first | exact hA _ _ | exact ⟨by decide, by decide⟩ | assumption | exact ⟨by omega, by omega⟩) (fun c_294 => ?_) (fun c_294 => by omega)
    exact hnx
  | succ c ih =>
    intro k A' k1 hk hf hold hcur hq
    have hA := hf.2
    have a7 : A' 107 n = A 107 n := hf.1 _ _ (by omega)
    have a8 : ∀ i, A' 108 i = A 108 i := fun i => hf.1 _ _ (by omega)
    obtain ⟨y, y0, y1, y2, y3, f, x, x1, x2, x3, x4⟩ := g3 k (by omega) (by omega)
    obtain ⟨at', hat⟩ : ∃ at' : Int, at' = 6 * (31 * m + s) + k - 1 := ⟨_, rfl⟩
    generalize hC : au (au A' 126 at' y) 127 at' (A' 109 (6 * n + y)) = C
    have Cr : ∀ (j : Nat) (i : Int), C j i = if j = 127 ∧ i = at' then A' 109 (6 * n + y) else if j = 126 ∧ i = at' then y else A' j i := fun j i => by rw [← hC, au_ite, au_ite]
    have hCA : rga C := by rw [← hC]; exact rga_au (rga_au hA ⟨by omega, by omega⟩) (hA _ _)
    have eC : eqT A C := fun j i h1 h2 => by rw [Cr, if_neg (by omega), if_neg (by omega)]; exact hf.1 j i (by omega)
    have c10 : C 110 (6 * n + y) = A 110 (6 * n + y) := eC 110 _ (by decide) (by decide)
    have c9 : C 129 x = A 129 x := by rw [Cr, if_neg (by omega), if_neg (by omega)]; exact hf.1 _ _ (by omega)
    generalize hD : au C 128 at' (C 129 x) = D
    have Dr : ∀ (j : Nat) (i : Int), D j i = if j = 128 ∧ i = at' then C 129 x else if j = 127 ∧ i = at' then A' 109 (6 * n + y) else if j = 126 ∧ i = at' then y else A' j i := fun j i => by rw [← hD, au_ite, Cr j i]
    have hDf : fL A D m := by
      refine ⟨fun j i h => ?_, by rw [← hD]; exact rga_au hCA (hCA _ _)⟩
      rw [Dr, if_neg (by omega), if_neg (by omega), if_neg (by omega)]; exact hf.1 j i h
    have keep : ∀ i k', 0 ≤ i → i < 31 → 1 ≤ k' → k' ≤ 6 → 6 * (31 * m + i) + k' - 1 ≠ at' → rd A A' m i k' → rd A D m i k' := by
      intro i k' _ _ _ _ hne h y' y0' y1' y2'
      obtain ⟨r1, r2, f', x', r3, r4⟩ := h y' y0' y1' y2'
      refine ⟨?_, ?_, f', x', r3, ?_⟩
      · rw [Dr, if_neg (by omega), if_neg (by omega), if_neg (by omega)]; exact r1
      · rw [Dr, if_neg (by omega), if_neg (by omega), if_neg (by omega)]; exact r2
      · rw [Dr, if_neg (by omega), if_neg (by omega), if_neg (by omega)]; exact r4
    have nx := ih (k + 1) D (by omega) (by omega) hDf (fun i i0 i1 k' d1 d2 d3 => keep i k' i0 (by omega) d1 (by omega) (by omega) (hold i i0 i1 k' d1 d2 d3)) (fun k' d1 d2 => by
      by_cases e : k' = k
      · intro y' y0' y1' y2'
        rw [hn] at y2' ⊢
        have ey : y' = y := y3 y' y0' y1' (by omega)
        rw [e, ey, ← hat]
        refine ⟨by rw [Dr, if_neg (by omega), if_neg (by omega), if_pos ⟨rfl, rfl⟩], ?_, f, x, x2, ?_⟩
        · rw [Dr, if_neg (by omega), if_pos ⟨rfl, rfl⟩]; exact hf.1 _ _ (by omega)
        · rw [Dr, if_pos ⟨rfl, rfl⟩]; exact c9
      · exact keep s k' s00 s1 d1 (by omega) (by omega) (hcur k' d1 (by omega))) hq
    have hnx : wx K M_T_makeMachine (d + 2) Q 285 [some (.ref (xa K.n 32)), some (iv m), some (iv s0), some (iv tp), some (iv 1), some (iv s), some (iv n), some (iv (k + 1)), some (iv y), some (iv at')] [] (hp K.n D R g t u) := wx_t (pre := [some (.ref (xa K.n 32)), some (iv m), some (iv s0), some (iv tp), some (iv 1), some (iv s), some (iv n), some (iv (k + 1))]) (tl := [some (iv y), some (iv at')]) nx
    refine r_iload 161 rfl rfl ?_
    refine r_aload_n 162 rfl rfl ?_
    refine r_get 163 rfl f_T_20 (hp_at rfl) rfl ?_
    refine r_iload 164 rfl rfl ?_
    refine r_iaload 165 rfl (hp_at rfl) (by decide) (by omega) (by omega) ?_
    try simp +decide only [au_ne, au_same, au_ni, fil_ne]
    refine r_icmp_gt (t := 388) 166 rfl (by decide) (by first | exact hA _ _ | exact ⟨by decide, by decide⟩ | assumption | exact ⟨by omega, by omega⟩) (by first | exact hA _ _ | exact ⟨by decide, by decide⟩ | assumption | exact ⟨by omega, by omega⟩) (fun c_294 => by omega) (fun c_294 => ?_)
    refine r_aload_n 167 rfl rfl ?_
    refine r_iload 168 rfl rfl ?_
    refine r_iload 169 rfl rfl ?_
    refine r_callv2 170 rfl l_T_176 (hp_at rfl) (Nat.le_of_ble_eq_true rfl) ?_
    refine c_T_labelAt hA ⟨by omega, by omega⟩ g1.1 g1.2 y0 y1 (by rw [a8, y2]) (fun j j0 j1 => by rw [a8]; intro h; have := y3 j j0 (by omega) h; omega) (cp1 ?_)
    refine r_istore 171 rfl (Nat.le_of_ble_eq_true rfl) ?_
    refine r_bipush 172 rfl rfl ?_
    refine r_bipush 173 rfl rfl ?_
    refine r_iload_n 174 rfl rfl ?_
    refine r_imul 175 rfl ?_
    refine r_iload 176 rfl rfl ?_
    refine r_iadd 177 rfl ?_
    refine r_imul 178 rfl ?_
    refine r_iload 179 rfl rfl ?_
    refine r_iadd 180 rfl ?_
    refine r_iconst 181 rfl ?_
    refine r_isub 182 rfl ?_
    rw [← hat]
    refine r_istore 183 rfl (Nat.le_of_ble_eq_true rfl) ?_
    refine r_aload_n 184 rfl rfl ?_
    refine r_get 185 rfl f_T_65 (hp_at rfl) rfl ?_
    refine r_iload 186 rfl rfl ?_
    refine r_iload 187 rfl rfl ?_
    refine r_iastore 188 rfl (hp_at rfl) (by decide) (by omega) (by omega) ?_
    rw [ws_126]
    refine r_aload_n 189 rfl rfl ?_
    refine r_get 190 rfl f_T_68 (hp_at rfl) rfl ?_
    refine r_iload 191 rfl rfl ?_
    refine r_aload_n 192 rfl rfl ?_
    refine r_get 193 rfl f_T_26 (hp_at rfl) rfl ?_
    refine r_bipush 194 rfl rfl ?_
    refine r_iload 195 rfl rfl ?_
    refine r_imul 196 rfl ?_
    refine r_iload 197 rfl rfl ?_
    refine r_iadd 198 rfl ?_
    refine r_iaload 199 rfl (hp_at rfl) (by decide) (by omega) (by omega) ?_
    try simp +decide only [au_ne, au_same, au_ni, fil_ne]
    refine r_iastore 200 rfl (hp_at rfl) (by decide) (by omega) (by omega) ?_
    rw [ws_127]
    rw [hC]
    refine r_aload_n 201 rfl rfl ?_
    refine r_get 202 rfl f_T_71 (hp_at rfl) rfl ?_
    refine r_iload 203 rfl rfl ?_
    refine r_aload_n 204 rfl rfl ?_
    refine r_get 205 rfl f_T_74 (hp_at rfl) rfl ?_
    refine r_aload_n 206 rfl rfl ?_
    refine r_aload_n 207 rfl rfl ?_
    refine r_get 208 rfl f_T_29 (hp_at rfl) rfl ?_
    refine r_bipush 209 rfl rfl ?_
    refine r_iload 210 rfl rfl ?_
    refine r_imul 211 rfl ?_
    refine r_iload 212 rfl rfl ?_
    refine r_iadd 213 rfl ?_
    refine r_iaload 214 rfl (hp_at rfl) (by decide) (by omega) (by omega) ?_
    try simp +decide only [au_ne, au_same, au_ni, fil_ne]
    rw [c10]
    refine r_callv1 215 rfl l_T_196 (hp_at rfl) (Nat.le_of_ble_eq_true rfl) ?_
    refine c_T_beginning hCA x3 x4 (eqT_bg eC _ _ _ x2) x1 (cp1 ?_)
    refine r_iaload 216 rfl (hp_at rfl) (by decide) (by omega) (by omega) ?_
    try simp +decide only [au_ne, au_same, au_ni, fil_ne]
    refine r_iastore 217 rfl (hp_at rfl) (by decide) (by omega) (by omega) ?_
    rw [ws_128]
    rw [hD]
    refine r_iinc 218 rfl rfl ?_
    refine r_goto (t := 285) 219 rfl (by decide) ?_
    exact hnx
/-- all states -/
theorem mm_sts {A : Nat → Int → Int} {m s0 tp N : Int} (m0 : 0 ≤ m) (m1 : m < 9) (n1 : N ≤ 31) (hN : A 122 m = N) (hG : ∀ i, 0 ≤ i → i < N → gs A i) (hA0 : rga A) :
    ∀ (c : Nat) (s : Int) (A' : Nat → Int → Int), 0 ≤ s → s + c = N → fL A A' m → (∀ i, 0 ≤ i → i < s → ∀ k', 1 ≤ k' → k' ≤ A 107 (A 119 i) → A 107 (A 119 i) ≤ 6 → rd A A' m i k') →
      (∀ A'', fL A A'' m → (∀ i, 0 ≤ i → i < N → ∀ k', 1 ≤ k' → k' ≤ A 107 (A 119 i) → rd A A'' m i k') → Q (.returned none) (hp K.n A'' R g t u)) →
      wx K M_T_makeMachine (d + 2) Q 257 [some (.ref (xa K.n 32)), some (iv m), some (iv s0), some (iv tp), some (iv 1), some (iv s), none, none, none, none] [] (hp K.n A' R g t u) := by
  intro c
  induction c with
  | zero =>
    intro s A' s00 hs hf hold hq
    have hA := hf.2
    have a22 : A' 122 m = N := (hf.1 _ _ (by omega)).trans hN
    have nx := hq A' hf (fun i i0 i1 k' c1 c2 => hold i i0 (by omega) k' c1 c2 (hG i i0 i1).2.1.2)
    have e122 : au A' 122 m N = A' := by rw [← a22]; exact au_self _ _ _
    refine r_iload 146 rfl rfl ?_
    refine r_aload_n 147 rfl rfl ?_
    refine r_get 148 rfl f_T_53 (hp_at rfl) rfl ?_
    refine r_iload_n 149 rfl rfl ?_
    refine r_iaload 150 rfl (hp_at rfl) (by decide) (by omega) (by omega) ?_
    refine r_icmp_ge (t := 394) 151 rfl (by decide) (by first | exact hA _ _ | exact ⟨by decide, by decide⟩ | assumption | exact ⟨by omega, by omega⟩) (by first | exact hA _ _ | exact ⟨by decide, by decide⟩ | assumption | exact ⟨by omega, by omega⟩) (fun c_265 => ?_) (fun c_265 => by omega)
    refine r_aload_n 222 rfl rfl ?_
    refine r_get 223 rfl f_T_53 (hp_at rfl) rfl ?_
    refine r_iload_n 224 rfl rfl ?_
    refine r_iload 225 rfl rfl ?_
    refine r_if_eq (t := 413) 226 rfl (by decide) (by first | exact hA _ _ | exact ⟨by decide, by decide⟩ | assumption | exact ⟨by omega, by omega⟩) (fun c_401 => by omega) (fun c_401 => ?_)
    refine r_aload_n 227 rfl rfl ?_
    refine r_get 228 rfl f_T_53 (hp_at rfl) rfl ?_
    refine r_iload_n 229 rfl rfl ?_
    refine r_iaload 230 rfl (hp_at rfl) (by decide) (by omega) (by omega) ?_
    refine r_goto (t := 414) 231 rfl (by decide) ?_
    rw [a22]
    refine r_iastore 233 rfl (hp_at rfl) (by decide) (by omega) (by omega) ?_
    rw [ws_122]
    rw [e122]
    refine r_ret 234 rfl rfl ?_
    exact nx
  | succ c ih =>
    intro s A' s00 hs hf hold hq
    have hA := hf.2
    have a22 : A' 122 m = N := (hf.1 _ _ (by omega)).trans hN
    have a19 : A' 119 s = A 119 s := hf.1 _ _ (by omega)
    have hGs := hG s s00 (by omega)
    have nx : ∀ A'', fL A A'' m → (∀ i, 0 ≤ i → i < s + 1 → ∀ k', 1 ≤ k' → k' ≤ A 107 (A 119 i) → A 107 (A 119 i) ≤ 6 → rd A A'' m i k') → wx K M_T_makeMachine (d + 2) Q 388 [some (.ref (xa K.n 32)), some (iv m), some (iv s0), some (iv tp), some (iv 1), some (iv s), none, none, none, none] [] (hp K.n A'' R g t u) := by
      intro A'' hf2 hall
      have nx2 := ih (s + 1) A'' (by omega) (by omega) hf2 hall hq
      refine r_iinc 220 rfl rfl ?_
      refine r_goto (t := 257) 221 rfl (by decide) ?_
      exact nx2
    have main := mm_lab (K := K) (d := d) (Q := Q) (R := R) (g := g) (t := t) (u := u) (s0 := s0) (tp := tp) m0 m1 s00 (by omega) rfl hGs hA0 (A 107 (A 119 s)).toNat 1 A' (by omega) (by have := hGs.2.1.1; omega) hf hold (fun k' a b => by omega) nx
    refine r_iload 146 rfl rfl ?_
    refine r_aload_n 147 rfl rfl ?_
    refine r_get 148 rfl f_T_53 (hp_at rfl) rfl ?_
    refine r_iload_n 149 rfl rfl ?_
    refine r_iaload 150 rfl (hp_at rfl) (by decide) (by omega) (by omega) ?_
    refine r_icmp_ge (t := 394) 151 rfl (by decide) (by first | exact hA _ _ | exact ⟨by decide, by decide⟩ | assumption | exact ⟨by omega, by omega⟩) (by first | exact hA _ _ | exact ⟨by decide, by decide⟩ | assumption | exact ⟨by omega, by omega⟩) (fun c_265 => by omega) (fun c_265 => ?_)
    refine r_iload 152 rfl rfl ?_
    refine r_if_eq (t := 394) 153 rfl (by decide) (by first | exact hA _ _ | exact ⟨by decide, by decide⟩ | assumption | exact ⟨by omega, by omega⟩) (fun c_270 => by omega) (fun c_270 => ?_)
    refine r_aload_n 154 rfl rfl ?_
    refine r_get 155 rfl f_T_44 (hp_at rfl) rfl ?_
    refine r_iload 156 rfl rfl ?_
    refine r_iaload 157 rfl (hp_at rfl) (by decide) (by omega) (by omega) ?_
    rw [a19]
    refine r_istore 158 rfl (Nat.le_of_ble_eq_true rfl) ?_
    refine r_iconst 159 rfl ?_
    refine r_istore 160 rfl (Nat.le_of_ble_eq_true rfl) ?_
    exact main
def fK (A A' : Nat → Int → Int) (m : Int) : Prop := (∀ j i, j ≠ 111 → j ≠ 119 → (j = 122 → i ≠ m) → (j = 123 ∨ j = 124 ∨ j = 125 → i < 31 * m ∨ 31 * m + 31 ≤ i) → (j = 126 ∨ j = 127 ∨ j = 128 → i < 186 * m ∨ 186 * m + 186 ≤ i) → j ≠ 129 → j ≠ 130 → A' j i = A j i) ∧ rga A'
theorem c_T_makeMachine {A : Nat → Int → Int} {m s0 : Int} {τ : Tr} (hA : rga A) (m0 : 0 ≤ m) (m1 : m < 9) (ht : (tR A τ).1 s0) (hw : (wfP τ).1) (hlk : (lkP τ).1) (hno : ∀ x, (ct A τ).1 s0 x ≠ 0 → 0 ≤ x ∧ x < 300) (h1 : ∀ x, (ct A τ).1 s0 x ≤ 1) (hS : szT τ ≤ 30) (hg : (gdd τ).1 (fun _ => false))
    (hq : ∀ A', fK A A' m → A' 122 m = (nS τ).1 → (∀ env, (mR (tM A' m) τ).1 env 0) → Q (.returned none) (hp K.n A' R g t u)) : mx K M_T_makeMachine (d + 2) [.ref (xa K.n 32), iv m, iv s0] (hp K.n A R g t u) Q := by
  have hs := hno s0 (by have := ct_self A τ s0; omega)
  refine mx_in ok_T_makeMachine rfl (Nat.le_of_ble_eq_true rfl) ?_
  refine r_aload_n 0 rfl rfl ?_
  refine r_iload_n 1 rfl rfl ?_
  refine r_callv1 2 rfl l_T_193 (hp_at rfl) (Nat.le_of_ble_eq_true rfl) ?_
  refine c_T_hang hA ht hw hno h1 (by omega) (fun A1 f1 hA1 hH1 h129 => cp0 ?_)
  have hA := hA1
  refine r_aload_n 3 rfl rfl ?_
  refine r_get 4 rfl f_T_53 (hp_at rfl) rfl ?_
  refine r_iload_n 5 rfl rfl ?_
  refine r_iconst 6 rfl ?_
  refine r_iastore 7 rfl (hp_at rfl) (by decide) (by omega) (by omega) ?_
  rw [ws_122]
  refine r_iconst 8 rfl ?_
  refine r_istore_n 9 rfl (Nat.le_of_ble_eq_true rfl) ?_
  refine r_aload_n 10 rfl rfl ?_
  refine r_get 11 rfl f_T_77 (hp_at rfl) rfl ?_
  refine r_iconst 12 rfl ?_
  refine r_iload_n 13 rfl rfl ?_
  refine r_iastore 14 rfl (hp_at rfl) (by decide) (by omega) (by omega) ?_
  rw [ws_130]
  refine r_iconst 15 rfl ?_
  refine r_istore 16 rfl (Nat.le_of_ble_eq_true rfl) ?_
  skip
  generalize hC : au (au A1 122 m 0) 130 0 s0 = C
  have Cr : ∀ (j : Nat) (i : Int), C j i = if j = 130 ∧ i = 0 then s0 else if j = 122 ∧ i = m then 0 else A1 j i := fun j i => by rw [← hC, au_ite, au_ite]
  have hCA : rga C := by rw [← hC]; exact rga_au (rga_au hA1 ⟨by omega, by omega⟩) ⟨by omega, by omega⟩
  have e1C : eqT A1 C := fun j i h1 h2 => by rw [Cr, if_neg (by omega), if_neg (by omega)]
  have eN : ∀ x, sameN A C x := fun x => (f1.s x).tr (e1C.s x)
  obtain ⟨j1, j2⟩ := (tR_frame A C τ).1 s0 hw (fun x _ => eN x) ht
  have hP : pos C τ s0 (-1) [] := by
    have hHC : (tH C τ).1 s0 (-1) := by rw [(eqT_tH e1C τ).1]; exact hH1
    refine ⟨j1, hw, hlk, hHC, ?_, fun x hx => hno x (by rw [j2] at hx; exact hx), fun x => by rw [j2]; exact h1 x⟩
    show C 111 s0 < 0
    rw [tH_p C τ s0 (-1) hHC]; decide
  have hv : ∀ B, hvS B (lsP τ).1 [] (fun _ => 0) := fun B v hv3 hl => by
    have := (gd_ls τ).1 _ v hg hl
    cases this
  obtain ⟨⟨f, hf, hbg⟩, -⟩ := bg_P hP hg hS (hv C)
  have main : MM K d Q R g t u m s0 (0 + 1) C := (mm_T m0 m1 τ).1 s0 (-1) s0 0 0 f [] (fun _ => 0) (fun _ => false) C hCA hP hS hg (hv C) (fun v e hv3 => by have := (gd_ls τ).1 _ v hg (hd_lo τ v _ hg e hv3); cases this) (fun v hv3 hl => by have := (gd_ls τ).1 _ v hg hl; cases this) (fun x hx => by
      rw [Cr, if_neg (by omega), if_neg (by omega)]
      exact h129 x (by rw [j2] at hx; exact hx)) hbg hf (by rw [Cr, if_pos ⟨rfl, rfl⟩]) (by omega) (by omega) (by rw [Cr, if_neg (by omega), if_pos ⟨rfl, rfl⟩]) (by omega) (by have := (nS_le τ).1; omega) (fun B b1 b2 b3 => ?_)
  · rw [Int.zero_add] at main
    exact main
  · have hA := b1.2.1
    have hPB := pos_eqT b1.e hP
    rw [Int.zero_add] at b1
    have hle := (nS_le τ).1
    have fin := mm_sts (K := K) (d := d) (Q := Q) (R := R) (g := g) (t := t) (u := u) (s0 := s0) (tp := 0) (N := (nS τ).1) m0 m1 (by omega) b1.2.2.2.2 (fun i i0 i1 => (mm_gs B m τ).1 s0 (-1) 0 [] _ _ hPB hS hg (hv B) b3 i i0 (by omega)) hA (nS τ).1 0 B (by omega) (by omega) ⟨fun _ _ _ => rfl, hA⟩ (fun i i0 i1 => by omega) (fun D d1 d2 => by
      refine hq D ⟨fun j i c1 c2 c3 c4 c5 c6 c7 => ?_, d1.2⟩ ((d1.1 _ _ (by omega)).trans b1.2.2.2.2) (fun env => ?_)
      · rw [d1.1 j i c5, b1.1 j i c2 c3 c4 c6 c7, Cr, if_neg (by omega), if_neg (by omega)]
        exact f1 j i c1 c6 c7
      · exact (mm_mR B D m (fun j i _ _ => d1.1 j i (by omega)) τ).1 s0 (-1) 0 [] (fun _ => 0) (fun _ => false) env hPB hS hg (hv B) b3 (fun i i0 i1 k a b => d2 i i0 (by omega) k a b) (fun v hv3 hl => by have := (gd_ls τ).1 _ v hg hl; cases this))
    unfold MM
    refine r_iload_n 17 rfl rfl ?_
    refine r_if_le (t := 254) 18 rfl (by decide) (by first | exact hA _ _ | exact ⟨by decide, by decide⟩ | assumption | exact ⟨by omega, by omega⟩) (fun c_25 => ?_) (fun c_25 => by omega)
    refine r_iconst 144 rfl ?_
    refine r_istore 145 rfl (Nat.le_of_ble_eq_true rfl) ?_
    exact fin
end TW60


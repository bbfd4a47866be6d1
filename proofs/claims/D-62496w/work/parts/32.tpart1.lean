/-! the twin: labelAt, later, isBelow, boundAt, touches -/
section TW32
variable {K : xk} {M : xm} {d : Nat} {Q : Outcome → xh → Prop} {A : Nat → Int → Int} {R : Nat → Int → Value} {g : Nat → Nat × List Value} {t u : Nat}
theorem c_T_labelAt {n k l : Int} (hA : rga A) (hk : rg k) (n0 : 0 ≤ n) (n1 : n < 300) (l0 : 0 ≤ l) (l1 : l < 6) (he : A 108 (6 * n + l) = k) (hu : ∀ j, 0 ≤ j → j < l → A 108 (6 * n + j) ≠ k) (hq : Q (.returned (some (iv l))) (hp K.n A R g t u)) : mx K M_T_labelAt d [.ref (xa K.n 32), iv n, iv k] (hp K.n A R g t u) Q := by
  refine mx_in ok_T_labelAt rfl (Nat.le_of_ble_eq_true rfl) ?_
  have loop : ∀ (m : Nat) (i : Int), 0 ≤ i → i ≤ l → l - i < m → wx K M_T_labelAt d Q 2 [some (.ref (xa K.n 32)), some (iv n), some (iv k), some (iv i)] [] (hp K.n A R g t u) := by
    intro m
    induction m with
    | zero => intro i i0 i1 i2; omega
    | succ m ih =>
      intro i i0 i1 i2
      by_cases h5 : i = 5
      · refine r_iload_n 2 rfl rfl ?_
        refine r_iconst 3 rfl ?_
        refine r_icmp_ge (t := 28) 4 rfl (by decide) (by first | exact hA _ _ | exact ⟨by decide, by decide⟩ | assumption | exact ⟨by omega, by omega⟩) (by first | exact hA _ _ | exact ⟨by decide, by decide⟩ | assumption | exact ⟨by omega, by omega⟩) (fun c_4 => ?_) (fun c_4 => by omega)
        refine r_iload_n 17 rfl rfl ?_
        refine r_iret 18 rfl rfl rfl ?_
        exact q_v hq (by omega)
      · by_cases hi : i = l
        · subst hi
          refine r_iload_n 2 rfl rfl ?_
          refine r_iconst 3 rfl ?_
          refine r_icmp_ge (t := 28) 4 rfl (by decide) (by first | exact hA _ _ | exact ⟨by decide, by decide⟩ | assumption | exact ⟨by omega, by omega⟩) (by first | exact hA _ _ | exact ⟨by decide, by decide⟩ | assumption | exact ⟨by omega, by omega⟩) (fun c_4 => by omega) (fun c_4 => ?_)
          refine r_aload_n 5 rfl rfl ?_
          refine r_get 6 rfl f_T_23 (hp_at rfl) rfl ?_
          refine r_bipush 7 rfl rfl ?_
          refine r_iload_n 8 rfl rfl ?_
          refine r_imul 9 rfl ?_
          refine r_iload_n 10 rfl rfl ?_
          refine r_iadd 11 rfl ?_
          refine r_iaload 12 rfl (hp_at rfl) (by decide) (by omega) (by omega) ?_
          refine r_iload_n 13 rfl rfl ?_
          refine r_icmp_eq (t := 28) 14 rfl (by decide) (by first | exact hA _ _ | exact ⟨by decide, by decide⟩ | assumption | exact ⟨by omega, by omega⟩) (by first | exact hA _ _ | exact ⟨by decide, by decide⟩ | assumption | exact ⟨by omega, by omega⟩) (fun c_19 => ?_) (fun c_19 => by omega)
          refine r_iload_n 17 rfl rfl ?_
          refine r_iret 18 rfl rfl rfl ?_
          exact hq
        · have hne := hu i i0 (by omega)
          refine r_iload_n 2 rfl rfl ?_
          refine r_iconst 3 rfl ?_
          refine r_icmp_ge (t := 28) 4 rfl (by decide) (by first | exact hA _ _ | exact ⟨by decide, by decide⟩ | assumption | exact ⟨by omega, by omega⟩) (by first | exact hA _ _ | exact ⟨by decide, by decide⟩ | assumption | exact ⟨by omega, by omega⟩) (fun c_4 => by omega) (fun c_4 => ?_)
          refine r_aload_n 5 rfl rfl ?_
          refine r_get 6 rfl f_T_23 (hp_at rfl) rfl ?_
          refine r_bipush 7 rfl rfl ?_
          refine r_iload_n 8 rfl rfl ?_
          refine r_imul 9 rfl ?_
          refine r_iload_n 10 rfl rfl ?_
          refine r_iadd 11 rfl ?_
          refine r_iaload 12 rfl (hp_at rfl) (by decide) (by omega) (by omega) ?_
          refine r_iload_n 13 rfl rfl ?_
          refine r_icmp_eq (t := 28) 14 rfl (by decide) (by first | exact hA _ _ | exact ⟨by decide, by decide⟩ | assumption | exact ⟨by omega, by omega⟩) (by first | exact hA _ _ | exact ⟨by decide, by decide⟩ | assumption | exact ⟨by omega, by omega⟩) (fun c_19 => by omega) (fun c_19 => ?_)
          refine r_iinc 15 rfl rfl ?_
          refine r_goto (t := 2) 16 rfl (by decide) ?_
          exact ih _ (by omega) (by omega) (by omega)
  refine r_iconst 0 rfl ?_
  refine r_istore_n 1 rfl (Nat.le_of_ble_eq_true rfl) ?_
  exact loop 7 0 (by omega) (by omega) (by omega)
def ltF (A : Nat → Int → Int) (a b : Int) : Nat → Int → Int := au (au (frF (au (au A 119 (A 100 18) a) 120 (A 100 18) b) (A 105 a) (A 106 a)) 121 (A 100 18) (A 100 4)) 100 18 (A 100 18 + 1)
theorem c_T_later {a b : Int} (hA : rga A) (a0 : 0 ≤ a) (a1 : a < 300) (hb : rg b) (p0 : 0 ≤ A 100 18) (p1 : A 100 18 < 300) (u0 : 0 ≤ A 100 4) (u1 : A 100 4 < 300) (hq : Q (.returned (some (iv (A 100 4)))) (hp K.n (ltF A a b) R g t u)) : mx K M_T_later (d + 1) [.ref (xa K.n 32), iv a, iv b] (hp K.n A R g t u) Q := by
  unfold ltF at hq
  have ha : rg a := ⟨by omega, by omega⟩
  have e18 : frF (au (au A 119 (A 100 18) a) 120 (A 100 18) b) (A 105 a) (A 106 a) 100 18 = A 100 18 := by rw [fr_sc _ _ _ (by decide), au_ne _ _ _ _ (by decide), au_ne _ _ _ _ (by decide)]
  refine mx_in ok_T_later rfl (Nat.le_of_ble_eq_true rfl) ?_
  refine r_aload_n 0 rfl rfl ?_
  refine r_get 1 rfl f_T_44 (hp_at rfl) rfl ?_
  refine r_aload_n 2 rfl rfl ?_
  refine r_get 3 rfl f_T_166 (hp_at rfl) rfl ?_
  try simp +decide only [au_ne, au_same, au_ni, fil_ne]
  refine r_iload_n 4 rfl rfl ?_
  refine r_iastore 5 rfl (hp_at rfl) (by decide) (by omega) (by omega) ?_
  rw [ws_119]
  refine r_aload_n 6 rfl rfl ?_
  refine r_get 7 rfl f_T_47 (hp_at rfl) rfl ?_
  refine r_aload_n 8 rfl rfl ?_
  refine r_get 9 rfl f_T_166 (hp_at rfl) rfl ?_
  try simp +decide only [au_ne, au_same, au_ni, fil_ne]
  refine r_iload_n 10 rfl rfl ?_
  refine r_iastore 11 rfl (hp_at rfl) (by decide) (by omega) (by omega) ?_
  rw [ws_120]
  refine r_aload_n 12 rfl rfl ?_
  refine r_get 13 rfl f_T_50 (hp_at rfl) rfl ?_
  refine r_aload_n 14 rfl rfl ?_
  refine r_get 15 rfl f_T_166 (hp_at rfl) rfl ?_
  try simp +decide only [au_ne, au_same, au_ni, fil_ne]
  refine r_aload_n 16 rfl rfl ?_
  refine r_aload_n 17 rfl rfl ?_
  refine r_get 18 rfl f_T_13 (hp_at rfl) rfl ?_
  refine r_iload_n 19 rfl rfl ?_
  refine r_iaload 20 rfl (hp_at rfl) (by decide) (by omega) (by omega) ?_
  try simp +decide only [au_ne, au_same, au_ni, fil_ne]
  refine r_aload_n 21 rfl rfl ?_
  refine r_get 22 rfl f_T_17 (hp_at rfl) rfl ?_
  refine r_iload_n 23 rfl rfl ?_
  refine r_iaload 24 rfl (hp_at rfl) (by decide) (by omega) (by omega) ?_
  try simp +decide only [au_ne, au_same, au_ni, fil_ne]
  refine r_callv2 25 rfl l_T_142 (hp_at rfl) (Nat.le_of_ble_eq_true rfl) ?_
  refine c_T_fresh (rga_au (rga_au hA ha) hb) (hA _ _) (hA _ _) (by rw [au_ne _ _ _ _ (by decide), au_ne _ _ _ _ (by decide)]; exact u0) (by rw [au_ne _ _ _ _ (by decide), au_ne _ _ _ _ (by decide)]; exact u1) (cp1 ?_)
  rw [au_ne _ _ _ _ (by decide), au_ne _ _ _ _ (by decide)]
  refine r_iastore 26 rfl (hp_at rfl) (by decide) (by omega) (by omega) ?_
  rw [ws_121]
  refine r_aload_n 27 rfl rfl ?_
  refine r_dup 28 rfl rfl ?_
  refine r_get 29 rfl f_T_166 (hp_at rfl) rfl ?_
  try simp +decide only [au_ne, au_same, au_ni, fil_ne]
  rw [e18]
  refine r_iconst 30 rfl ?_
  refine r_iadd 31 rfl ?_
  refine r_put 32 rfl f_T_166 (hp_at rfl) rfl rfl ?_
  rw [wT_18]
  refine r_aload_n 33 rfl rfl ?_
  refine r_get 34 rfl f_T_50 (hp_at rfl) rfl ?_
  refine r_aload_n 35 rfl rfl ?_
  refine r_get 36 rfl f_T_166 (hp_at rfl) rfl ?_
  try simp +decide only [au_ne, au_same, au_ni, fil_ne]
  refine r_iconst 37 rfl ?_
  refine r_isub 38 rfl ?_
  rw [show A 100 18 + 1 - 1 = A 100 18 by omega]
  refine r_iaload 39 rfl (hp_at rfl) (by decide) (by omega) (by omega) ?_
  try simp +decide only [au_ne, au_same, au_ni, fil_ne]
  refine r_iret 40 rfl rfl rfl ?_
  exact hq
/-- climbing while above n -/
def clb (A : Nat → Int → Int) (n : Int) : Nat → Int → Int
  | 0, a => a
  | f + 1, a => if n < a then clb A n f (A 111 a) else a
theorem c_T_isBelow {k n : Int} (hA : rga A) (hk0 : -1 ≤ k) (hk : k < 300) (n0 : 0 ≤ n) (n1 : n < 300) (hd : ∀ a, n < a → a ≤ k → -1 ≤ A 111 a ∧ A 111 a < a) (hq : ∀ f : Nat, k - n < (f : Int) → Q (.returned (some (iv (if clb A n f k = n then 1 else 0)))) (hp K.n A R g t u)) : mx K M_T_isBelow d [.ref (xa K.n 32), iv k, iv n] (hp K.n A R g t u) Q := by
  refine mx_in ok_T_isBelow rfl (Nat.le_of_ble_eq_true rfl) ?_
  have loop : ∀ (m : Nat) (a : Int), -1 ≤ a → a ≤ k → a - n < m → (∃ f : Nat, a - n < f ∧ ∀ z, clb A n f a = z → Q (.returned (some (iv (if z = n then 1 else 0)))) (hp K.n A R g t u)) → wx K M_T_isBelow d Q 2 [some (.ref (xa K.n 32)), some (iv k), some (iv n), some (iv a)] [] (hp K.n A R g t u) := by
    intro m
    induction m with
    | zero =>
      intro a a0 a1 a2 hz
      obtain ⟨f, hf, hz⟩ := hz
      have hz2 := hz a (by cases f with | zero => rfl | succ f => show (if n < a then _ else a) = a; rw [if_neg (by omega)])
      refine r_iload_n 2 rfl rfl ?_
      refine r_iload_n 3 rfl rfl ?_
      refine r_icmp_le (t := 17) 4 rfl (by decide) (by first | exact hA _ _ | exact ⟨by decide, by decide⟩ | assumption | exact ⟨by omega, by omega⟩) (by first | exact hA _ _ | exact ⟨by decide, by decide⟩ | assumption | exact ⟨by omega, by omega⟩) (fun c_4 => ?_) (fun c_4 => by omega)
      refine r_iload_n 11 rfl rfl ?_
      refine r_iload_n 12 rfl rfl ?_
      refine r_icmp_ne (t := 26) 13 rfl (by decide) (by first | exact hA _ _ | exact ⟨by decide, by decide⟩ | assumption | exact ⟨by omega, by omega⟩) (by first | exact hA _ _ | exact ⟨by decide, by decide⟩ | assumption | exact ⟨by omega, by omega⟩) (fun c_19 => ?_) (fun c_19 => ?_)
      · refine r_iconst 16 rfl ?_
        refine r_iret 17 rfl rfl (by first | rfl | assumption) ?_
        exact q_v hz2 (by first | rw [if_pos (by omega)] | rw [if_neg (by omega)])
      · refine r_iconst 14 rfl ?_
        refine r_goto (t := 27) 15 rfl (by decide) ?_
        refine r_iret 17 rfl rfl (by first | rfl | assumption) ?_
        exact q_v hz2 (by first | rw [if_pos (by omega)] | rw [if_neg (by omega)])
    | succ m ih =>
      intro a a0 a1 a2 hz
      obtain ⟨f, hf, hz⟩ := hz
      by_cases hn : n < a
      · have hda := hd a hn a1
        cases f with
        | zero => exact absurd hf (by omega)
        | succ f =>
          refine r_iload_n 2 rfl rfl ?_
          refine r_iload_n 3 rfl rfl ?_
          refine r_icmp_le (t := 17) 4 rfl (by decide) (by first | exact hA _ _ | exact ⟨by decide, by decide⟩ | assumption | exact ⟨by omega, by omega⟩) (by first | exact hA _ _ | exact ⟨by decide, by decide⟩ | assumption | exact ⟨by omega, by omega⟩) (fun c_4 => by omega) (fun c_4 => ?_)
          refine r_aload_n 5 rfl rfl ?_
          refine r_get 6 rfl f_T_32 (hp_at rfl) rfl ?_
          refine r_iload_n 7 rfl rfl ?_
          refine r_iaload 8 rfl (hp_at rfl) (by decide) (by omega) (by omega) ?_
          refine r_istore_n 9 rfl (Nat.le_of_ble_eq_true rfl) ?_
          refine r_goto (t := 2) 10 rfl (by decide) ?_
          exact ih _ (by omega) (by omega) (by omega) ⟨f, by omega, fun z h => hz z (by show (if n < a then _ else a) = z; rw [if_pos hn]; exact h)⟩
      · have hz2 := hz a (by cases f with | zero => rfl | succ f => show (if n < a then _ else a) = a; rw [if_neg (by omega)])
        refine r_iload_n 2 rfl rfl ?_
        refine r_iload_n 3 rfl rfl ?_
        refine r_icmp_le (t := 17) 4 rfl (by decide) (by first | exact hA _ _ | exact ⟨by decide, by decide⟩ | assumption | exact ⟨by omega, by omega⟩) (by first | exact hA _ _ | exact ⟨by decide, by decide⟩ | assumption | exact ⟨by omega, by omega⟩) (fun c_4 => ?_) (fun c_4 => by omega)
        refine r_iload_n 11 rfl rfl ?_
        refine r_iload_n 12 rfl rfl ?_
        refine r_icmp_ne (t := 26) 13 rfl (by decide) (by first | exact hA _ _ | exact ⟨by decide, by decide⟩ | assumption | exact ⟨by omega, by omega⟩) (by first | exact hA _ _ | exact ⟨by decide, by decide⟩ | assumption | exact ⟨by omega, by omega⟩) (fun c_19 => ?_) (fun c_19 => ?_)
        · refine r_iconst 16 rfl ?_
          refine r_iret 17 rfl rfl (by first | rfl | assumption) ?_
          exact q_v hz2 (by first | rw [if_pos (by omega)] | rw [if_neg (by omega)])
        · refine r_iconst 14 rfl ?_
          refine r_goto (t := 27) 15 rfl (by decide) ?_
          refine r_iret 17 rfl rfl (by first | rfl | assumption) ?_
          exact q_v hz2 (by first | rw [if_pos (by omega)] | rw [if_neg (by omega)])
  refine r_iload_n 0 rfl rfl ?_
  refine r_istore_n 1 rfl (Nat.le_of_ble_eq_true rfl) ?_
  exact loop (k - n + 1).toNat k (by omega) (by omega) (by omega) ⟨(k - n + 1).toNat, by omega, fun z h => by rw [← h]; exact hq _ (by omega)⟩
/-- what is above a place, from the innermost on -/
def anc (A : Nat → Int → Int) : Int → List Int → Prop
  | k, [] => A 111 k < 0
  | k, a :: L => A 111 k = a ∧ 0 ≤ a ∧ a < 300 ∧ anc A a L
def ancs (A : Nat → Int → Int) (a : Int) : List Int → Prop
  | [] => a < 0
  | b :: L => a = b ∧ 0 ≤ a ∧ a < 300 ∧ anc A a L
theorem anc_s {A : Nat → Int → Int} {k : Int} {L : List Int} (h : anc A k L) : ancs A (A 111 k) L := by
  cases L with
  | nil => exact h
  | cons b L' => obtain ⟨q1, q2, q3, q4⟩ := h; exact ⟨q1, by rw [q1]; exact q2, by rw [q1]; exact q3, by rw [q1]; exact q4⟩
def bnd (A : Nat → Int → Int) (v : Int) : List Int → Int
  | [] => -1
  | a :: L => if A 105 a = 2 ∧ A 106 a = v then a else bnd A v L
theorem c_T_boundAt {k : Int} {L : List Int} (hA : rga A) (hk0 : 0 ≤ k) (hk : k < 300) (hL : anc A k L) (hq : ∀ x, (x = bnd A (A 106 k) L ∨ x < 0 ∧ bnd A (A 106 k) L < 0) → rg x → Q (.returned (some (iv x))) (hp K.n A R g t u)) : mx K M_T_boundAt d [.ref (xa K.n 32), iv k] (hp K.n A R g t u) Q := by
  refine mx_in ok_T_boundAt rfl (Nat.le_of_ble_eq_true rfl) ?_
  have loop : ∀ (L : List Int) (a : Int), ancs A a L → rg a → (∀ x, (x = bnd A (A 106 k) L ∨ x < 0 ∧ bnd A (A 106 k) L < 0) → rg x → Q (.returned (some (iv x))) (hp K.n A R g t u)) → wx K M_T_boundAt d Q 7 [some (.ref (xa K.n 32)), some (iv k), some (iv a)] [] (hp K.n A R g t u) := by
    intro L
    induction L with
    | nil =>
      intro a ha hr hq
      replace ha : a < 0 := ha
      refine r_iload_n 5 rfl rfl ?_
      refine r_if_lt (t := 46) 6 rfl (by decide) (by first | exact hA _ _ | exact ⟨by decide, by decide⟩ | assumption | exact ⟨by omega, by omega⟩) (fun c_8 => ?_) (fun c_8 => by omega)
      refine r_iload_n 28 rfl rfl ?_
      refine r_iret 29 rfl rfl rfl ?_
      exact hq a (Or.inr ⟨ha, by show (-1 : Int) < 0; decide⟩) hr
    | cons b L ih =>
      intro a ha hr hq
      obtain ⟨h1, h2, h3, h4⟩ := ha
      subst h1
      have hnx := anc_s h4
      by_cases hm : A 105 a = 2 ∧ A 106 a = A 106 k
      · have e : bnd A (A 106 k) (a :: L) = a := if_pos hm
        refine r_iload_n 5 rfl rfl ?_
        refine r_if_lt (t := 46) 6 rfl (by decide) (by first | exact hA _ _ | exact ⟨by decide, by decide⟩ | assumption | exact ⟨by omega, by omega⟩) (fun c_8 => by omega) (fun c_8 => ?_)
        refine r_aload_n 7 rfl rfl ?_
        refine r_get 8 rfl f_T_13 (hp_at rfl) rfl ?_
        refine r_iload_n 9 rfl rfl ?_
        refine r_iaload 10 rfl (hp_at rfl) (by decide) (by omega) (by omega) ?_
        refine r_iconst 11 rfl ?_
        refine r_icmp_ne (t := 36) 12 rfl (by decide) (by first | exact hA _ _ | exact ⟨by decide, by decide⟩ | assumption | exact ⟨by omega, by omega⟩) (by first | exact hA _ _ | exact ⟨by decide, by decide⟩ | assumption | exact ⟨by omega, by omega⟩) (fun c_18 => by omega) (fun c_18 => ?_)
        refine r_aload_n 13 rfl rfl ?_
        refine r_get 14 rfl f_T_17 (hp_at rfl) rfl ?_
        refine r_iload_n 15 rfl rfl ?_
        refine r_iaload 16 rfl (hp_at rfl) (by decide) (by omega) (by omega) ?_
        refine r_aload_n 17 rfl rfl ?_
        refine r_get 18 rfl f_T_17 (hp_at rfl) rfl ?_
        refine r_iload_n 19 rfl rfl ?_
        refine r_iaload 20 rfl (hp_at rfl) (by decide) (by omega) (by omega) ?_
        refine r_icmp_eq (t := 46) 21 rfl (by decide) (by first | exact hA _ _ | exact ⟨by decide, by decide⟩ | assumption | exact ⟨by omega, by omega⟩) (by first | exact hA _ _ | exact ⟨by decide, by decide⟩ | assumption | exact ⟨by omega, by omega⟩) (fun c_33 => ?_) (fun c_33 => by omega)
        refine r_iload_n 28 rfl rfl ?_
        refine r_iret 29 rfl rfl rfl ?_
        exact hq a (Or.inl e.symm) hr
      · have e : bnd A (A 106 k) (a :: L) = bnd A (A 106 k) L := if_neg hm
        rw [e] at hq
        have go36 : wx K M_T_boundAt d Q 36 [some (.ref (xa K.n 32)), some (iv k), some (iv a)] [] (hp K.n A R g t u) := by
          refine r_aload_n 22 rfl rfl ?_
          refine r_get 23 rfl f_T_32 (hp_at rfl) rfl ?_
          refine r_iload_n 24 rfl rfl ?_
          refine r_iaload 25 rfl (hp_at rfl) (by decide) (by omega) (by omega) ?_
          refine r_istore_n 26 rfl (Nat.le_of_ble_eq_true rfl) ?_
          refine r_goto (t := 7) 27 rfl (by decide) ?_
          exact ih _ hnx (hA _ _) hq
        refine r_iload_n 5 rfl rfl ?_
        refine r_if_lt (t := 46) 6 rfl (by decide) (by first | exact hA _ _ | exact ⟨by decide, by decide⟩ | assumption | exact ⟨by omega, by omega⟩) (fun c_8 => by omega) (fun c_8 => ?_)
        refine r_aload_n 7 rfl rfl ?_
        refine r_get 8 rfl f_T_13 (hp_at rfl) rfl ?_
        refine r_iload_n 9 rfl rfl ?_
        refine r_iaload 10 rfl (hp_at rfl) (by decide) (by omega) (by omega) ?_
        refine r_iconst 11 rfl ?_
        refine r_icmp_ne (t := 36) 12 rfl (by decide) (by first | exact hA _ _ | exact ⟨by decide, by decide⟩ | assumption | exact ⟨by omega, by omega⟩) (by first | exact hA _ _ | exact ⟨by decide, by decide⟩ | assumption | exact ⟨by omega, by omega⟩) (fun c_18 => ?_) (fun c_18 => ?_)
        · exact go36
        · refine r_aload_n 13 rfl rfl ?_
          refine r_get 14 rfl f_T_17 (hp_at rfl) rfl ?_
          refine r_iload_n 15 rfl rfl ?_
          refine r_iaload 16 rfl (hp_at rfl) (by decide) (by omega) (by omega) ?_
          refine r_aload_n 17 rfl rfl ?_
          refine r_get 18 rfl f_T_17 (hp_at rfl) rfl ?_
          refine r_iload_n 19 rfl rfl ?_
          refine r_iaload 20 rfl (hp_at rfl) (by decide) (by omega) (by omega) ?_
          refine r_icmp_eq (t := 46) 21 rfl (by decide) (by first | exact hA _ _ | exact ⟨by decide, by decide⟩ | assumption | exact ⟨by omega, by omega⟩) (by first | exact hA _ _ | exact ⟨by decide, by decide⟩ | assumption | exact ⟨by omega, by omega⟩) (fun c_33 => by omega) (fun c_33 => ?_)
          exact go36
  refine r_aload_n 0 rfl rfl ?_
  refine r_get 1 rfl f_T_32 (hp_at rfl) rfl ?_
  refine r_iload_n 2 rfl rfl ?_
  refine r_iaload 3 rfl (hp_at rfl) (by decide) (by omega) (by omega) ?_
  refine r_istore_n 4 rfl (Nat.le_of_ble_eq_true rfl) ?_
  exact loop L _ (anc_s hL) (hA _ _) hq
/-- touches: e the end of what is below n; P: bound outside -/
theorem c_T_touches {n r e : Int} {P : Int → Prop} (hA : rga A) (n0 : 0 ≤ n) (hr : rg r) (hG : A 100 12 ≤ 30) (he : n < e) (heG : e ≤ A 100 12)
    (hW : ∀ k, n ≤ k → k < e → A 105 k = 5 → 0 ≤ A 106 k)
    (hd : ∀ a, n < a → a < A 100 12 → -1 ≤ A 111 a ∧ A 111 a < a) (hin : ∀ a, n < a → a < e → n ≤ A 111 a) (hout : ∀ a, e ≤ a → a < A 100 12 → A 111 a < n ∨ e ≤ A 111 a)
    (hb : ∀ k, n ≤ k → k < e → A 105 k = 1 → ∃ L, anc A k L ∧ (bnd A (A 106 k) L < n ↔ P k))
    (hy : (∃ k, n ≤ k ∧ k < e ∧ (A 105 k = 5 ∧ (A 106 k % 4 = r ∨ A 106 k / 4 = r) ∨ A 105 k = 1 ∧ P k)) → Q (.returned (some (iv 1))) (hp K.n A R g t u))
    (hn : (¬ ∃ k, n ≤ k ∧ k < e ∧ (A 105 k = 5 ∧ (A 106 k % 4 = r ∨ A 106 k / 4 = r) ∨ A 105 k = 1 ∧ P k)) → Q (.returned (some (iv 0))) (hp K.n A R g t u)) : mx K M_T_touches (d + 1) [.ref (xa K.n 32), iv n, iv r] (hp K.n A R g t u) Q := by
  have c1 : ∀ (f : Nat) (a : Int), n ≤ a → a < e → a - n < f → clb A n f a = n := by
    intro f
    induction f with
    | zero => intro a a0 a1 a2; omega
    | succ f ih =>
      intro a a0 a1 a2
      show (if n < a then _ else a) = n
      split
      · exact ih _ (hin a (by omega) a1) (by have := hd a (by omega) (by omega); omega) (by have := hd a (by omega) (by omega); omega)
      · omega
  have c2 : ∀ (f : Nat) (a : Int), e ≤ a ∨ a < n → a < A 100 12 → a - n < f → clb A n f a ≠ n := by
    intro f
    induction f with
    | zero => intro a a0 a1 a2; show a ≠ n; omega
    | succ f ih =>
      intro a a0 a1 a2
      show (if n < a then _ else a) ≠ n
      split
      · have h1 := hd a (by omega) (by omega)
        have h2 := hout a (by omega) a1
        exact ih _ (by omega) (by omega) (by omega)
      · omega
  have fin : ∀ (k : Int), e ≤ k → ∀ s : Int, (s = 0 ∨ s = 1) → (s = 1 ↔ ∃ k', n ≤ k' ∧ k' < e ∧ k' < k ∧ (A 105 k' = 5 ∧ (A 106 k' % 4 = r ∨ A 106 k' / 4 = r) ∨ A 105 k' = 1 ∧ P k')) → Q (.returned (some (iv s))) (hp K.n A R g t u) := by
    intro k hk s hs hi
    rcases hs with rfl | rfl
    · refine hn (fun ⟨k', h1, h2, h3⟩ => ?_)
      have := hi.mpr ⟨k', h1, h2, by omega, h3⟩
      omega
    · obtain ⟨k', h1, h2, h3, h4⟩ := hi.mp rfl
      exact hy ⟨k', h1, h2, h4⟩
  refine mx_in ok_T_touches rfl (Nat.le_of_ble_eq_true rfl) ?_
  have loop : ∀ (m : Nat) (k s : Int) (l5 : Option Value), n ≤ k → k ≤ A 100 12 → A 100 12 - k < m → (s = 0 ∨ s = 1) → (s = 1 ↔ ∃ k', n ≤ k' ∧ k' < e ∧ k' < k ∧ (A 105 k' = 5 ∧ (A 106 k' % 4 = r ∨ A 106 k' / 4 = r) ∨ A 105 k' = 1 ∧ P k')) → (∀ v, l5 = some v → v.category = 1) → wx K M_T_touches (d + 1) Q 5 [some (.ref (xa K.n 32)), some (iv n), some (iv r), some (iv s), some (iv k), l5] [] (hp K.n A R g t u) := by
    intro m
    induction m with
    | zero => intro k s l5 a0 a1 a2; omega
    | succ m ih =>
      intro k s l5 a0 a1 a2 hs hi hl5
      have hsr : rg s := by rcases hs with rfl | rfl <;> exact ⟨by decide, by decide⟩
      have hsn : narrow .boolean (iv s) = iv s := by rcases hs with rfl | rfl <;> rfl
      by_cases hkG : k = A 100 12
      · refine r_iload 4 rfl rfl ?_
        refine r_aload_n 5 rfl rfl ?_
        refine r_get 6 rfl f_T_156 (hp_at rfl) rfl ?_
        refine r_icmp_ge (t := 131) 7 rfl (by decide) (by first | exact hA _ _ | exact ⟨by decide, by decide⟩ | assumption | exact ⟨by omega, by omega⟩) (by first | exact hA _ _ | exact ⟨by decide, by decide⟩ | assumption | exact ⟨by omega, by omega⟩) (fun c_11 => ?_) (fun c_11 => by omega)
        refine r_iload_n 71 rfl rfl ?_
        refine r_iret 72 rfl rfl (by first | rfl | assumption) ?_
        exact fin k (by omega) s hs hi
      have hkd : n < k → -1 ≤ A 111 k ∧ A 111 k < k := fun h => hd k h (by omega)
      -- outside
      by_cases hke : e ≤ k
      · have hno : ∀ f : Nat, k - n < (f : Int) → clb A n f k ≠ n := fun f hf => c2 f k (Or.inl hke) (by omega) hf
        have hnx : s = 1 ↔ ∃ k', n ≤ k' ∧ k' < e ∧ k' < k + 1 ∧ (A 105 k' = 5 ∧ (A 106 k' % 4 = r ∨ A 106 k' / 4 = r) ∨ A 105 k' = 1 ∧ P k') := by
          rw [hi]
          exact ⟨fun ⟨k', h1, h2, h3, h4⟩ => ⟨k', h1, h2, by omega, h4⟩, fun ⟨k', h1, h2, h3, h4⟩ => ⟨k', h1, h2, by omega, h4⟩⟩
        refine r_iload 4 rfl rfl ?_
        refine r_aload_n 5 rfl rfl ?_
        refine r_get 6 rfl f_T_156 (hp_at rfl) rfl ?_
        refine r_icmp_ge (t := 131) 7 rfl (by decide) (by first | exact hA _ _ | exact ⟨by decide, by decide⟩ | assumption | exact ⟨by omega, by omega⟩) (by first | exact hA _ _ | exact ⟨by decide, by decide⟩ | assumption | exact ⟨by omega, by omega⟩) (fun c_11 => by omega) (fun c_11 => ?_)
        refine r_iload 8 rfl rfl ?_
        refine r_iload_n 9 rfl rfl ?_
        refine r_icmp_eq (t := 30) 10 rfl (by decide) (by first | exact hA _ _ | exact ⟨by decide, by decide⟩ | assumption | exact ⟨by omega, by omega⟩) (by first | exact hA _ _ | exact ⟨by decide, by decide⟩ | assumption | exact ⟨by omega, by omega⟩) (fun c_17 => by omega) (fun c_17 => ?_)
        refine r_aload_n 11 rfl rfl ?_
        refine r_iload 12 rfl rfl ?_
        refine r_iload_n 13 rfl rfl ?_
        refine r_callv2 14 rfl l_T_159 (hp_at rfl) (Nat.le_of_ble_eq_true rfl) ?_
        refine c_T_isBelow hA (by omega) (by omega) n0 (by omega) (fun a h1 h2 => hd a h1 (by omega)) (fun f hf => cp1 ?_)
        rw [if_neg (hno f hf)]
        refine r_if_eq (t := 34) 15 rfl (by decide) (by first | exact hA _ _ | exact ⟨by decide, by decide⟩ | assumption | exact ⟨by omega, by omega⟩) (fun c_27 => ?_) (fun c_27 => by omega)
        refine r_iconst 18 rfl ?_
        refine r_istore 19 rfl (Nat.le_of_ble_eq_true rfl) ?_
        refine r_iload 20 rfl rfl ?_
        refine r_if_eq (t := 89) 21 rfl (by decide) (by first | exact hA _ _ | exact ⟨by decide, by decide⟩ | assumption | exact ⟨by omega, by omega⟩) (fun c_39 => ?_) (fun c_39 => by omega)
        refine r_iload 50 rfl rfl ?_
        refine r_if_eq (t := 125) 51 rfl (by decide) (by first | exact hA _ _ | exact ⟨by decide, by decide⟩ | assumption | exact ⟨by omega, by omega⟩) (fun c_91 => ?_) (fun c_91 => by omega)
        refine r_iinc 69 rfl rfl ?_
        refine r_goto (t := 5) 70 rfl (by decide) ?_
        exact ih _ _ _ (by omega) (by omega) (by omega) hs hnx (fun v h => by cases h; rfl)
      -- inside: from 42 on
      have hyes : ∀ f : Nat, k - n < (f : Int) → clb A n f k = n := fun f hf => c1 f k a0 (by omega) hf
      have step : ∀ (s' : Int), (s' = 0 ∨ s' = 1) → (s' = 1 ↔ s = 1 ∨ (A 105 k = 5 ∧ (A 106 k % 4 = r ∨ A 106 k / 4 = r) ∨ A 105 k = 1 ∧ P k)) → wx K M_T_touches (d + 1) Q 125 [some (.ref (xa K.n 32)), some (iv n), some (iv r), some (iv s'), some (iv k), some (iv 1)] [] (hp K.n A R g t u) := by
        intro s' hs' hi'
        have hnx : s' = 1 ↔ ∃ k', n ≤ k' ∧ k' < e ∧ k' < k + 1 ∧ (A 105 k' = 5 ∧ (A 106 k' % 4 = r ∨ A 106 k' / 4 = r) ∨ A 105 k' = 1 ∧ P k') := by
          rw [hi', hi]
          constructor
          · rintro (⟨k', h1, h2, h3, h4⟩ | h)
            · exact ⟨k', h1, h2, by omega, h4⟩
            · exact ⟨k, a0, by omega, by omega, h⟩
          · rintro ⟨k', h1, h2, h3, h4⟩
            by_cases hkk : k' = k
            · subst hkk; exact Or.inr h4
            · exact Or.inl ⟨k', h1, h2, by omega, h4⟩
        refine r_iinc 69 rfl rfl ?_
        refine r_goto (t := 5) 70 rfl (by decide) ?_
        exact ih _ _ _ (by omega) (by omega) (by omega) hs' hnx (fun v h => by cases h; rfl)
      have go37 : wx K M_T_touches (d + 1) Q 37 [some (.ref (xa K.n 32)), some (iv n), some (iv r), some (iv s), some (iv k), some (iv 1)] [] (hp K.n A R g t u) := by
        by_cases h5 : A 105 k = 5
        · have hw := hW k a0 (by omega) h5
          have hwr := (hA 106 k).2
          have go89 : ∀ s' : Int, (s' = 0 ∨ s' = 1) → (s' = 1 ↔ s = 1 ∨ (A 106 k % 4 = r ∨ A 106 k / 4 = r)) → wx K M_T_touches (d + 1) Q 89 [some (.ref (xa K.n 32)), some (iv n), some (iv r), some (iv s'), some (iv k), some (iv 1)] [] (hp K.n A R g t u) := by
            intro s' hs' hi'
            refine r_iload 50 rfl rfl ?_
            refine r_if_eq (t := 125) 51 rfl (by decide) (by first | exact hA _ _ | exact ⟨by decide, by decide⟩ | assumption | exact ⟨by omega, by omega⟩) (fun c_91 => by omega) (fun c_91 => ?_)
            refine r_aload_n 52 rfl rfl ?_
            refine r_get 53 rfl f_T_13 (hp_at rfl) rfl ?_
            refine r_iload 54 rfl rfl ?_
            refine r_iaload 55 rfl (hp_at rfl) (by decide) (by omega) (by omega) ?_
            refine r_iconst 56 rfl ?_
            refine r_icmp_ne (t := 125) 57 rfl (by decide) (by first | exact hA _ _ | exact ⟨by decide, by decide⟩ | assumption | exact ⟨by omega, by omega⟩) (by first | exact hA _ _ | exact ⟨by decide, by decide⟩ | assumption | exact ⟨by omega, by omega⟩) (fun c_102 => ?_) (fun c_102 => by omega)
            exact step s' hs' (by rw [hi']; constructor; (rintro (h | h); exact Or.inl h; exact Or.inr (Or.inl ⟨h5, h⟩)); (rintro (h | h | h); exact Or.inl h; exact Or.inr h.2; omega))
          refine r_iload 20 rfl rfl ?_
          refine r_if_eq (t := 89) 21 rfl (by decide) (by first | exact hA _ _ | exact ⟨by decide, by decide⟩ | assumption | exact ⟨by omega, by omega⟩) (fun c_39 => by omega) (fun c_39 => ?_)
          refine r_aload_n 22 rfl rfl ?_
          refine r_get 23 rfl f_T_13 (hp_at rfl) rfl ?_
          refine r_iload 24 rfl rfl ?_
          refine r_iaload 25 rfl (hp_at rfl) (by decide) (by omega) (by omega) ?_
          refine r_iconst 26 rfl ?_
          refine r_icmp_ne (t := 89) 27 rfl (by decide) (by first | exact hA _ _ | exact ⟨by decide, by decide⟩ | assumption | exact ⟨by omega, by omega⟩) (by first | exact hA _ _ | exact ⟨by decide, by decide⟩ | assumption | exact ⟨by omega, by omega⟩) (fun c_50 => by omega) (fun c_50 => ?_)
          refine r_iload_n 28 rfl rfl ?_
          refine r_if_ne (t := 83) 29 rfl (by decide) (by first | exact hA _ _ | exact ⟨by decide, by decide⟩ | assumption | exact ⟨by omega, by omega⟩) (fun c_54 => ?_) (fun c_54 => ?_)
          · refine r_iconst 46 rfl ?_
            refine r_goto (t := 88) 47 rfl (by decide) ?_
            refine r_istore_n 49 rfl (Nat.le_of_ble_eq_true rfl) ?_
            exact go89 1 (Or.inr rfl) ⟨fun _ => by omega, fun _ => rfl⟩
          · refine r_aload_n 30 rfl rfl ?_
            refine r_get 31 rfl f_T_17 (hp_at rfl) rfl ?_
            refine r_iload 32 rfl rfl ?_
            refine r_iaload 33 rfl (hp_at rfl) (by decide) (by omega) (by omega) ?_
            refine r_iconst 34 rfl ?_
            refine r_irem 35 rfl hw (by omega) (by decide) (by decide) ?_
            refine r_iload_n 36 rfl rfl ?_
            refine r_icmp_eq (t := 83) 37 rfl (by decide) (by first | exact hA _ _ | exact ⟨by decide, by decide⟩ | assumption | exact ⟨by omega, by omega⟩) (by first | exact hA _ _ | exact ⟨by decide, by decide⟩ | assumption | exact ⟨by omega, by omega⟩) (fun c_67 => ?_) (fun c_67 => ?_)
            · refine r_iconst 46 rfl ?_
              refine r_goto (t := 88) 47 rfl (by decide) ?_
              refine r_istore_n 49 rfl (Nat.le_of_ble_eq_true rfl) ?_
              exact go89 1 (Or.inr rfl) ⟨fun _ => by omega, fun _ => rfl⟩
            · refine r_aload_n 38 rfl rfl ?_
              refine r_get 39 rfl f_T_17 (hp_at rfl) rfl ?_
              refine r_iload 40 rfl rfl ?_
              refine r_iaload 41 rfl (hp_at rfl) (by decide) (by omega) (by omega) ?_
              refine r_iconst 42 rfl ?_
              refine r_idiv 43 rfl hw (by omega) (by decide) (by decide) ?_
              refine r_iload_n 44 rfl rfl ?_
              refine r_icmp_ne (t := 87) 45 rfl (by decide) (by first | exact hA _ _ | exact ⟨by decide, by decide⟩ | assumption | exact ⟨by omega, by omega⟩) (by first | exact hA _ _ | exact ⟨by decide, by decide⟩ | assumption | exact ⟨by omega, by omega⟩) (fun c_80 => ?_) (fun c_80 => ?_)
              · refine r_iconst 48 rfl ?_
                refine r_istore_n 49 rfl (Nat.le_of_ble_eq_true rfl) ?_
                exact go89 0 (Or.inl rfl) ⟨fun h => by omega, fun h => by omega⟩
              · refine r_iconst 46 rfl ?_
                refine r_goto (t := 88) 47 rfl (by decide) ?_
                refine r_istore_n 49 rfl (Nat.le_of_ble_eq_true rfl) ?_
                exact go89 1 (Or.inr rfl) ⟨fun _ => by omega, fun _ => rfl⟩
        · by_cases h1 : A 105 k = 1
          · obtain ⟨L, hL1, hL2⟩ := hb k a0 (by omega) h1
            refine r_iload 20 rfl rfl ?_
            refine r_if_eq (t := 89) 21 rfl (by decide) (by first | exact hA _ _ | exact ⟨by decide, by decide⟩ | assumption | exact ⟨by omega, by omega⟩) (fun c_39 => by omega) (fun c_39 => ?_)
            refine r_aload_n 22 rfl rfl ?_
            refine r_get 23 rfl f_T_13 (hp_at rfl) rfl ?_
            refine r_iload 24 rfl rfl ?_
            refine r_iaload 25 rfl (hp_at rfl) (by decide) (by omega) (by omega) ?_
            refine r_iconst 26 rfl ?_
            refine r_icmp_ne (t := 89) 27 rfl (by decide) (by first | exact hA _ _ | exact ⟨by decide, by decide⟩ | assumption | exact ⟨by omega, by omega⟩) (by first | exact hA _ _ | exact ⟨by decide, by decide⟩ | assumption | exact ⟨by omega, by omega⟩) (fun c_50 => ?_) (fun c_50 => by omega)
            refine r_iload 50 rfl rfl ?_
            refine r_if_eq (t := 125) 51 rfl (by decide) (by first | exact hA _ _ | exact ⟨by decide, by decide⟩ | assumption | exact ⟨by omega, by omega⟩) (fun c_91 => by omega) (fun c_91 => ?_)
            refine r_aload_n 52 rfl rfl ?_
            refine r_get 53 rfl f_T_13 (hp_at rfl) rfl ?_
            refine r_iload 54 rfl rfl ?_
            refine r_iaload 55 rfl (hp_at rfl) (by decide) (by omega) (by omega) ?_
            refine r_iconst 56 rfl ?_
            refine r_icmp_ne (t := 125) 57 rfl (by decide) (by first | exact hA _ _ | exact ⟨by decide, by decide⟩ | assumption | exact ⟨by omega, by omega⟩) (by first | exact hA _ _ | exact ⟨by decide, by decide⟩ | assumption | exact ⟨by omega, by omega⟩) (fun c_102 => by omega) (fun c_102 => ?_)
            refine r_iload_n 58 rfl rfl ?_
            refine r_if_ne (t := 119) 59 rfl (by decide) (by first | exact hA _ _ | exact ⟨by decide, by decide⟩ | assumption | exact ⟨by omega, by omega⟩) (fun c_106 => ?_) (fun c_106 => ?_)
            · refine r_iconst 65 rfl ?_
              refine r_goto (t := 124) 66 rfl (by decide) ?_
              refine r_istore_n 68 rfl (Nat.le_of_ble_eq_true rfl) ?_
              exact step 1 (Or.inr rfl) ⟨fun _ => by first | exact Or.inl (by omega) | exact Or.inr (Or.inr ⟨h1, hL2.mp (hxn.mp (by omega))⟩), fun _ => rfl⟩
            · refine r_aload_n 60 rfl rfl ?_
              refine r_iload 61 rfl rfl ?_
              refine r_callv1 62 rfl l_T_162 (hp_at rfl) (Nat.le_of_ble_eq_true rfl) ?_
              refine c_T_boundAt hA (by omega) (by omega) hL1 (fun x hx hxr => cp1 ?_)
              refine r_iload_n 63 rfl rfl ?_
              have hxn : x < n ↔ bnd A (A 106 k) L < n := by omega
              refine r_icmp_ge (t := 123) 64 rfl (by decide) (by first | exact hA _ _ | exact ⟨by decide, by decide⟩ | assumption | exact ⟨by omega, by omega⟩) (by first | exact hA _ _ | exact ⟨by decide, by decide⟩ | assumption | exact ⟨by omega, by omega⟩) (fun c_116 => ?_) (fun c_116 => ?_)
              · refine r_iconst 67 rfl ?_
                refine r_istore_n 68 rfl (Nat.le_of_ble_eq_true rfl) ?_
                exact step 0 (Or.inl rfl) ⟨fun h => absurd h (by decide), fun h => by rcases h with h | h | h; omega; omega; exact absurd (hxn.mpr (hL2.mpr h.2)) (by omega)⟩
              · refine r_iconst 65 rfl ?_
                refine r_goto (t := 124) 66 rfl (by decide) ?_
                refine r_istore_n 68 rfl (Nat.le_of_ble_eq_true rfl) ?_
                exact step 1 (Or.inr rfl) ⟨fun _ => by first | exact Or.inl (by omega) | exact Or.inr (Or.inr ⟨h1, hL2.mp (hxn.mp (by omega))⟩), fun _ => rfl⟩
          · refine r_iload 20 rfl rfl ?_
            refine r_if_eq (t := 89) 21 rfl (by decide) (by first | exact hA _ _ | exact ⟨by decide, by decide⟩ | assumption | exact ⟨by omega, by omega⟩) (fun c_39 => by omega) (fun c_39 => ?_)
            refine r_aload_n 22 rfl rfl ?_
            refine r_get 23 rfl f_T_13 (hp_at rfl) rfl ?_
            refine r_iload 24 rfl rfl ?_
            refine r_iaload 25 rfl (hp_at rfl) (by decide) (by omega) (by omega) ?_
            refine r_iconst 26 rfl ?_
            refine r_icmp_ne (t := 89) 27 rfl (by decide) (by first | exact hA _ _ | exact ⟨by decide, by decide⟩ | assumption | exact ⟨by omega, by omega⟩) (by first | exact hA _ _ | exact ⟨by decide, by decide⟩ | assumption | exact ⟨by omega, by omega⟩) (fun c_50 => ?_) (fun c_50 => by omega)
            refine r_iload 50 rfl rfl ?_
            refine r_if_eq (t := 125) 51 rfl (by decide) (by first | exact hA _ _ | exact ⟨by decide, by decide⟩ | assumption | exact ⟨by omega, by omega⟩) (fun c_91 => by omega) (fun c_91 => ?_)
            refine r_aload_n 52 rfl rfl ?_
            refine r_get 53 rfl f_T_13 (hp_at rfl) rfl ?_
            refine r_iload 54 rfl rfl ?_
            refine r_iaload 55 rfl (hp_at rfl) (by decide) (by omega) (by omega) ?_
            refine r_iconst 56 rfl ?_
            refine r_icmp_ne (t := 125) 57 rfl (by decide) (by first | exact hA _ _ | exact ⟨by decide, by decide⟩ | assumption | exact ⟨by omega, by omega⟩) (by first | exact hA _ _ | exact ⟨by decide, by decide⟩ | assumption | exact ⟨by omega, by omega⟩) (fun c_102 => ?_) (fun c_102 => by omega)
            exact step s hs ⟨fun h => Or.inl h, fun h => by rcases h with h | h | h; exact h; exact absurd h.1 h5; exact absurd h.1 h1⟩
      by_cases hkn : k = n
      · refine r_iload 4 rfl rfl ?_
        refine r_aload_n 5 rfl rfl ?_
        refine r_get 6 rfl f_T_156 (hp_at rfl) rfl ?_
        refine r_icmp_ge (t := 131) 7 rfl (by decide) (by first | exact hA _ _ | exact ⟨by decide, by decide⟩ | assumption | exact ⟨by omega, by omega⟩) (by first | exact hA _ _ | exact ⟨by decide, by decide⟩ | assumption | exact ⟨by omega, by omega⟩) (fun c_11 => by omega) (fun c_11 => ?_)
        refine r_iload 8 rfl rfl ?_
        refine r_iload_n 9 rfl rfl ?_
        refine r_icmp_eq (t := 30) 10 rfl (by decide) (by first | exact hA _ _ | exact ⟨by decide, by decide⟩ | assumption | exact ⟨by omega, by omega⟩) (by first | exact hA _ _ | exact ⟨by decide, by decide⟩ | assumption | exact ⟨by omega, by omega⟩) (fun c_17 => ?_) (fun c_17 => by omega)
        refine r_iconst 16 rfl ?_
        refine r_goto (t := 35) 17 rfl (by decide) ?_
        refine r_istore 19 rfl (Nat.le_of_ble_eq_true rfl) ?_
        exact go37
      · refine r_iload 4 rfl rfl ?_
        refine r_aload_n 5 rfl rfl ?_
        refine r_get 6 rfl f_T_156 (hp_at rfl) rfl ?_
        refine r_icmp_ge (t := 131) 7 rfl (by decide) (by first | exact hA _ _ | exact ⟨by decide, by decide⟩ | assumption | exact ⟨by omega, by omega⟩) (by first | exact hA _ _ | exact ⟨by decide, by decide⟩ | assumption | exact ⟨by omega, by omega⟩) (fun c_11 => by omega) (fun c_11 => ?_)
        refine r_iload 8 rfl rfl ?_
        refine r_iload_n 9 rfl rfl ?_
        refine r_icmp_eq (t := 30) 10 rfl (by decide) (by first | exact hA _ _ | exact ⟨by decide, by decide⟩ | assumption | exact ⟨by omega, by omega⟩) (by first | exact hA _ _ | exact ⟨by decide, by decide⟩ | assumption | exact ⟨by omega, by omega⟩) (fun c_17 => by omega) (fun c_17 => ?_)
        refine r_aload_n 11 rfl rfl ?_
        refine r_iload 12 rfl rfl ?_
        refine r_iload_n 13 rfl rfl ?_
        refine r_callv2 14 rfl l_T_159 (hp_at rfl) (Nat.le_of_ble_eq_true rfl) ?_
        refine c_T_isBelow hA (by omega) (by omega) n0 (by omega) (fun a h1 h2 => hd a h1 (by omega)) (fun f hf => cp1 ?_)
        rw [if_pos (hyes f hf)]
        refine r_if_eq (t := 34) 15 rfl (by decide) (by first | exact hA _ _ | exact ⟨by decide, by decide⟩ | assumption | exact ⟨by omega, by omega⟩) (fun c_27 => by omega) (fun c_27 => ?_)
        refine r_iconst 16 rfl ?_
        refine r_goto (t := 35) 17 rfl (by decide) ?_
        refine r_istore 19 rfl (Nat.le_of_ble_eq_true rfl) ?_
        exact go37
  refine r_iconst 0 rfl ?_
  refine r_istore_n 1 rfl (Nat.le_of_ble_eq_true rfl) ?_
  refine r_iload_n 2 rfl rfl ?_
  refine r_istore 3 rfl (Nat.le_of_ble_eq_true rfl) ?_
  exact loop (A 100 12 - n + 1).toNat n 0 none (by omega) (by omega) (by omega) (Or.inl rfl) ⟨fun h => by omega, fun ⟨k', h1, h2, h3, h4⟩ => by omega⟩ (fun v h => by cases h)
end TW32


/-! the twin: setAbove -/
section TW61
variable {K : xk} {M : xm} {d : Nat} {Q : Outcome → xh → Prop} {R : Nat → Int → Value} {g : Nat → Nat × List Value} {t u : Nat}
/-- c is below n, by label y -/
def isC (A : Nat → Int → Int) (n y : Int) : Prop := (A 105 n = 2 ∧ y = 0) ∨ (A 105 n ≠ 2 ∧ 0 < A 108 (6 * n + y))
def saI (A B : Nat → Int → Int) (e n l : Int) : Prop := (∀ j i, j ≠ 111 → B j i = A j i) ∧ rga B ∧ (∀ p y, 0 ≤ p → p < n → 0 ≤ y → y < 6 → isC A p y → B 111 (A 110 (6 * p + y)) = p) ∧ (∀ y, 0 ≤ y → y < l → isC A n y → B 111 (A 110 (6 * n + y)) = n) ∧ B 111 0 = A 111 0
theorem c_T_setAbove {A : Nat → Int → Int} {e : Int} (hA0 : rga A) (e0 : 0 ≤ e) (e1 : e ≤ 30) (hc : ∀ p y, 0 ≤ p → p < e → 0 ≤ y → y < 6 → isC A p y → p < A 110 (6 * p + y) ∧ A 110 (6 * p + y) < e)
    (hu : ∀ p y p' y', 0 ≤ p → p < e → 0 ≤ y → y < 6 → 0 ≤ p' → p' < e → 0 ≤ y' → y' < 6 → isC A p y → isC A p' y' → A 110 (6 * p + y) = A 110 (6 * p' + y') → p = p')
    (hq : ∀ A', (∀ j i, j ≠ 111 → A' j i = A j i) → rga A' → (∀ p y, 0 ≤ p → p < e → 0 ≤ y → y < 6 → isC A p y → A' 111 (A 110 (6 * p + y)) = p) → A' 111 0 = A 111 0 → Q (.returned none) (hp K.n A' R g t u)) :
    mx K M_T_setAbove d [.ref (xa K.n 32), iv 0, iv e] (hp K.n A R g t u) Q := by
  have inner : ∀ (c : Nat) (n l : Int) (B : Nat → Int → Int), 0 ≤ n → n < e → 0 ≤ l → l + c = 6 → saI A B e n l → (∀ C, saI A C e (n + 1) 0 → wx K M_T_setAbove d Q 2 [some (.ref (xa K.n 32)), some (iv 0), some (iv e), some (iv (n + 1)), none, none] [] (hp K.n C R g t u)) →
      wx K M_T_setAbove d Q 10 [some (.ref (xa K.n 32)), some (iv 0), some (iv e), some (iv n), some (iv l), none] [] (hp K.n B R g t u) := by
    intro c
    induction c with
    | zero =>
      intro n l B n0 n1 l0 hl hI hk
      have el : l = 6 := by omega
      subst el
      obtain ⟨f1, hA, f3, f4, f5⟩ := id hI
      have nx := hk B ⟨f1, hA, fun p y p0 p1 y0 y1 h => by
        by_cases ep : p = n
        · rw [ep] at h ⊢; exact f4 y y0 y1 h
        · exact f3 p y p0 (by omega) y0 y1 h, fun y y0 y1 => by omega, f5⟩
      have hnx : wx K M_T_setAbove d Q 2 [some (.ref (xa K.n 32)), some (iv 0), some (iv e), some (iv (n + 1)), some (iv 6), none] [] (hp K.n B R g t u) := wx_t (pre := [some (.ref (xa K.n 32)), some (iv 0), some (iv e), some (iv (n + 1))]) (tl := [some (iv 6), none]) nx
      refine r_iload 7 rfl rfl ?_
      refine r_bipush 8 rfl rfl ?_
      refine r_icmp_ge (t := 106) 9 rfl (by decide) (by first | exact hA _ _ | exact ⟨by decide, by decide⟩ | assumption | exact ⟨by omega, by omega⟩) (by first | exact hA _ _ | exact ⟨by decide, by decide⟩ | assumption | exact ⟨by omega, by omega⟩) (fun c_14 => ?_) (fun c_14 => by omega)
      refine r_iinc 60 rfl rfl ?_
      refine r_goto (t := 2) 61 rfl (by decide) ?_
      exact hnx
    | succ c ih =>
      intro n l B n0 n1 l0 hl hI hk
      obtain ⟨f1, hA, f3, f4, f5⟩ := id hI
      have b5 : B 105 n = A 105 n := f1 _ _ (by decide)
      have b8 : B 108 (6 * n + l) = A 108 (6 * n + l) := f1 _ _ (by decide)
      have b10 : B 110 (6 * n + l) = A 110 (6 * n + l) := f1 _ _ (by decide)
      have nx0 : ¬ isC A n l → wx K M_T_setAbove d Q 60 [some (.ref (xa K.n 32)), some (iv 0), some (iv e), some (iv n), some (iv l), none] [iv 0] (hp K.n B R g t u) := by
        intro hno
        have nx := ih n (l + 1) B n0 n1 (by omega) (by omega) ⟨f1, hA, f3, fun y y0 y1 h => by
          by_cases ey : y = l
          · rw [ey] at h; exact absurd h hno
          · exact f4 y y0 (by omega) h, f5⟩ hk
        have hnx : wx K M_T_setAbove d Q 10 [some (.ref (xa K.n 32)), some (iv 0), some (iv e), some (iv n), some (iv (l + 1)), some (iv 0)] [] (hp K.n B R g t u) := wx_t (pre := [some (.ref (xa K.n 32)), some (iv 0), some (iv e), some (iv n), some (iv (l + 1))]) (tl := [some (iv 0)]) nx
        refine r_istore 34 rfl (Nat.le_of_ble_eq_true rfl) ?_
        refine r_iload 35 rfl rfl ?_
        refine r_if_eq (t := 100) 36 rfl (by decide) (by first | exact hA _ _ | exact ⟨by decide, by decide⟩ | assumption | exact ⟨by omega, by omega⟩) (fun c_64 => ?_) (fun c_64 => by omega)
        refine r_iinc 58 rfl rfl ?_
        refine r_goto (t := 10) 59 rfl (by decide) ?_
        exact hnx
      have nx1 : isC A n l → wx K M_T_setAbove d Q 60 [some (.ref (xa K.n 32)), some (iv 0), some (iv e), some (iv n), some (iv l), none] [iv 1] (hp K.n B R g t u) := by
        intro his
        have hcc := hc n l n0 n1 l0 (by omega) his
        generalize hx : A 110 (6 * n + l) = x at hcc b10
        have nx := ih n (l + 1) (au B 111 x n) n0 n1 (by omega) (by omega) ⟨fun j i h => by rw [au_ne _ _ _ _ h]; exact f1 j i h, rga_au hA ⟨by omega, by omega⟩, fun p y p0 p1 y0 y1 h => by
          have hne : A 110 (6 * p + y) ≠ x := fun h2 => by
            have := hu p y n l p0 (by omega) y0 y1 n0 n1 l0 (by omega) h his (by rw [h2, hx])
            omega
          rw [au_ni _ _ _ hne]
          exact f3 p y p0 p1 y0 y1 h, fun y y0 y1 h => by
          by_cases ey : A 110 (6 * n + y) = x
          · rw [ey, au_same]
          · rw [au_ni _ _ _ ey]
            exact f4 y y0 (Decidable.byContradiction fun h2 => ey (by rw [show y = l by omega, hx])) h, by rw [au_ni _ _ _ (by omega)]; exact f5⟩ hk
        have hnx : wx K M_T_setAbove d Q 10 [some (.ref (xa K.n 32)), some (iv 0), some (iv e), some (iv n), some (iv (l + 1)), some (iv 1)] [] (hp K.n (au B 111 x n) R g t u) := wx_t (pre := [some (.ref (xa K.n 32)), some (iv 0), some (iv e), some (iv n), some (iv (l + 1))]) (tl := [some (iv 1)]) nx
        refine r_istore 34 rfl (Nat.le_of_ble_eq_true rfl) ?_
        refine r_iload 35 rfl rfl ?_
        refine r_if_eq (t := 100) 36 rfl (by decide) (by first | exact hA _ _ | exact ⟨by decide, by decide⟩ | assumption | exact ⟨by omega, by omega⟩) (fun c_64 => by omega) (fun c_64 => ?_)
        refine r_aload_n 37 rfl rfl ?_
        refine r_get 38 rfl f_T_29 (hp_at rfl) rfl ?_
        refine r_bipush 39 rfl rfl ?_
        refine r_iload_n 40 rfl rfl ?_
        refine r_imul 41 rfl ?_
        refine r_iload 42 rfl rfl ?_
        refine r_iadd 43 rfl ?_
        refine r_iaload 44 rfl (hp_at rfl) (by decide) (by omega) (by omega) ?_
        rw [b10]
        refine r_if_lt (t := 100) 45 rfl (by decide) (by first | exact hA _ _ | exact ⟨by decide, by decide⟩ | assumption | exact ⟨by omega, by omega⟩) (fun c_79 => by omega) (fun c_79 => ?_)
        refine r_aload_n 46 rfl rfl ?_
        refine r_get 47 rfl f_T_32 (hp_at rfl) rfl ?_
        refine r_aload_n 48 rfl rfl ?_
        refine r_get 49 rfl f_T_29 (hp_at rfl) rfl ?_
        refine r_bipush 50 rfl rfl ?_
        refine r_iload_n 51 rfl rfl ?_
        refine r_imul 52 rfl ?_
        refine r_iload 53 rfl rfl ?_
        refine r_iadd 54 rfl ?_
        refine r_iaload 55 rfl (hp_at rfl) (by decide) (by omega) (by omega) ?_
        rw [b10]
        refine r_iload_n 56 rfl rfl ?_
        refine r_iastore 57 rfl (hp_at rfl) (by decide) (by omega) (by omega) ?_
        rw [ws_111]
        refine r_iinc 58 rfl rfl ?_
        refine r_goto (t := 10) 59 rfl (by decide) ?_
        exact hnx
      by_cases h2 : A 105 n = 2
      · by_cases hl0 : l = 0
        · have his := nx1 (Or.inl ⟨h2, hl0⟩)
          refine r_iload 7 rfl rfl ?_
          refine r_bipush 8 rfl rfl ?_
          refine r_icmp_ge (t := 106) 9 rfl (by decide) (by first | exact hA _ _ | exact ⟨by decide, by decide⟩ | assumption | exact ⟨by omega, by omega⟩) (by first | exact hA _ _ | exact ⟨by decide, by decide⟩ | assumption | exact ⟨by omega, by omega⟩) (fun c_14 => by omega) (fun c_14 => ?_)
          refine r_aload_n 10 rfl rfl ?_
          refine r_get 11 rfl f_T_13 (hp_at rfl) rfl ?_
          refine r_iload_n 12 rfl rfl ?_
          refine r_iaload 13 rfl (hp_at rfl) (by decide) (by omega) (by omega) ?_
          refine r_iconst 14 rfl ?_
          refine r_icmp_ne (t := 40) 15 rfl (by decide) (by first | exact hA _ _ | exact ⟨by decide, by decide⟩ | assumption | exact ⟨by omega, by omega⟩) (by first | exact hA _ _ | exact ⟨by decide, by decide⟩ | assumption | exact ⟨by omega, by omega⟩) (fun c_24 => by omega) (fun c_24 => ?_)
          refine r_iload 16 rfl rfl ?_
          refine r_if_ne (t := 36) 17 rfl (by decide) (by first | exact hA _ _ | exact ⟨by decide, by decide⟩ | assumption | exact ⟨by omega, by omega⟩) (fun c_29 => by omega) (fun c_29 => ?_)
          refine r_iconst 18 rfl ?_
          refine r_goto (t := 60) 19 rfl (by decide) ?_
          exact his
        · have his := nx0 (fun h => by rcases h with h | h <;> omega)
          refine r_iload 7 rfl rfl ?_
          refine r_bipush 8 rfl rfl ?_
          refine r_icmp_ge (t := 106) 9 rfl (by decide) (by first | exact hA _ _ | exact ⟨by decide, by decide⟩ | assumption | exact ⟨by omega, by omega⟩) (by first | exact hA _ _ | exact ⟨by decide, by decide⟩ | assumption | exact ⟨by omega, by omega⟩) (fun c_14 => by omega) (fun c_14 => ?_)
          refine r_aload_n 10 rfl rfl ?_
          refine r_get 11 rfl f_T_13 (hp_at rfl) rfl ?_
          refine r_iload_n 12 rfl rfl ?_
          refine r_iaload 13 rfl (hp_at rfl) (by decide) (by omega) (by omega) ?_
          refine r_iconst 14 rfl ?_
          refine r_icmp_ne (t := 40) 15 rfl (by decide) (by first | exact hA _ _ | exact ⟨by decide, by decide⟩ | assumption | exact ⟨by omega, by omega⟩) (by first | exact hA _ _ | exact ⟨by decide, by decide⟩ | assumption | exact ⟨by omega, by omega⟩) (fun c_24 => by omega) (fun c_24 => ?_)
          refine r_iload 16 rfl rfl ?_
          refine r_if_ne (t := 36) 17 rfl (by decide) (by first | exact hA _ _ | exact ⟨by decide, by decide⟩ | assumption | exact ⟨by omega, by omega⟩) (fun c_29 => ?_) (fun c_29 => by omega)
          refine r_iconst 20 rfl ?_
          refine r_goto (t := 60) 21 rfl (by decide) ?_
          exact his
      · by_cases ho : 0 < A 108 (6 * n + l)
        · have his := nx1 (Or.inr ⟨h2, ho⟩)
          refine r_iload 7 rfl rfl ?_
          refine r_bipush 8 rfl rfl ?_
          refine r_icmp_ge (t := 106) 9 rfl (by decide) (by first | exact hA _ _ | exact ⟨by decide, by decide⟩ | assumption | exact ⟨by omega, by omega⟩) (by first | exact hA _ _ | exact ⟨by decide, by decide⟩ | assumption | exact ⟨by omega, by omega⟩) (fun c_14 => by omega) (fun c_14 => ?_)
          refine r_aload_n 10 rfl rfl ?_
          refine r_get 11 rfl f_T_13 (hp_at rfl) rfl ?_
          refine r_iload_n 12 rfl rfl ?_
          refine r_iaload 13 rfl (hp_at rfl) (by decide) (by omega) (by omega) ?_
          refine r_iconst 14 rfl ?_
          refine r_icmp_ne (t := 40) 15 rfl (by decide) (by first | exact hA _ _ | exact ⟨by decide, by decide⟩ | assumption | exact ⟨by omega, by omega⟩) (by first | exact hA _ _ | exact ⟨by decide, by decide⟩ | assumption | exact ⟨by omega, by omega⟩) (fun c_24 => ?_) (fun c_24 => by omega)
          refine r_aload_n 22 rfl rfl ?_
          refine r_get 23 rfl f_T_23 (hp_at rfl) rfl ?_
          refine r_bipush 24 rfl rfl ?_
          refine r_iload_n 25 rfl rfl ?_
          refine r_imul 26 rfl ?_
          refine r_iload 27 rfl rfl ?_
          refine r_iadd 28 rfl ?_
          refine r_iaload 29 rfl (hp_at rfl) (by decide) (by omega) (by omega) ?_
          refine r_if_le (t := 59) 30 rfl (by decide) (by first | exact hA _ _ | exact ⟨by decide, by decide⟩ | assumption | exact ⟨by omega, by omega⟩) (fun c_52 => by omega) (fun c_52 => ?_)
          refine r_iconst 31 rfl ?_
          refine r_goto (t := 60) 32 rfl (by decide) ?_
          exact his
        · have his := nx0 (fun h => by rcases h with h | h <;> omega)
          refine r_iload 7 rfl rfl ?_
          refine r_bipush 8 rfl rfl ?_
          refine r_icmp_ge (t := 106) 9 rfl (by decide) (by first | exact hA _ _ | exact ⟨by decide, by decide⟩ | assumption | exact ⟨by omega, by omega⟩) (by first | exact hA _ _ | exact ⟨by decide, by decide⟩ | assumption | exact ⟨by omega, by omega⟩) (fun c_14 => by omega) (fun c_14 => ?_)
          refine r_aload_n 10 rfl rfl ?_
          refine r_get 11 rfl f_T_13 (hp_at rfl) rfl ?_
          refine r_iload_n 12 rfl rfl ?_
          refine r_iaload 13 rfl (hp_at rfl) (by decide) (by omega) (by omega) ?_
          refine r_iconst 14 rfl ?_
          refine r_icmp_ne (t := 40) 15 rfl (by decide) (by first | exact hA _ _ | exact ⟨by decide, by decide⟩ | assumption | exact ⟨by omega, by omega⟩) (by first | exact hA _ _ | exact ⟨by decide, by decide⟩ | assumption | exact ⟨by omega, by omega⟩) (fun c_24 => ?_) (fun c_24 => by omega)
          refine r_aload_n 22 rfl rfl ?_
          refine r_get 23 rfl f_T_23 (hp_at rfl) rfl ?_
          refine r_bipush 24 rfl rfl ?_
          refine r_iload_n 25 rfl rfl ?_
          refine r_imul 26 rfl ?_
          refine r_iload 27 rfl rfl ?_
          refine r_iadd 28 rfl ?_
          refine r_iaload 29 rfl (hp_at rfl) (by decide) (by omega) (by omega) ?_
          refine r_if_le (t := 59) 30 rfl (by decide) (by first | exact hA _ _ | exact ⟨by decide, by decide⟩ | assumption | exact ⟨by omega, by omega⟩) (fun c_52 => ?_) (fun c_52 => by omega)
          refine r_iconst 33 rfl ?_
          exact his
  have outer : ∀ (c : Nat) (n : Int) (B : Nat → Int → Int), 0 ≤ n → n + c = e → saI A B e n 0 → wx K M_T_setAbove d Q 2 [some (.ref (xa K.n 32)), some (iv 0), some (iv e), some (iv n), none, none] [] (hp K.n B R g t u) := by
    intro c
    induction c with
    | zero =>
      intro n B n0 hn hI
      have hA := hI.2.1
      have en : n = e := by omega
      subst en
      have fin := hq B hI.1 hI.2.1 hI.2.2.1 hI.2.2.2.2
      refine r_iload_n 2 rfl rfl ?_
      refine r_iload_n 3 rfl rfl ?_
      refine r_icmp_ge (t := 112) 4 rfl (by decide) (by first | exact hA _ _ | exact ⟨by decide, by decide⟩ | assumption | exact ⟨by omega, by omega⟩) (by first | exact hA _ _ | exact ⟨by decide, by decide⟩ | assumption | exact ⟨by omega, by omega⟩) (fun c_4 => ?_) (fun c_4 => by omega)
      refine r_ret 62 rfl rfl ?_
      exact fin
    | succ c ih =>
      intro n B n0 hn hI
      have hA := hI.2.1
      have nx := inner 6 n 0 B n0 (by omega) (by omega) (by omega) hI (fun C hC => ih (n + 1) C (by omega) (by omega) hC)
      refine r_iload_n 2 rfl rfl ?_
      refine r_iload_n 3 rfl rfl ?_
      refine r_icmp_ge (t := 112) 4 rfl (by decide) (by first | exact hA _ _ | exact ⟨by decide, by decide⟩ | assumption | exact ⟨by omega, by omega⟩) (by first | exact hA _ _ | exact ⟨by decide, by decide⟩ | assumption | exact ⟨by omega, by omega⟩) (fun c_4 => by omega) (fun c_4 => ?_)
      refine r_iconst 5 rfl ?_
      refine r_istore 6 rfl (Nat.le_of_ble_eq_true rfl) ?_
      exact nx
  have nx := outer e.toNat 0 A (by omega) (by omega) ⟨fun _ _ _ => rfl, hA0, fun p y p0 p1 => by omega, fun y y0 y1 => by omega, rfl⟩
  refine mx_in ok_T_setAbove rfl (Nat.le_of_ble_eq_true rfl) ?_
  refine r_iload_n 0 rfl rfl ?_
  refine r_istore_n 1 rfl (Nat.le_of_ble_eq_true rfl) ?_
  exact nx
/-- in a global type -/
theorem sa_G (A : Nat → Int → Int) (τ : Tr) :
    (∀ n : Int, (tG A false τ).1 n → (wfP τ).1 → (∀ p y, n ≤ p → p < n + szT τ → 0 ≤ y → y < 6 → isC A p y → p < A 110 (6 * p + y) ∧ A 110 (6 * p + y) < n + szT τ) ∧ (∀ p y p' y', n ≤ p → p < n + szT τ → 0 ≤ y → y < 6 → n ≤ p' → p' < n + szT τ → 0 ≤ y' → y' < 6 → isC A p y → isC A p' y' → A 110 (6 * p + y) = A 110 (6 * p' + y') → p = p')) ∧
    (∀ m i n : Int, (tG A false τ).2 m i n → (wfP τ).2 → (∀ p y, n ≤ p → p < n + szB τ → 0 ≤ y → y < 6 → isC A p y → p < A 110 (6 * p + y) ∧ A 110 (6 * p + y) < n + szB τ) ∧ (∀ p y p' y', n ≤ p → p < n + szB τ → 0 ≤ y → y < 6 → n ≤ p' → p' < n + szB τ → 0 ≤ y' → y' < 6 → isC A p y → isC A p' y' → A 110 (6 * p + y) = A 110 (6 * p' + y') → p = p') ∧
      (∀ y, hasL τ y = true → n ≤ A 110 (6 * m + y) ∧ A 110 (6 * m + y) < n + szB τ ∧ ∀ p y', n ≤ p → p < n + szB τ → 0 ≤ y' → y' < 6 → isC A p y' → A 110 (6 * p + y') ≠ A 110 (6 * m + y))) := by
  induction τ with
  | leaf k =>
    have hno : ∀ n y, (tG A false (.leaf k)).1 n → 0 ≤ y → y < 6 → ¬ isC A n y := by
      intro n y h y0 y1 hc
      replace h : (A 107 n = 0 ∧ ∀ x, 0 ≤ x → x < 6 → A 108 (6 * n + x) = 0) ∧ (k = 0 → A 105 n = 0) ∧ (k ≠ 0 → A 105 n = 1 ∧ A 106 n = (k : Int) - 1) := h
      have h8 := h.1.2 y y0 y1
      have h5 : A 105 n ≠ 2 := by
        by_cases e : k = 0
        · have := h.2.1 e; omega
        · have := h.2.2 e; omega
      rcases hc with hc | hc <;> omega
    refine ⟨fun n h hw => ⟨fun p y p0 p1 y0 y1 hc => ?_, fun p y p' y' p0 p1 y0 y1 p0' p1' y0' y1' hc => ?_⟩, fun m i n h hw => ⟨fun p y p0 p1 => ?_, fun p y p' y' p0 p1 => ?_, fun y hy => by cases hy⟩⟩
    · rw [szT_leaf] at p1
      rw [show p = n by omega] at hc
      exact absurd hc (hno n y h y0 y1)
    · rw [szT_leaf] at p1
      rw [show p = n by omega] at hc
      exact absurd hc (hno n y h y0 y1)
    · rw [szB_leaf] at p1; omega
    · rw [szB_leaf] at p1; omega
  | branch k l q ihl ihq =>
    refine ⟨fun n h hw => ?_, fun m i n h hw => ?_⟩
    · rw [tG_brT] at h
      rw [wfT_br] at hw
      have hsz := szT_br k l q
      by_cases h3 : k < 3
      · rw [if_pos h3] at h hw hsz
        obtain ⟨g1, g2, g3, g4⟩ := h
        obtain ⟨i1, i2⟩ := ihl.1 (n + 1) g4 hw
        have root : ∀ y, isC A n y → A 110 (6 * n + y) = n + 1 := fun y hc => by
          rcases hc with ⟨-, hc⟩ | hc
          · rw [hc, Int.add_zero]; exact g3
          · omega
        refine ⟨fun p y p0 p1 y0 y1 hc => ?_, fun p y p' y' p0 p1 y0 y1 p0' p1' y0' y1' hc hc' he => ?_⟩
        · by_cases ep : p = n
          · rw [ep] at hc ⊢; rw [root y hc]; have := szT_pos l; omega
          · have := i1 p y (by omega) (by omega) y0 y1 hc; omega
        · by_cases ep : p = n
          · by_cases ep' : p' = n
            · omega
            · rw [ep] at hc he; rw [root y hc] at he
              have := i1 p' y' (by omega) (by omega) y0' y1' hc'; omega
          · by_cases ep' : p' = n
            · rw [ep'] at hc' he; rw [root y' hc'] at he
              have := i1 p y (by omega) (by omega) y0 y1 hc; omega
            · exact i2 p y p' y' (by omega) (by omega) y0 y1 (by omega) (by omega) y0' y1' hc hc' he
      · rw [if_neg h3] at h hw hsz
        rw [if_neg (by decide)] at h
        obtain ⟨g1, g2, g3⟩ := h
        obtain ⟨i1, i2, i3⟩ := ihl.2 n 0 (n + 1) g2 hw.2.1
        have root : ∀ y, 0 ≤ y → y < 6 → isC A n y → hasL l y = true := fun y y0 y1 hc => by
          cases hh : hasL l y with
          | true => rfl
          | false =>
            have := g3 y y0 y1 hh
            rcases hc with hc | hc <;> omega
        refine ⟨fun p y p0 p1 y0 y1 hc => ?_, fun p y p' y' p0 p1 y0 y1 p0' p1' y0' y1' hc hc' he => ?_⟩
        · by_cases ep : p = n
          · rw [ep] at hc ⊢
            obtain ⟨a, b, -⟩ := i3 y (root y y0 y1 hc)
            omega
          · have := i1 p y (by omega) (by omega) y0 y1 hc; omega
        · by_cases ep : p = n
          · by_cases ep' : p' = n
            · omega
            · rw [ep] at hc he
              obtain ⟨a, b, c⟩ := i3 y (root y y0 y1 hc)
              exact absurd he.symm (c p' y' (by omega) (by omega) y0' y1' hc')
          · by_cases ep' : p' = n
            · rw [ep'] at hc' he
              obtain ⟨a, b, c⟩ := i3 y' (root y' y0' y1' hc')
              exact absurd he (c p y (by omega) (by omega) y0 y1 hc)
            · exact i2 p y p' y' (by omega) (by omega) y0 y1 (by omega) (by omega) y0' y1' hc hc' he
    · rw [tG_brB] at h
      rw [wfB_br] at hw
      have hsz := szB_br k l q
      have hlp := szT_pos l
      obtain ⟨g1, g2, g3, g4, g5⟩ := h
      obtain ⟨i1, i2⟩ := ihl.1 n g4 hw.2.2.1
      obtain ⟨j1, j2, j3⟩ := ihq.2 m (i + 1) (n + szT l) g5 hw.2.2.2
      refine ⟨fun p y p0 p1 y0 y1 hc => ?_, fun p y p' y' p0 p1 y0 y1 p0' p1' y0' y1' hc hc' he => ?_, fun y hy => ?_⟩
      · by_cases ep : p < n + szT l
        · have := i1 p y p0 ep y0 y1 hc; omega
        · have := j1 p y (by omega) (by omega) y0 y1 hc; omega
      · by_cases ep : p < n + szT l
        · have a := i1 p y p0 ep y0 y1 hc
          by_cases ep' : p' < n + szT l
          · exact i2 p y p' y' p0 ep y0 y1 p0' ep' y0' y1' hc hc' he
          · have := j1 p' y' (by omega) (by omega) y0' y1' hc'; omega
        · have a := j1 p y (by omega) (by omega) y0 y1 hc
          by_cases ep' : p' < n + szT l
          · have := i1 p' y' p0' ep' y0' y1' hc'; omega
          · exact j2 p y p' y' (by omega) (by omega) y0 y1 (by omega) (by omega) y0' y1' hc hc' he
      · rw [hasL_br] at hy
        by_cases ey : ((k / 3 : Nat) : Int) = y
        · rw [← ey, g3]
          refine ⟨by omega, by omega, fun p y' p0 p1 y0' y1' hc he => ?_⟩
          by_cases ep : p < n + szT l
          · have := i1 p y' p0 ep y0' y1' hc; omega
          · have := j1 p y' (by omega) (by omega) y0' y1' hc; omega
        · rw [decide_eq_false ey, Bool.false_or] at hy
          obtain ⟨a, b, c⟩ := j3 y hy
          refine ⟨by omega, by omega, fun p y' p0 p1 y0' y1' hc he => ?_⟩
          by_cases ep : p < n + szT l
          · have := i1 p y' p0 ep y0' y1' hc; omega
          · exact c p y' (by omega) (by omega) y0' y1' hc he
theorem sa_abv (A A' : Nat → Int → Int) (τ : Tr) :
    (∀ n p : Int, 0 ≤ n → (tG A false τ).1 n → (wfP τ).1 → A' 111 n = p → (∀ p y, n ≤ p → p < n + szT τ → 0 ≤ y → y < 6 → isC A p y → A' 111 (A 110 (6 * p + y)) = p) → (abv A' τ).1 n p) ∧
    (∀ m i n : Int, 0 ≤ i → 0 ≤ n → (tG A false τ).2 m i n → (wfP τ).2 → A 105 m ≠ 2 → (∀ y, 0 ≤ y → y < 6 → isC A m y → A' 111 (A 110 (6 * m + y)) = m) → (∀ p y, n ≤ p → p < n + szB τ → 0 ≤ y → y < 6 → isC A p y → A' 111 (A 110 (6 * p + y)) = p) → (abv A' τ).2 m n) := by
  induction τ with
  | leaf k => exact ⟨fun n p n0 h hw hp hc => hp, fun m i n i0 n0 h hw h5 hm hc => trivial⟩
  | branch k l q ihl ihq =>
    refine ⟨fun n p n0 h hw hpp hc => ?_, fun m i n i0 n0 h hw h5 hm hc => ?_⟩
    · rw [tG_brT] at h
      rw [wfT_br] at hw
      have hsz := szT_br k l q
      rw [abv_brT]
      refine ⟨hpp, ?_⟩
      by_cases h3 : k < 3
      · rw [if_pos h3] at h hw hsz ⊢
        obtain ⟨g1, g2, g3, g4⟩ := h
        refine ihl.1 (n + 1) n (by omega) g4 hw ?_ (fun p y p0 p1 => hc p y (by omega) (by omega))
        have := hc n 0 (by omega) (by omega) (by omega) (by omega) (Or.inl ⟨g1, rfl⟩)
        rw [Int.add_zero, g3] at this
        exact this
      · rw [if_neg h3] at h hw hsz ⊢
        rw [if_neg (by decide)] at h
        obtain ⟨g1, g2, g3⟩ := h
        exact ihl.2 n 0 (n + 1) (by omega) (by omega) g2 hw.2.1 (by omega) (fun y y0 y1 h => hc n y (by omega) (by omega) y0 y1 h) (fun p y p0 p1 => hc p y (by omega) (by omega))
    · rw [tG_brB] at h
      rw [wfB_br] at hw
      have hsz := szB_br k l q
      obtain ⟨g1, g2, g3, g4, g5⟩ := h
      rw [abv_brB]
      have e := hm ((k / 3 : Nat) : Int) (by omega) (by omega) (Or.inr ⟨h5, by rw [g1]; omega⟩)
      rw [g3] at e
      exact ⟨ihl.1 n m n0 g4 hw.2.2.1 e (fun p y p0 p1 => hc p y p0 (by omega)), ihq.2 m (i + 1) (n + szT l) (by omega) (by omega) g5 hw.2.2.2 h5 hm (fun p y p0 p1 => hc p y (by omega) (by omega))⟩
end TW61


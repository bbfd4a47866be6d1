/-! the twin: makePart's places -/
section TW44
variable {K : xk} {M : xm} {d : Nat} {Q : Outcome → xh → Prop} {A : Nat → Int → Int} {R : Nat → Int → Value} {g : Nat → Nat × List Value} {t u : Nat}
def fp (A A' : Nat → Int → Int) (U e : Int) : Prop := (∀ j i, (j < 105 ∨ 110 < j) → j ≠ 117 → j ≠ 119 → j ≠ 120 → j ≠ 121 → (j = 100 → i ≠ 4 ∧ i ≠ 18) → A' j i = A j i) ∧ rga A' ∧ (∀ x, x < U → sameN A A' x) ∧ ∀ i, e ≤ i → A' 117 i = A 117 i
theorem fp_rf (hA : rga A) (U e : Int) : fp A A U e := ⟨fun _ _ _ _ _ _ _ _ => rfl, hA, fun x _ => sameN.rf A x, fun _ _ => rfl⟩
theorem fp_tr {A B C : Nat → Int → Int} {U U' e e' : Int} (h : fp A B U e) (h' : fp B C U' e') (hU : U ≤ U') (he : e' ≤ e) : fp A C U e := ⟨fun j i a b c f k l => (h'.1 j i a b c f k l).trans (h.1 j i a b c f k l), h'.2.1, fun x hx => (h.2.2.1 x hx).tr (h'.2.2.1 x (by omega)), fun i hi => (h'.2.2.2 i (by omega)).trans (h.2.2.2 i hi)⟩
/-- where a place stands in the global type -/
def ctx (A : Nat → Int → Int) (n e : Int) (L : List Int) : Prop := (0 ≤ n ∧ e ≤ A 100 12 ∧ A 100 12 ≤ 30 ∧ A 100 12 ≤ A 100 4) ∧ anc A n L ∧ (∀ a ∈ L, 0 ≤ a ∧ a < n) ∧ (∀ a, 0 < a → a < A 100 12 → -1 ≤ A 111 a ∧ A 111 a < a) ∧ ∀ a, e ≤ a → a < A 100 12 → A 111 a < n ∨ e ≤ A 111 a
theorem anc_fr {A A' : Nat → Int → Int} (h : ∀ i, A' 111 i = A 111 i) : ∀ (L : List Int) (k : Int), anc A k L → anc A' k L
  | [], k, hL => by show A' 111 k < 0; rw [h]; exact hL
  | a :: L, k, hL => ⟨by rw [h]; exact hL.1, hL.2.1, hL.2.2.1, anc_fr h L a hL.2.2.2⟩
theorem abv_fr {A A' : Nat → Int → Int} (h : ∀ i, A' 111 i = A 111 i) (τ : Tr) : (∀ n p, (abv A τ).1 n p → (abv A' τ).1 n p) ∧ ∀ m n, (abv A τ).2 m n → (abv A' τ).2 m n := by
  induction τ with
  | leaf k => exact ⟨fun n p hh => by show A' 111 n = p; rw [h]; exact hh, fun _ _ _ => trivial⟩
  | branch k l q ihl ihq =>
    refine ⟨fun n p hh => ?_, fun m n hh => ?_⟩
    · rw [abv_brT] at hh ⊢
      rw [h]
      refine ⟨hh.1, ?_⟩
      by_cases h3 : k < 3
      · rw [if_pos h3]; rw [if_pos h3] at hh; exact ihl.1 _ _ hh.2
      · rw [if_neg h3]; rw [if_neg h3] at hh; exact ihl.2 _ _ hh.2
    · rw [abv_brB] at hh ⊢
      exact ⟨ihl.1 _ _ hh.1, ihq.2 _ _ hh.2⟩
theorem ctx_fr {A A' : Nat → Int → Int} {n e U e' : Int} {L : List Int} (h : fp A A' U e') (h4 : A 100 4 ≤ A' 100 4) (hc : ctx A n e L) : ctx A' n e L := by
  have e11 : ∀ i, A' 111 i = A 111 i := fun i => h.1 111 i (by omega) (by decide) (by decide) (by decide) (by decide) (fun h => absurd h (by decide))
  have e12 : A' 100 12 = A 100 12 := h.1 100 12 (by omega) (by decide) (by decide) (by decide) (by decide) (fun _ => by omega)
  obtain ⟨c1, c2, c3, c4, c5⟩ := hc
  refine ⟨by rw [e12]; omega, anc_fr e11 L n c2, c3, fun a a0 a1 => by rw [e11]; exact c4 a a0 (by omega), fun a a0 a1 => by rw [e11]; exact c5 a a0 (by omega)⟩
theorem P1_fr {A B : Nat → Int → Int} {r : Int} {τ : Tr} {v lo hi : Int} (hw : (wfP τ).1) (hs : ∀ x, x < hi → sameN A B x) (h : P1 A r τ v lo hi) : P1 B r τ v lo hi := P1_to hw (fun x _ h2 => hs x h2) h
theorem PL_fr {A B : Nat → Int → Int} {r : Int} : ∀ (l : Tr) (n lo hi : Int), (wfP l).2 → (∀ x, x < hi → sameN A B x) → (∀ i, n ≤ i → B 117 i = A 117 i) → PL A r l n lo hi → PL B r l n lo hi
  | .leaf _, _, _, _, _, _, _, h => h
  | .branch _ τ q, n, lo, hi, hw, hs, h7, h => by
    rw [wfB_br] at hw
    obtain ⟨mid, a, b, c, e⟩ := h
    exact ⟨mid, a, b, by rw [h7 n (by omega)]; exact P1_fr hw.2.2.1 hs c, PL_fr q _ lo mid hw.2.2.2 (fun x hx => hs x (by omega)) (fun i hi => h7 i (by omega)) e⟩
theorem msg_w (A : Nat → Int → Int) (τ : Tr) (n : Int) (hw : (wfP τ).1) (hT : (tG A false τ).1 n) (x : Int) (x0 : n ≤ x) (x1 : x < n + szT τ) (x5 : A 105 x = 5) : 0 ≤ A 106 x := by
  have key : ∀ τ : Tr, (∀ n : Int, (tG A false τ).1 n → ∀ x, n ≤ x → x < n + szT τ → A 105 x = 5 → 0 ≤ A 106 x) ∧ ∀ m i n : Int, (tG A false τ).2 m i n → ∀ x, n ≤ x → x < n + szB τ → A 105 x = 5 → 0 ≤ A 106 x := by
    intro τ
    induction τ with
    | leaf k =>
      refine ⟨fun n h x h1 h2 h5 => ?_, fun m i n h x h1 h2 => by rw [szB_leaf] at h2; omega⟩
      rw [szT_leaf] at h2
      have e : x = n := by omega
      subst e
      replace h : (A 107 x = 0 ∧ ∀ y, 0 ≤ y → y < 6 → A 108 (6 * x + y) = 0) ∧ (k = 0 → A 105 x = 0) ∧ (k ≠ 0 → A 105 x = 1 ∧ A 106 x = (k : Int) - 1) := h
      by_cases e0 : k = 0
      · have := h.2.1 e0; omega
      · have := h.2.2 e0; omega
    | branch k l q ihl ihq =>
      refine ⟨fun n h x h1 h2 h5 => ?_, fun m i n h x h1 h2 h5 => ?_⟩
      · rw [tG_brT] at h
        rw [szT_br] at h2
        by_cases h3 : k < 3
        · rw [if_pos h3] at h h2
          by_cases e : x = n
          · rw [e, h.1] at h5; omega
          · exact ihl.1 (n + 1) h.2.2.2 x (by omega) (by omega) h5
        · rw [if_neg h3] at h h2
          rw [if_neg (by decide)] at h
          by_cases e : x = n
          · rw [e, h.1.2]; omega
          · exact ihl.2 n 0 (n + 1) h.2.1 x (by omega) (by omega) h5
      · rw [tG_brB] at h
        rw [szB_br] at h2
        by_cases e : x < n + szT l
        · exact ihl.1 n h.2.2.2.1 x h1 e h5
        · exact ihq.2 m (i + 1) _ h.2.2.2.2 x (by omega) (by omega) h5
  exact (key τ).1 n hT x x0 x1 x5
/-- one place -/
theorem mp_node {r lo n p : Int} {L : List Int} {τ : Tr} (hA : rga A) (hr : rg r) (hT : (tG A false τ).1 n) (hw : (wfP τ).1) (hab : (abv A τ).1 n p) (hc : ctx A n (n + szT τ) L) (hlo : 0 ≤ lo) (hloU : lo ≤ A 100 4) (hkid : kids A r τ n lo (A 100 4)) (hlim : A 100 4 + own τ ≤ 300)
    (hq : ∀ A', fp A A' (A 100 4) (n + 1) → A 100 4 ≤ A' 100 4 → A' 100 4 ≤ A 100 4 + own τ → P1 A' r τ (A' 117 n) lo (A' 100 4) → wx K M_T_makePart (d + 5) Q 15 [some (.ref (xa K.n 32)), some (iv r), some (iv (n - 1)), none] [] (hp K.n A' R g t u)) :
    wx K M_T_makePart (d + 5) Q 15 [some (.ref (xa K.n 32)), some (iv r), some (iv n), none] [] (hp K.n A R g t u) := by
  obtain ⟨⟨c1, c2, c3, c4⟩, c5, c6, c7, c8⟩ := id hc
  have szp := szT_pos τ
  have go : ∀ tc : Int, (tc = 0 ∨ tc = 1) → (∀ k l q, τ = .branch k l q → k < 3 → tc = if tch r τ = true then 1 else 0) → wx K M_T_makePart (d + 5) Q 43 [some (.ref (xa K.n 32)), some (iv r), some (iv n), none] [iv tc] (hp K.n A R g t u) := by
    intro tc ht0 htc
    have htr : rg tc := by rcases ht0 with rfl | rfl <;> exact ⟨by decide, by decide⟩
    refine r_istore_n 25 rfl (Nat.le_of_ble_eq_true rfl) ?_
    refine r_aload_n 26 rfl rfl ?_
    refine r_get 27 rfl f_T_41 (hp_at rfl) rfl ?_
    refine r_iload_n 28 rfl rfl ?_
    refine r_aload_n 29 rfl rfl ?_
    refine r_iload_n 30 rfl rfl ?_
    refine r_iload_n 31 rfl rfl ?_
    refine r_iload_n 32 rfl rfl ?_
    refine r_callv3 33 rfl l_T_185 (hp_at rfl) (Nat.le_of_ble_eq_true rfl) ?_
    refine c_T_partAt (d := d) hA hr hT hw c1 (by omega) (by omega) hlo hloU hkid hlim htc (fun v A' f1 f2 f3 f4 f5 => cp1 ?_)
    have nx := hq (au A' 117 n v) ⟨fun j i a b c e f k => by rw [au_ne _ _ _ _ b]; exact f1.1 j i a c e f k, rga_au f1.2.1 f5, fun x hx => (f1.2.2 x hx).tr ⟨au_ne _ _ _ _ (by decide), au_ne _ _ _ _ (by decide), au_ne _ _ _ _ (by decide), fun l _ _ => ⟨au_ne _ _ _ _ (by decide), au_ne _ _ _ _ (by decide), au_ne _ _ _ _ (by decide)⟩⟩, fun i hi => by rw [au_ni _ _ _ (by omega)]; exact f1.1 117 i (by omega) (by decide) (by decide) (by decide) (fun h => absurd h (by decide))⟩ (by rw [au_ne _ _ _ _ (by decide)]; exact f2) (by rw [au_ne _ _ _ _ (by decide)]; exact f3) (by
      rw [au_same, au_ne _ _ _ _ (by decide)]
      exact P1_fr hw (fun x _ => ⟨au_ne _ _ _ _ (by decide), au_ne _ _ _ _ (by decide), au_ne _ _ _ _ (by decide), fun l _ _ => ⟨au_ne _ _ _ _ (by decide), au_ne _ _ _ _ (by decide), au_ne _ _ _ _ (by decide)⟩⟩) f4)
    have hnx : ∀ v5 : Value, wx K M_T_makePart (d + 5) Q 15 [some (.ref (xa K.n 32)), some (iv r), some (iv (n - 1)), some v5] [] (hp K.n (au A' 117 n v) R g t u) := fun v5 => wx_t (pre := [some (.ref (xa K.n 32)), some (iv r), some (iv (n - 1))]) (tl := [some v5]) nx
    refine r_iastore 34 rfl (hp_at rfl) (by decide) (by omega) (by omega) ?_
    rw [ws_117]
    refine r_iinc 35 rfl rfl ?_
    refine r_goto (t := 15) 36 rfl (by decide) ?_
    exact hnx _
  by_cases hk : A 105 n = 2
  · -- a loop
    have hin := abv_in A τ
    have h1 := hin.1 n p hab
    cases τ with
    | leaf k =>
      replace hT : (A 107 n = 0 ∧ ∀ y, 0 ≤ y → y < 6 → A 108 (6 * n + y) = 0) ∧ (k = 0 → A 105 n = 0) ∧ (k ≠ 0 → A 105 n = 1 ∧ A 106 n = (k : Int) - 1) := hT
      by_cases e0 : k = 0
      · have := hT.2.1 e0; omega
      · have := hT.2.2 e0; omega
    | branch k l q =>
      have h3 : k < 3 := by
        apply Decidable.byContradiction
        intro h3
        rw [tG_brT, if_neg h3, if_neg (by decide)] at hT
        omega
      have hnm := (nm_row A r (.branch k l q)).1 n hw hT
      have hls := (ls_row A n L c6 c1 (.branch k l q)).1 n p [] (by omega) (by omega) hw hT hab c5 (fun a ha => by cases ha)
      have htch : (tch r (.branch k l q) = true ↔ ∃ x, n ≤ x ∧ x < n + szT (.branch k l q) ∧ (A 105 x = 5 ∧ (A 106 x % 4 = r ∨ A 106 x / 4 = r) ∨ A 105 x = 1 ∧ vOut A n x)) := by
        unfold tch
        rw [Bool.or_eq_true, Bool.or_eq_true, Bool.or_eq_true, hnm]
        have hls' : ((lsP (.branch k l q)).1 0 = true ∨ (lsP (.branch k l q)).1 1 = true ∨ (lsP (.branch k l q)).1 2 = true) ↔ ∃ v : Nat, v < 3 ∧ (lsP (.branch k l q)).1 v = true ∧ bnd A v [] < 0 := by
          constructor
          · rintro (h | h | h)
            · exact ⟨0, by omega, h, by show (-1 : Int) < 0; decide⟩
            · exact ⟨1, by omega, h, by show (-1 : Int) < 0; decide⟩
            · exact ⟨2, by omega, h, by show (-1 : Int) < 0; decide⟩
          · rintro ⟨v, v3, h, -⟩
            have : v = 0 ∨ v = 1 ∨ v = 2 := by omega
            rcases this with rfl | rfl | rfl
            · exact Or.inl h
            · exact Or.inr (Or.inl h)
            · exact Or.inr (Or.inr h)
        rw [← hls] at hls'
        constructor
        · rintro (((⟨x, a1, a2, a3⟩ | h) | h) | h)
          · exact ⟨x, a1, a2, Or.inl a3⟩
          · obtain ⟨x, a1, a2, a3⟩ := hls'.mp (Or.inl h); exact ⟨x, a1, a2, Or.inr a3⟩
          · obtain ⟨x, a1, a2, a3⟩ := hls'.mp (Or.inr (Or.inl h)); exact ⟨x, a1, a2, Or.inr a3⟩
          · obtain ⟨x, a1, a2, a3⟩ := hls'.mp (Or.inr (Or.inr h)); exact ⟨x, a1, a2, Or.inr a3⟩
        · rintro ⟨x, a1, a2, a3 | a3⟩
          · exact Or.inl (Or.inl (Or.inl ⟨x, a1, a2, a3⟩))
          · rcases hls'.mpr ⟨x, a1, a2, a3⟩ with h | h | h
            · exact Or.inl (Or.inl (Or.inr h))
            · exact Or.inl (Or.inr h)
            · exact Or.inr h
      refine r_iload_n 9 rfl rfl ?_
      refine r_if_lt (t := 63) 10 rfl (by decide) (by first | exact hA _ _ | exact ⟨by decide, by decide⟩ | assumption | exact ⟨by omega, by omega⟩) (fun c_16 => by omega) (fun c_16 => ?_)
      refine r_aload_n 11 rfl rfl ?_
      refine r_get 12 rfl f_T_13 (hp_at rfl) rfl ?_
      refine r_iload_n 13 rfl rfl ?_
      refine r_iaload 14 rfl (hp_at rfl) (by decide) (by omega) (by omega) ?_
      refine r_iconst 15 rfl ?_
      refine r_icmp_ne (t := 42) 16 rfl (by decide) (by first | exact hA _ _ | exact ⟨by decide, by decide⟩ | assumption | exact ⟨by omega, by omega⟩) (by first | exact hA _ _ | exact ⟨by decide, by decide⟩ | assumption | exact ⟨by omega, by omega⟩) (fun c_26 => by omega) (fun c_26 => ?_)
      refine r_aload_n 17 rfl rfl ?_
      refine r_iload_n 18 rfl rfl ?_
      refine r_iload_n 19 rfl rfl ?_
      refine r_callv2 20 rfl l_T_182 (hp_at rfl) (Nat.le_of_ble_eq_true rfl) ?_
      refine c_T_touches (e := n + szT (.branch k l q)) (P := vOut A n) hA c1 hr c3 (by omega) c2 (fun x x0 x1 x5 => ?_) (fun a a0 a1 => c7 a (by omega) a1) (fun a a0 a1 => (h1 a a0 a1).1) c8 (fun x x0 x1 x5 => ?_) (fun he => cp1 ?_) (fun he => cp1 ?_)
      · exact msg_w A (.branch k l q) n hw hT x x0 x1 x5
      · obtain ⟨L', hL'⟩ := (anc_all A (.branch k l q)).1 n p L c1 (by omega) hab c5 x x0 x1
        exact ⟨L', hL', ⟨fun h => ⟨L', hL', h⟩, fun ⟨L2, a1, a2⟩ => by rw [anc_u A L' L2 x hL' a1]; exact a2⟩⟩
      · refine r_if_eq (t := 42) 21 rfl (by decide) ⟨by decide, by decide⟩ (fun e2 => absurd e2 (by decide)) (fun _ => ?_)
        refine r_iconst 22 rfl ?_
        refine r_goto (t := 43) 23 rfl (by decide) ?_
        exact go 1 (Or.inr rfl) (fun _ _ _ _ _ => by rw [if_pos (htch.mpr he)])
      · refine r_if_eq (t := 42) 21 rfl (by decide) ⟨by decide, by decide⟩ (fun _ => ?_) (fun e2 => absurd rfl e2)
        refine r_iconst 24 rfl ?_
        exact go 0 (Or.inl rfl) (fun _ _ _ _ _ => by rw [if_neg (fun h => he (htch.mp h))])
  · refine r_iload_n 9 rfl rfl ?_
    refine r_if_lt (t := 63) 10 rfl (by decide) (by first | exact hA _ _ | exact ⟨by decide, by decide⟩ | assumption | exact ⟨by omega, by omega⟩) (fun c_16 => by omega) (fun c_16 => ?_)
    refine r_aload_n 11 rfl rfl ?_
    refine r_get 12 rfl f_T_13 (hp_at rfl) rfl ?_
    refine r_iload_n 13 rfl rfl ?_
    refine r_iaload 14 rfl (hp_at rfl) (by decide) (by omega) (by omega) ?_
    refine r_iconst 15 rfl ?_
    refine r_icmp_ne (t := 42) 16 rfl (by decide) (by first | exact hA _ _ | exact ⟨by decide, by decide⟩ | assumption | exact ⟨by omega, by omega⟩) (by first | exact hA _ _ | exact ⟨by decide, by decide⟩ | assumption | exact ⟨by omega, by omega⟩) (fun c_26 => ?_) (fun c_26 => by omega)
    refine r_iconst 24 rfl ?_
    exact go 0 (Or.inl rfl) (fun k l q e h3 => absurd (by subst e; rw [tG_brT, if_pos h3] at hT; exact hT.1) hk)
end TW44


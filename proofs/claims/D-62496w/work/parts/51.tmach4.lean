/-! the twin: hang -/
section TW51
variable {K : xk} {M : xm} {d : Nat} {Q : Outcome → xh → Prop} {A : Nat → Int → Int} {R : Nat → Int → Value} {g : Nat → Nat × List Value} {t u : Nat}
theorem skC_mem {A : Nat → Int → Int} : ∀ (l : List (Tr × Int)) (q : Tr × Int), q ∈ l → ∀ x, (ct A q.1).1 q.2 x ≤ skC A l x
  | [], _, h => by cases h
  | (τ, n) :: r, q, h => fun x => by
    rcases List.mem_cons.mp h with e | e
    · subst e; show (ct A τ).1 n x ≤ (ct A τ).1 n x + skC A r x; omega
    · have := skC_mem (A := A) r q e x; show _ ≤ (ct A τ).1 n x + skC A r x; omega
theorem ct_110 {A A' : Nat → Int → Int} (h : ∀ i, A' 110 i = A 110 i) (τ : Tr) : (∀ n x, (ct A' τ).1 n x = (ct A τ).1 n x) ∧ ∀ n x, (ct A' τ).2 n x = (ct A τ).2 n x := by
  induction τ with
  | leaf k => exact ⟨fun _ _ => rfl, fun _ _ => rfl⟩
  | branch k l q ihl ihq =>
    refine ⟨fun n x => ?_, fun n x => ?_⟩
    · rw [ct_br, ct_br, h, ihl.1, ihl.2]
    · rw [ct_brB, ct_brB, h, ihl.1, ihq.2]
theorem skC_110 {A A' : Nat → Int → Int} (h : ∀ i, A' 110 i = A 110 i) : ∀ (l : List (Tr × Int)) (x : Int), skC A' l x = skC A l x
  | [], _ => rfl
  | (τ, n) :: r, x => by show (ct A' τ).1 n x + skC A' r x = (ct A τ).1 n x + skC A r x; rw [(ct_110 h τ).1, skC_110 h r x]
theorem hg_loop {s0 : Int} :
    ∀ (N : Nat) (its : List (Tr × Int)) (A : Nat → Int → Int), skS its < N → skS its ≤ 150 → rga A → skR A its → (∀ x, skC A its x ≠ 0 → 0 ≤ x ∧ x < 300) → (∀ x, skC A its x ≤ 1) →
      (∀ A', frH A A' → rga A' → (∀ q ∈ its, (tH A' q.1).1 q.2 (A 111 q.2)) → (∀ x, skC A its x ≠ 0 → A' 129 x = -1) → (∀ x, skC A its x = 0 → A' 111 x = A 111 x ∧ A' 129 x = A 129 x) → Q (.returned none) (hp K.n A' R g t u)) →
      wx K M_T_hang d Q 16 [some (.ref (xa K.n 32)), some (iv s0), some (iv its.length), none, none, none] [] (hp K.n A R g t u) := by
  intro N
  induction N with
  | zero => intro its A h; omega
  | succ N ih =>
    intro its A hN hS hA hr hn h1 hq
    cases its with
    | nil =>
      have hfin := hq A (fun _ _ _ _ _ => rfl) hA (fun q h => by cases h) (fun x h => absurd rfl h) (fun x _ => ⟨rfl, rfl⟩)
      refine r_iload_n 12 rfl rfl ?_
      refine r_if_le (t := 155) 13 rfl (by decide) (by first | exact hA _ _ | exact ⟨by decide, by decide⟩ | assumption | exact ⟨by omega, by omega⟩) (fun c_17 => ?_) (fun c_17 => by (simp at *))
      refine r_ret 91 rfl rfl ?_
      exact hfin
    | cons it r =>
      obtain ⟨τ, n⟩ := it
      obtain ⟨r1, r2, r3, r4⟩ := id hr
      replace hN : szT τ + skS r < N + 1 := hN
      replace hS : szT τ + skS r ≤ 150 := hS
      have hlr := skS_len r
      have hC : ∀ x, skC A ((τ, n) :: r) x = (ct A τ).1 n x + skC A r x := fun x => rfl
      have hnn := hn n (by rw [hC]; have := ct_self A τ n; omega)
      obtain ⟨ca, cs6⟩ := chs_all A n τ r3
      have hnc : ∀ q ∈ chs A n τ 6, q.2 ≠ n := fun q hq e => by
        have a1 := skC_mem (A := A) _ q hq n
        have a2 := ct_self A q.1 q.2
        rw [e] at a1 a2
        have a3 := ca n
        rw [if_pos rfl] at a3
        have := h1 n
        rw [hC] at this
        omega
      have hnr : ∀ q ∈ r, (∀ p ∈ chs A n τ 6, p.2 ≠ q.2) ∧ q.2 ≠ n := fun q hq => by
        have a1 := skC_mem (A := A) _ q hq q.2
        have a2 := ct_self A q.1 q.2
        have a4 := h1 q.2
        rw [hC] at a4
        refine ⟨fun p hp e => ?_, fun e => ?_⟩
        · have b1 := skC_mem (A := A) _ p hp q.2
          have b2 := ct_self A p.1 p.2
          rw [e] at b1 b2
          have b3 := ca q.2
          omega
        · have b2 : 1 ≤ (ct A τ).1 n q.2 := by rw [e]; exact ct_self A τ n
          omega
      have inn := hg_in (K := K) (d := d) (Q := Q) (R := R) (g := g) (t := t) (u := u) (s0 := s0) (A := A) (n := n) (τ := τ) (r := r) r2 r3 (fun x hx => hn x (by rw [hC]; omega)) (by omega) (fun B hI => by
        obtain ⟨f1, fA, f3, f4, f5, f6⟩ := hI
        have hcB : ∀ x, skC B (chs A n τ 6 ++ r) x = skC A (chs A n τ 6) x + skC A r x := fun x => by
          rw [skC_110 (fun i => f1 110 i (by decide) (by decide) (by decide)), skC_app]
        refine ih _ B (by rw [skS_app]; omega) (by rw [skS_app]; omega) fA f3 (fun x hx => hn x (by rw [hcB] at hx; rw [hC, ca x]; omega)) (fun x => by rw [hcB]; have := h1 x; rw [hC, ca x] at this; omega) (fun A' g1 g2 g3 g4 g5 => ?_)
        have hAA : frH A A' := fun j i a b c => (g1 j i a b c).trans (f1 j i a b c)
        have hz : skC B (chs A n τ 6 ++ r) n = 0 := by rw [hcB]; have := h1 n; rw [hC, ca n, if_pos rfl] at this; omega
        refine hq A' hAA g2 (fun q hq => ?_) (fun x hx => ?_) (fun x hx => ?_)
        · rcases List.mem_cons.mp hq with e | e
          · subst e
            refine tH_of hAA r3 ?_ (fun p hp => ?_)
            · rw [(g5 n hz).1]; exact f5 n (fun p hp => hnc p hp)
            · have := g3 p (List.mem_append.mpr (Or.inl hp))
              rw [f4 p hp] at this; exact this
          · have := g3 q (List.mem_append.mpr (Or.inr e))
            rw [f5 q.2 (hnr q e).1] at this
            exact this
        · by_cases e : x = n
          · rw [e, (g5 n hz).2, f6, if_pos rfl]
          · refine g4 x ?_
            rw [hcB]
            rw [hC, ca x, if_neg e] at hx
            omega
        · rw [hC, ca x] at hx
          have e : x ≠ n := fun e => by rw [if_pos e] at hx; omega
          rw [if_neg e] at hx
          obtain ⟨a1, a2⟩ := g5 x (by rw [hcB]; omega)
          rw [a1, a2, f6, if_neg e]
          refine ⟨f5 x (fun p hp e2 => ?_), rfl⟩
          have b1 := skC_mem (A := A) _ p hp x
          have b2 := ct_self A p.1 p.2
          rw [e2] at b1 b2
          omega)
      have A1 := inn 6 0 (au A 129 n (-1)) (by omega) ⟨fun j i a b c => au_ne _ _ _ _ b, rga_au hA ⟨by decide, by decide⟩, (skR_fr (fun x => ⟨au_ne _ _ _ _ (by decide), au_ne _ _ _ _ (by decide), au_ne _ _ _ _ (by decide), fun l _ _ => ⟨au_ne _ _ _ _ (by decide), au_ne _ _ _ _ (by decide), au_ne _ _ _ _ (by decide)⟩⟩) r (fun i _ _ => au_ne _ _ _ _ (by decide)) r4).1, fun q h => (by cases h), fun x _ => au_ne _ _ _ _ (by decide), fun x => by rw [au_ite]; by_cases e : x = n; rw [if_pos ⟨rfl, e⟩, if_pos e]; rw [if_neg (fun h => e h.2), if_neg e]⟩
      have hlen : ((((τ, n) :: r : List (Tr × Int)).length : Nat) : Int) = (r.length : Int) + 1 := by rw [List.length_cons]; omega
      rw [hlen]
      have hidx : (r.length : Int) + 1 + -1 = (r.length : Int) := by omega
      refine r_iload_n 12 rfl rfl ?_
      refine r_if_le (t := 155) 13 rfl (by decide) (by first | exact hA _ _ | exact ⟨by decide, by decide⟩ | assumption | exact ⟨by omega, by omega⟩) (fun c_17 => by omega) (fun c_17 => ?_)
      refine r_iinc 14 rfl rfl ?_
      rw [hidx]
      refine r_aload_n 15 rfl rfl ?_
      refine r_get 16 rfl f_T_77 (hp_at rfl) rfl ?_
      refine r_iload_n 17 rfl rfl ?_
      refine r_iaload 18 rfl (hp_at rfl) (by decide) (by omega) (by omega) ?_
      rw [r1]
      refine r_istore_n 19 rfl (Nat.le_of_ble_eq_true rfl) ?_
      refine r_aload_n 20 rfl rfl ?_
      refine r_get 21 rfl f_T_74 (hp_at rfl) rfl ?_
      refine r_iload_n 22 rfl rfl ?_
      refine r_iconst 23 rfl ?_
      refine r_iastore 24 rfl (hp_at rfl) (by decide) (by omega) (by omega) ?_
      rw [ws_129]
      refine r_iconst 25 rfl ?_
      refine r_istore 26 rfl (Nat.le_of_ble_eq_true rfl) ?_
      exact A1
end TW51


/-! the twin: merged -/
section TW39
variable {K : xk} {M : xm} {d : Nat} {Q : Outcome → xh → Prop} {A : Nat → Int → Int} {R : Nat → Int → Value} {g : Nat → Nat × List Value} {t u : Nat}
theorem cI_0 (A : Nat → Int → Int) (U x : Int) (hx : U ≤ x) : ∀ (its : List (Tr × Tr × Int × Int)) (q : Int), qI A U q its → cI A its x = 0
  | [], _, _ => rfl
  | (α, β, a, b) :: r, q, h => by
    show (ct A α).1 a x + (ct A β).1 b x + cI A r x = 0
    rw [cI_0 A U x hx r (q + 1) h.2.2.2.2]
    have h1 : (ct A α).1 a x = 0 := Decidable.byContradiction (fun e => by have := h.2.2.1 x (Or.inl e); omega)
    have h2 : (ct A β).1 b x = 0 := Decidable.byContradiction (fun e => by have := h.2.2.1 x (Or.inr e); omega)
    omega
/-- what waits still waits -/
theorem qI_to (A A1 : Nat → Int → Int) {U n : Int} (hlow : ∀ x, x < A 100 4 → x ≠ n → sameN A A1 x) (hU4 : U ≤ A 100 4) (hUn : U ≤ n) : ∀ (its : List (Tr × Tr × Int × Int)) (q : Int), n < U + q → U + q + its.length ≤ A 100 4 → (∀ i, q ≤ i → i < q + its.length → A1 119 i = A 119 i ∧ A1 120 i = A 120 i ∧ A1 121 i = A 121 i) → qI A U q its → qI A1 U q its ∧ ∀ x, cI A1 its x = cI A its x
  | [], _, _, _, _, _ => ⟨trivial, fun _ => rfl⟩
  | (α, β, a, b) :: r, q, hn, hq, hr, h => by
    rw [List.length_cons] at hq hr
    obtain ⟨⟨h1, h2, h3⟩, ⟨h4, h5, h6, h7, h8, h9⟩, h10, ⟨h11, h12, h13, h14⟩, h15⟩ := h
    obtain ⟨i1, i2⟩ := qI_to A A1 hlow hU4 hUn r (q + 1) (by omega) (by omega) (fun i i0 i1 => hr i (by omega) (by omega)) h15
    obtain ⟨r1, r2, r3⟩ := hr q (by omega) (by omega)
    obtain ⟨a1, a2⟩ := (tR_frame A A1 α).1 a h6 (fun x hx => hlow x (by have := h10 x (Or.inl hx); omega) (by have := h10 x (Or.inl hx); omega)) h4
    obtain ⟨b1, b2⟩ := (tR_frame A A1 β).1 b h7 (fun x hx => hlow x (by have := h10 x (Or.inr hx); omega) (by have := h10 x (Or.inr hx); omega)) h5
    obtain ⟨s1, s2, s3, s4⟩ := hlow (U + q) (by omega) (by omega)
    have ha := h10 a (Or.inl (by have := ct_self A α a; omega))
    obtain ⟨t1, t2, t3, t4⟩ := hlow a (by omega) (by omega)
    refine ⟨⟨⟨r1.trans h1, r2.trans h2, r3.trans h3⟩, ⟨a1, b1, h6, h7, h8, h9⟩, fun x hx => h10 x (by rw [a2, b2] at hx; exact hx), ⟨by rw [s1, t1]; exact h11, by rw [s2, t2]; exact h12, by rw [s3]; exact h13, fun l l0 l1 => by rw [(s4 l l0 l1).1]; exact h14 l l0 l1⟩, i1⟩, fun x => ?_⟩
    show (ct A1 α).1 a x + (ct A1 β).1 b x + cI A1 r x = (ct A α).1 a x + (ct A β).1 b x + cI A r x
    rw [a2, b2, i2]
/-- the new ones wait -/
theorem qI_siB (A A1 : Nat → Int → Int) {U n a b : Int} {l' : Tr} (hlow : ∀ x, x < A 100 4 → x ≠ n → sameN A A1 x) (hU4 : U ≤ A 100 4) (hUn : U ≤ n) (tb : (tR A l').2 b 0) (wb : (wfP l').2) (lb : (lkP l').2) (hnb : ∀ x, (ct A l').2 b x ≠ 0 → 0 ≤ x ∧ x < U) : ∀ (r : Tr) (q : Int), tC A a r → (wfP r).2 → (lkP r).2 → (∀ x, (ct A r).2 a x ≠ 0 → 0 ≤ x ∧ x < U) → qw A A1 U q (siB A l' a b r) → qI A1 U q (siB A l' a b r) ∧ ∀ x, cI A1 (siB A l' a b r) x = cI A (siB A l' a b r) x
  | .leaf _, q, _, _, _, _, _ => ⟨trivial, fun _ => rfl⟩
  | .branch k τ r, q, ht, hw, hl, hna, h => by
    rw [wfB_br] at hw
    rw [lkB_br] at hl
    rw [siB_br] at h ⊢
    cases hf : fdL l' (k / 3) with
    | none =>
      rw [hf] at h
      dsimp only at h ⊢
      exact qI_siB A A1 hlow hU4 hUn tb wb lb hnb r q ht.2 hw.2.2.2 hl.2 (fun x hx => hna x (by rw [ct_brB]; omega)) h
    | some p =>
      obtain ⟨k', τ'⟩ := p
      rw [hf] at h
      dsimp only at h ⊢
      obtain ⟨⟨h1, h2, h3⟩, ⟨h4, h5, h6, h7⟩, h8⟩ := h
      obtain ⟨i1, i2⟩ := qI_siB A A1 hlow hU4 hUn tb wb lb hnb r (q + 1) ht.2 hw.2.2.2 hl.2 (fun x hx => hna x (by rw [ct_brB]; omega)) h8
      obtain ⟨f1, f2, f3, f4, f5, f6⟩ := fd_tR A l' b 0 (k / 3) k' τ' tb (by omega) wb hf
      obtain ⟨g1, g2, g3, g4⟩ := fd_wf l' (k / 3) k' τ' wb hf
      have na : ∀ x, (ct A τ).1 (A 110 (6 * a + (k / 3 : Nat))) x ≠ 0 → 0 ≤ x ∧ x < U := fun x hx => hna x (by rw [ct_brB]; omega)
      have nb : ∀ x, (ct A τ').1 (A 110 (6 * b + (k / 3 : Nat))) x ≠ 0 → 0 ≤ x ∧ x < U := fun x hx => hnb x (by have := f5 x; omega)
      obtain ⟨a1, a2⟩ := (tR_frame A A1 τ).1 _ hw.2.2.1 (fun x hx => hlow x (by have := na x hx; omega) (by have := na x hx; omega)) ht.1
      obtain ⟨b1, b2⟩ := (tR_frame A A1 τ').1 _ f4 (fun x hx => hlow x (by have := nb x hx; omega) (by have := nb x hx; omega)) f3
      have ha : 0 ≤ A 110 (6 * a + (k / 3 : Nat)) ∧ A 110 (6 * a + (k / 3 : Nat)) < U := na (A 110 (6 * a + (k / 3 : Nat))) (by have := ct_self A τ (A 110 (6 * a + (k / 3 : Nat))); omega)
      obtain ⟨t1, t2, t3, t4⟩ := hlow (A 110 (6 * a + (k / 3 : Nat))) (by omega) (by omega)
      refine ⟨⟨⟨h1, h2, h3⟩, ⟨a1, b1, hw.2.2.1, f4, hl.1, g4 lb⟩, fun x hx => ?_, ⟨by rw [t1]; exact h4, by rw [t2]; exact h5, h6, h7⟩, i1⟩, fun x => ?_⟩
      · rw [a2, b2] at hx
        rcases hx with hx | hx
        · exact na x hx
        · exact nb x hx
      · show (ct A1 τ).1 _ x + (ct A1 τ').1 _ x + cI A1 _ x = (ct A τ).1 _ x + (ct A τ').1 _ x + cI A _ x
        rw [a2, b2, i2]
theorem qI_si (A A1 : Nat → Int → Int) {U n a b q : Int} {α β : Tr} (hlow : ∀ x, x < A 100 4 → x ≠ n → sameN A A1 x) (hU4 : U ≤ A 100 4) (hUn : U ≤ n) (ta : (tR A α).1 a) (tb : (tR A β).1 b) (wa : (wfP α).1) (wb : (wfP β).1) (la : (lkP α).1) (lb : (lkP β).1) (hnod : ∀ x, (ct A α).1 a x ≠ 0 ∨ (ct A β).1 b x ≠ 0 → 0 ≤ x ∧ x < U) (ho : o1 α β ≠ none) (h : qw A A1 U q (si A α β a b)) : qI A1 U q (si A α β a b) ∧ ∀ x, cI A1 (si A α β a b) x = cI A (si A α β a b) x := by
  cases α with
  | leaf k => cases β <;> exact ⟨trivial, fun _ => rfl⟩
  | branch k l r =>
    cases β with
    | leaf k' => exact ⟨trivial, fun _ => rfl⟩
    | branch k' l' r' =>
      rw [o1_br] at ho
      by_cases ek : k = k'
      case neg => rw [if_pos ek] at ho; exact absurd rfl ho
      subst ek
      rw [tR_br] at ta tb
      rw [wfT_br] at wa wb
      rw [lkT_br] at la lb
      by_cases h3 : k < 3
      · rw [if_pos h3] at ta tb wa wb la lb
        have e : si A (.branch k l r) (.branch k l' r') a b = [(l, l', A 110 (6 * a), A 110 (6 * b))] := if_pos h3
        rw [e] at h ⊢
        obtain ⟨⟨h1, h2, h3'⟩, ⟨h4, h5, h6, h7⟩, h8⟩ := h
        have na : ∀ x, (ct A l).1 (A 110 (6 * a)) x ≠ 0 → 0 ≤ x ∧ x < U := fun x hx => hnod x (Or.inl (by rw [ct_br, if_pos h3]; omega))
        have nb : ∀ x, (ct A l').1 (A 110 (6 * b)) x ≠ 0 → 0 ≤ x ∧ x < U := fun x hx => hnod x (Or.inr (by rw [ct_br, if_pos h3]; omega))
        obtain ⟨a1, a2⟩ := (tR_frame A A1 l).1 _ wa (fun x hx => hlow x (by have := na x hx; omega) (by have := na x hx; omega)) ta.2.2
        obtain ⟨b1, b2⟩ := (tR_frame A A1 l').1 _ wb (fun x hx => hlow x (by have := nb x hx; omega) (by have := nb x hx; omega)) tb.2.2
        have ha : 0 ≤ A 110 (6 * a) ∧ A 110 (6 * a) < U := na (A 110 (6 * a)) (by have := ct_self A l (A 110 (6 * a)); omega)
        obtain ⟨t1, t2, t3, t4⟩ := hlow (A 110 (6 * a)) (by omega) (by omega)
        refine ⟨⟨⟨h1, h2, h3'⟩, ⟨a1, b1, wa, wb, la, lb⟩, fun x hx => ?_, ⟨by rw [t1]; exact h4, by rw [t2]; exact h5, h6, h7⟩, trivial⟩, fun x => ?_⟩
        · rw [a2, b2] at hx
          rcases hx with hx | hx
          · exact na x hx
          · exact nb x hx
        · show (ct A1 l).1 _ x + (ct A1 l').1 _ x + 0 = (ct A l).1 _ x + (ct A l').1 _ x + 0
          rw [a2, b2]
      · rw [if_neg h3] at ta tb wa wb la lb
        have e : si A (.branch k l r) (.branch k l' r') a b = siB A l' a b l := if_neg h3
        rw [e] at h ⊢
        exact qI_siB A A1 hlow hU4 hUn tb.2.1 wb.2.1 lb.2 (fun x hx => hnod x (Or.inr (by rw [ct_br, if_neg h3]; omega))) l q (tC_of A a l 0 ta.2.1) wa.2.1 la.2 (fun x hx => hnod x (Or.inl (by rw [ct_br, if_neg h3]; omega))) h
theorem m_loop {a0 b0 U Lim : Int} (U0 : 0 ≤ U) (hL3 : Lim ≤ 300) :
    ∀ (N : Nat) (its : List (Tr × Tr × Int × Int)) (k : Int) (A : Nat → Int → Int), sa its < N → rga A → 0 ≤ k → A 100 18 = k + its.length → A 100 4 = U + A 100 18 → qI A U k its → A 100 4 + sb its ≤ Lim + its.length →
      (∀ A', (∃ it ∈ its, (mg it.1).1 it.2.1 = none) → frM A A' → rga A' → (∀ x, x < U → sameN A A' x) → U ≤ A' 100 4 → A' 100 4 ≤ Lim → Q (.returned (some (iv (-1)))) (hp K.n A' R g t u)) →
      (∀ A', (∀ it ∈ its, (mg it.1).1 it.2.1 ≠ none) → frM A A' → rga A' → (∀ x, x < U + k → sameN A A' x) → A 100 4 ≤ A' 100 4 → A' 100 4 ≤ Lim → finI A' U k its → (∀ x, x < U → cs A' U k its x ≤ cI A its x) → (∀ x, U ≤ x → cs A' U k its x ≤ if U + k ≤ x ∧ x < A' 100 4 then 1 else 0) → Q (.returned (some (iv U))) (hp K.n A' R g t u)) →
      wx K M_T_merged (d + 3) Q 15 [some (.ref (xa K.n 32)), some (iv a0), some (iv b0), some (iv U), some (iv k)] [] (hp K.n A R g t u) := by
  intro N
  induction N with
  | zero => intro its k A h; omega
  | succ N ih =>
    intro its k A hN hA k0 h18 h4 hq hlim hf hok
    cases its with
    | nil =>
      have e18 : A 100 18 = k := by simpa using h18
      have hq2 := hok A (fun it h => by cases h) (frM.rf A) hA (fun x _ => sameN.rf A x) (by omega) (by simp [sb] at hlim; omega) trivial (fun x _ => Nat.le_refl 0) (fun x _ => Nat.zero_le _)
      refine r_iload 10 rfl rfl ?_
      refine r_aload_n 11 rfl rfl ?_
      refine r_get 12 rfl f_T_166 (hp_at rfl) rfl ?_
      refine r_icmp_ge (t := 60) 13 rfl (by decide) (by first | exact hA _ _ | exact ⟨by decide, by decide⟩ | assumption | exact ⟨by omega, by omega⟩) (by first | exact hA _ _ | exact ⟨by decide, by decide⟩ | assumption | exact ⟨by omega, by omega⟩) (fun c_21 => ?_) (fun c_21 => by omega)
      refine r_iload_n 33 rfl rfl ?_
      refine r_iret 34 rfl rfl rfl ?_
      exact hq2
    | cons it rest =>
      obtain ⟨α, β, a, b⟩ := it
      rw [List.length_cons] at h18 hlim
      replace hN : szT α + sa rest < N + 1 := hN
      replace hlim : A 100 4 + ((szT β + sb rest : Nat) : Int) ≤ Lim + ((rest.length + 1 : Nat) : Int) := hlim
      obtain ⟨⟨q1, q2, q3⟩, ⟨q4, q5, q6, q7, q8, q9⟩, q10, ⟨q11, q12, q13, q14⟩, q15⟩ := id hq
      have szb := szT_pos β
      have hsbr : rest.length ≤ sb rest := by
        have : ∀ l : List (Tr × Tr × Int × Int), l.length ≤ sb l := fun l => by
          induction l with
          | nil => exact Nat.le_refl 0
          | cons it l ih => obtain ⟨x1, x2, x3, x4⟩ := it; have := szT_pos x2; show l.length + 1 ≤ szT x2 + sb l; omega
        exact this rest
      refine r_iload 10 rfl rfl ?_
      refine r_aload_n 11 rfl rfl ?_
      refine r_get 12 rfl f_T_166 (hp_at rfl) rfl ?_
      refine r_icmp_ge (t := 60) 13 rfl (by decide) (by first | exact hA _ _ | exact ⟨by decide, by decide⟩ | assumption | exact ⟨by omega, by omega⟩) (by first | exact hA _ _ | exact ⟨by decide, by decide⟩ | assumption | exact ⟨by omega, by omega⟩) (fun c_21 => by omega) (fun c_21 => ?_)
      refine r_aload_n 14 rfl rfl ?_
      refine r_aload_n 15 rfl rfl ?_
      refine r_get 16 rfl f_T_44 (hp_at rfl) rfl ?_
      refine r_iload 17 rfl rfl ?_
      skip
      refine r_iaload 18 rfl (hp_at rfl) (by decide) (by omega) (by omega) ?_
      refine r_aload_n 19 rfl rfl ?_
      refine r_get 20 rfl f_T_47 (hp_at rfl) rfl ?_
      refine r_iload 21 rfl rfl ?_
      refine r_iaload 22 rfl (hp_at rfl) (by decide) (by omega) (by omega) ?_
      refine r_aload_n 23 rfl rfl ?_
      refine r_get 24 rfl f_T_50 (hp_at rfl) rfl ?_
      refine r_iload 25 rfl rfl ?_
      refine r_iaload 26 rfl (hp_at rfl) (by decide) (by omega) (by omega) ?_
      rw [q1, q2, q3]
      refine r_callv3 27 rfl l_T_172 (hp_at rfl) (Nat.le_of_ble_eq_true rfl) ?_
      refine c_T_mergedOne (d := d) (Lim := Lim) hA h4 U0 (by omega) q4 q5 q6 q7 (lk_lok q8) (lk_lok q9) q10 (by omega) (by omega) q13 q14 (by omega) hL3 (fun ho A1 c' hp1 hc hl => cp1 ?_) (fun ho A1 hp1 hw hs => cp1 ?_)
      · refine r_if_ne (t := 54) 28 rfl (by decide) ⟨by decide, by decide⟩ (fun e2 => absurd rfl e2) (fun _ => ?_)
        refine r_iconst 29 rfl ?_
        refine r_iret 30 rfl rfl rfl ?_
        have h4' := hp1.2.2.2.2.1
        exact hf A1 ⟨_, List.mem_cons_self .., (mg_o1 α β).mpr (Or.inl ho)⟩ hp1.1 hp1.2.1 (fun x hx => hp1.2.2.1 x (by omega) (by omega)) (by omega) hl
      obtain ⟨p1, p2, p3, p4, p5, p6, p7⟩ := id hp1
      obtain ⟨z1, z2⟩ := si_sz A α β a b q6 ho
      obtain ⟨r1, r2⟩ := qI_to A A1 (n := U + k) p3 (by omega) (by omega) rest (k + 1) (by omega) (by omega) (fun i i0 i1 => p7 i (by omega)) q15
      obtain ⟨w1, w2⟩ := qI_si A A1 (n := U + k) (q := A 100 18) p3 (by omega) (by omega) q4 q5 q6 q7 q8 q9 q10 ho hw
      have hlim2 : A1 100 4 + ((sb (rest ++ si A α β a b) : Nat) : Int) ≤ Lim + ((rest ++ si A α β a b).length : Nat) := by rw [sb_app, List.length_append]; omega
      have nx := ih (rest ++ si A α β a b) (k + 1) A1 (by rw [sa_app]; omega) p2 (by omega) (by rw [List.length_append]; omega) (by omega) (qI_app A1 U rest _ (k + 1) r1 (by rw [show k + 1 + (rest.length : Int) = A 100 18 by omega]; exact w1)) hlim2 ?_ ?_
      rotate_left
      · intro A' hne g1 g2 g3 g4 g5
        refine hf A' ?_ (p1.tr g1) g2 (fun x hx => (p3 x (by omega) (by omega)).tr (g3 x hx)) g4 g5
        obtain ⟨it, m1, m2⟩ := hne
        rcases List.mem_append.mp m1 with m1 | m1
        · exact ⟨it, List.mem_cons_of_mem _ m1, m2⟩
        · exact ⟨_, List.mem_cons_self .., (mg_si A α β a b ho).mpr ⟨it, m1, m2⟩⟩
      · intro A' hall g1 g2 g3 g4 g5 g6 g7 g8
        have hlow : ∀ x, x < U → sameN A A' x := fun x hx => (p3 x (by omega) (by omega)).tr (g3 x (by omega))
        obtain ⟨fa, fb⟩ := finI_app A' U rest _ (k + 1) g6
        rw [show k + 1 + (rest.length : Int) = A 100 18 by omega] at fb
        cases hmg : (mg α).1 β with
        | none =>
          obtain ⟨it, m1, m2⟩ := (mg_si A α β a b ho).mp hmg
          exact absurd m2 (hall it (List.mem_append.mpr (Or.inr m1)))
        | some γ =>
          obtain ⟨y1, y2⟩ := asm A A1 A' (q := A 100 18) hlow (g3 (U + k) (by omega)) q4 q5 q6 q7 (fun x hx => (q10 x hx).2) (p4.1.trans q11) (p4.2.trans q12) h4 hs hmg fb
          have egm : gm α β = γ := by unfold gm; rw [hmg]; rfl
          have hcs : ∀ x, cs A' U (k + 1) (rest ++ si A α β a b) x = cs A' U (k + 1) rest x + cs A' U (A 100 18) (si A α β a b) x := fun x => by rw [cs_app, show k + 1 + (rest.length : Int) = A 100 18 by omega]
          have hci : ∀ x, cI A1 (rest ++ si A α β a b) x = cI A rest x + cI A (si A α β a b) x := fun x => by rw [cI_app, r2, w2]
          refine hok A' (fun it hit => ?_) (p1.tr g1) g2 (fun x hx => (p3 x (by omega) (by omega)).tr (g3 x (by omega))) (by omega) g5 ⟨by rw [egm]; exact y1, fa⟩ (fun x hx => ?_) (fun x hx => ?_)
          · rcases List.mem_cons.mp hit with h | h
            · rw [h]; show (mg α).1 β ≠ none; rw [hmg]; simp
            · exact hall it (List.mem_append.mpr (Or.inl h))
          · have h1 := g7 x hx
            rw [hcs, hci] at h1
            have h2 := y2 x
            rw [if_neg (by omega)] at h2
            show (ct A' (gm α β)).1 (U + k) x + cs A' U (k + 1) rest x ≤ (ct A α).1 a x + (ct A β).1 b x + cI A rest x
            rw [egm]
            omega
          · have h1 := g8 x hx
            rw [hcs] at h1
            have h2 := y2 x
            have e1 : (ct A α).1 a x = 0 := Decidable.byContradiction (fun e => by have := q10 x (Or.inl e); omega)
            have e2 : (ct A β).1 b x = 0 := Decidable.byContradiction (fun e => by have := q10 x (Or.inr e); omega)
            show (ct A' (gm α β)).1 (U + k) x + cs A' U (k + 1) rest x ≤ _
            rw [egm]
            by_cases hxk : x = U + k
            · rw [if_pos hxk] at h2
              rw [if_neg (by omega)] at h1
              rw [if_pos (by omega)]
              omega
            · rw [if_neg hxk] at h2
              by_cases hin : U + (k + 1) ≤ x ∧ x < A' 100 4
              · rw [if_pos hin] at h1
                rw [if_pos (by omega)]
                omega
              · rw [if_neg hin] at h1
                omega
      refine r_if_ne (t := 54) 28 rfl (by decide) (by first | exact hA _ _ | exact ⟨by decide, by decide⟩ | assumption | exact ⟨by omega, by omega⟩) (fun c_49 => ?_) (fun c_49 => by omega)
      refine r_iinc 31 rfl rfl ?_
      refine r_goto (t := 15) 32 rfl (by decide) ?_
      exact nx
theorem c_T_merged {a b : Int} {α β : Tr} (hA : rga A) (u0 : 0 ≤ A 100 4) (ta : (tR A α).1 a) (tb : (tR A β).1 b) (wa : (wfP α).1) (wb : (wfP β).1) (la : (lkP α).1) (lb : (lkP β).1)
    (hnod : ∀ x, (ct A α).1 a x ≠ 0 ∨ (ct A β).1 b x ≠ 0 → 0 ≤ x ∧ x < A 100 4) (hL : A 100 4 + szT β ≤ 300)
    (hf : (mg α).1 β = none → ∀ A', frM A A' → rga A' → (∀ x, x < A 100 4 → sameN A A' x) → A 100 4 ≤ A' 100 4 → A' 100 4 ≤ A 100 4 + szT β → Q (.returned (some (iv (-1)))) (hp K.n A' R g t u))
    (hok : ∀ γ A', (mg α).1 β = some γ → frM A A' → rga A' → (∀ x, x < A 100 4 → sameN A A' x) → A 100 4 ≤ A' 100 4 → A' 100 4 ≤ A 100 4 + szT β → (tR A' γ).1 (A 100 4) → (∀ x, x < A 100 4 → (ct A' γ).1 (A 100 4) x ≤ (ct A α).1 a x + (ct A β).1 b x) → (∀ x, A 100 4 ≤ x → (ct A' γ).1 (A 100 4) x ≤ if x < A' 100 4 then 1 else 0) → Q (.returned (some (iv (A 100 4)))) (hp K.n A' R g t u)) :
    mx K M_T_merged (d + 3) [.ref (xa K.n 32), iv a, iv b] (hp K.n A R g t u) Q := by
  have ha := hnod a (Or.inl (by have := ct_self A α a; omega))
  have hb := hnod b (Or.inr (by have := ct_self A β b; omega))
  have szb := szT_pos β
  have hA0 : rga (au A 100 18 0) := rga_au hA rg_0
  have e4 : au A 100 18 0 100 4 = A 100 4 := au_ni _ _ _ (by decide)
  have e18 : au A 100 18 0 100 18 = 0 := au_same _ _ _ _
  generalize hU : A 100 4 = U at *
  generalize hC : ltF (au A 100 18 0) a b = C
  have Cr : ∀ (j : Nat) (i : Int), j ≠ 100 → C j i = if j = 121 ∧ i = 0 then U else if j = 108 ∧ 6 * U ≤ i ∧ i < 6 * U + 6 then 0 else if j = 107 ∧ i = U then 0 else if j = 106 ∧ i = U then A 106 a else if j = 105 ∧ i = U then A 105 a else if j = 120 ∧ i = 0 then b else if j = 119 ∧ i = 0 then a else A j i := fun j i h => by
    rw [← hC, lt_row _ _ _ _ _ h, e4, e18, au_ne _ _ _ _ (by decide), au_ne _ _ _ _ (by decide), au_ne _ _ _ _ h]
  have Csc : ∀ i, C 100 i = if i = 18 then 1 else if i = 4 then U + 1 else A 100 i := fun i => by
    rw [← hC, lt_sc, e4, e18]
    by_cases h18 : i = 18
    · rw [if_pos h18, if_pos h18]; rfl
    · rw [if_neg h18, if_neg h18, au_ni _ _ _ h18]
  have hAC : rga C := by rw [← hC]; exact rga_lt hA0 ⟨by omega, by omega⟩ ⟨by omega, by omega⟩ (by omega) (by omega) (by omega) (by omega)
  have hlow : ∀ x, x < U → sameN A C x := fun x hx => by
    refine ⟨?_, ?_, ?_, fun l l0 l1 => ⟨?_, ?_, ?_⟩⟩
    all_goals rw [Cr _ _ (by decide), if_neg (by omega), if_neg (by omega), if_neg (by omega), if_neg (by omega), if_neg (by omega), if_neg (by omega), if_neg (by omega)]
  have hfr : frM A C := fun j i g1 g2 g3 g4 g5 => by
    by_cases e : j = 100
    · subst e
      rw [Csc, if_neg (g5 rfl).2, if_neg (g5 rfl).1]
    · rw [Cr _ _ e, if_neg (by omega), if_neg (by omega), if_neg (by omega), if_neg (by omega), if_neg (by omega), if_neg (by omega), if_neg (by omega)]
  obtain ⟨a1, a2⟩ := (tR_frame A C α).1 a wa (fun x hx => hlow x (hnod x (Or.inl hx)).2) ta
  obtain ⟨b1, b2⟩ := (tR_frame A C β).1 b wb (fun x hx => hlow x (hnod x (Or.inr hx)).2) tb
  have hq : qI C U 0 [(α, β, a, b)] := by
    refine ⟨⟨?_, ?_, ?_⟩, ⟨a1, b1, wa, wb, la, lb⟩, fun x hx => hnod x (by rw [a2, b2] at hx; exact hx), ⟨?_, ?_, ?_, fun l l0 l1 => ?_⟩, trivial⟩
    · rw [Cr _ _ (by decide), if_neg (by omega), if_neg (by omega), if_neg (by omega), if_neg (by omega), if_neg (by omega), if_neg (by omega), if_pos ⟨rfl, rfl⟩]
    · rw [Cr _ _ (by decide), if_neg (by omega), if_neg (by omega), if_neg (by omega), if_neg (by omega), if_neg (by omega), if_pos ⟨rfl, rfl⟩]
    · rw [Cr _ _ (by decide), if_pos ⟨rfl, rfl⟩]; omega
    · rw [Int.add_zero, (hlow a ha.2).1, Cr _ _ (by decide), if_neg (by omega), if_neg (by omega), if_neg (by omega), if_neg (by omega), if_pos ⟨rfl, rfl⟩]
    · rw [Int.add_zero, (hlow a ha.2).2.1, Cr _ _ (by decide), if_neg (by omega), if_neg (by omega), if_neg (by omega), if_pos ⟨rfl, rfl⟩]
    · rw [Int.add_zero, Cr _ _ (by decide), if_neg (by omega), if_neg (by omega), if_pos ⟨rfl, rfl⟩]
    · rw [Int.add_zero, Cr _ _ (by decide), if_neg (by omega), if_pos (by omega)]
  have main := m_loop (K := K) (d := d) (Q := Q) (R := R) (g := g) (t := t) (u := u) (a0 := a) (b0 := b) (U := U) (Lim := U + szT β) u0 hL (szT α + 1) [(α, β, a, b)] 0 C (by show szT α + 0 < _; omega) hAC (by omega) (by rw [Csc, if_pos rfl]; rfl) (by rw [Csc, Csc, if_neg (by decide), if_pos rfl, if_pos rfl]) hq (by rw [Csc, if_neg (by decide), if_pos rfl]; show U + 1 + ((szT β + 0 : Nat) : Int) ≤ U + szT β + ((1 : Nat) : Int); omega)
    (fun A' h g1 g2 g3 g4 g5 => hf (by obtain ⟨it, m1, m2⟩ := h; rw [List.mem_singleton] at m1; rw [m1] at m2; exact m2) A' (hfr.tr g1) g2 (fun x hx => (hlow x hx).tr (g3 x hx)) g4 g5)
    (fun A' h g1 g2 g3 g4 g5 g6 g7 g8 => by
      have hne : (mg α).1 β ≠ none := h _ (List.mem_singleton.mpr rfl)
      rw [Csc, if_neg (by decide), if_pos rfl] at g4
      cases hmg : (mg α).1 β with
      | none => exact absurd hmg hne
      | some γ =>
        have egm : gm α β = γ := by unfold gm; rw [hmg]; rfl
        have f1 := g6.1
        rw [egm, Int.add_zero] at f1
        refine hok γ A' hmg (hfr.tr g1) g2 (fun x hx => (hlow x hx).tr (g3 x (by omega))) (by omega) g5 f1 (fun x hx => ?_) (fun x hx => ?_)
        · have := g7 x hx
          replace this : (ct A' (gm α β)).1 (U + 0) x + 0 ≤ (ct C α).1 a x + (ct C β).1 b x + 0 := this
          rw [egm, Int.add_zero, a2, b2] at this
          omega
        · have := g8 x hx
          replace this : (ct A' (gm α β)).1 (U + 0) x + 0 ≤ _ := this
          rw [egm, Int.add_zero] at this
          by_cases h2 : x < A' 100 4
          · rw [if_pos h2]; rw [if_pos (by omega)] at this; omega
          · rw [if_neg h2]; rw [if_neg (by omega)] at this; omega)
  refine mx_in ok_T_merged rfl (Nat.le_of_ble_eq_true rfl) ?_
  refine r_aload_n 0 rfl rfl ?_
  refine r_iconst 1 rfl ?_
  refine r_put 2 rfl f_T_166 (hp_at rfl) rfl rfl ?_
  rw [wT_18]
  refine r_aload_n 3 rfl rfl ?_
  refine r_iload_n 4 rfl rfl ?_
  refine r_iload_n 5 rfl rfl ?_
  refine r_callv2 6 rfl l_T_169 (hp_at rfl) (Nat.le_of_ble_eq_true rfl) ?_
  refine c_T_later hA0 ha.1 (by omega) ⟨by omega, by omega⟩ (by omega) (by omega) (by omega) (by omega) (cp1 ?_)
  rw [e4, hC]
  refine r_istore_n 7 rfl (Nat.le_of_ble_eq_true rfl) ?_
  refine r_iconst 8 rfl ?_
  refine r_istore 9 rfl (Nat.le_of_ble_eq_true rfl) ?_
  exact main
end TW39


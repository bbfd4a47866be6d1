/-! the class: calls of types; names, loose -/
def sel4 (τ : Tr) (a b c e : xm) : xm := match τ with
  | .leaf k => if k = 0 then a else b
  | .branch k _ _ => if k < 3 then c else e
section XN79
variable {K : xk} {M : xm} {d : Nat} {Q : Outcome → xh → Prop} {A : Nat → Int → Int} {R : Nat → Int → Value} {g : Nat → Nat × List Value} {t u : Nat}
section
variable {pc : Nat} {L : List (Option Value)} {st : List Value} {mE mV mL mM : xm} {x : MethodName} {lo t1 : Nat} {τ : Tr}
def lk4 (own : String) (idx n0 : Nat) (x : MethodName) (mE mV mL mM : xm) (n : Nat) : Prop := lku own idx n0 x mE n ∧ lku own idx (n0 + 1) x mV n ∧ lku own idx (n0 + 2) x mL n ∧ lku own idx (n0 + 3) x mM n
theorem r_callT0 (j : Nat) {idx b : Nat} (hd : M.t[j]? = some (pc, .invokevirtual idx, 3)) (hk : lk4 M.y.cls idx 3 x mE mV mL mM 0) (hb : K.n + 62 ≤ b) (hR : (gR g lo t1 τ).1 b) (hsum : (st.map fun v => v.category).sum ≤ 8) (hm : mx K (sel4 τ mE mV mL mM) d [.ref b] (hp K.n A R g t u) (cpost K M (d + 1) Q pc L st)) : wx K M (d + 1) Q pc L (.ref b :: st) (hp K.n A R g t u) := by
  cases τ with
  | leaf k =>
    rw [gR_lf] at hR
    unfold sel4 at hm
    by_cases e : k = 0
    · rw [if_pos e] at hR; dsimp only at hm; rw [if_pos e] at hm; exact r_callu0 j hd hk.1 (hpg hb hR.2) hsum hm
    · rw [if_neg e] at hR; dsimp only at hm; rw [if_neg e] at hm; exact r_callu0 j hd hk.2.1 (hpg hb hR.2) hsum hm
  | branch k l r =>
    rw [gR_br] at hR
    unfold sel4 at hm
    by_cases e : k < 3
    · rw [if_pos e] at hR; dsimp only at hm; rw [if_pos e] at hm
      obtain ⟨-, b', h1, -⟩ := hR
      exact r_callu0 j hd hk.2.2.1 (hpg hb h1) hsum hm
    · rw [if_neg e] at hR; dsimp only at hm; rw [if_neg e] at hm
      obtain ⟨-, b', h1, -⟩ := hR
      exact r_callu0 j hd hk.2.2.2 (hpg hb h1) hsum hm
theorem r_callT1 (j : Nat) {idx b : Nat} {v1 : Value} (hd : M.t[j]? = some (pc, .invokevirtual idx, 3)) (hk : lk4 M.y.cls idx 3 x mE mV mL mM 1) (hb : K.n + 62 ≤ b) (hR : (gR g lo t1 τ).1 b) (hsum : (st.map fun v => v.category).sum ≤ 8) (hm : mx K (sel4 τ mE mV mL mM) d [.ref b, v1] (hp K.n A R g t u) (cpost K M (d + 1) Q pc L st)) : wx K M (d + 1) Q pc L (v1 :: .ref b :: st) (hp K.n A R g t u) := by
  cases τ with
  | leaf k =>
    rw [gR_lf] at hR
    unfold sel4 at hm
    by_cases e : k = 0
    · rw [if_pos e] at hR; dsimp only at hm; rw [if_pos e] at hm; exact r_callu1 j hd hk.1 (hpg hb hR.2) hsum hm
    · rw [if_neg e] at hR; dsimp only at hm; rw [if_neg e] at hm; exact r_callu1 j hd hk.2.1 (hpg hb hR.2) hsum hm
  | branch k l r =>
    rw [gR_br] at hR
    unfold sel4 at hm
    by_cases e : k < 3
    · rw [if_pos e] at hR; dsimp only at hm; rw [if_pos e] at hm
      obtain ⟨-, b', h1, -⟩ := hR
      exact r_callu1 j hd hk.2.2.1 (hpg hb h1) hsum hm
    · rw [if_neg e] at hR; dsimp only at hm; rw [if_neg e] at hm
      obtain ⟨-, b', h1, -⟩ := hR
      exact r_callu1 j hd hk.2.2.2 (hpg hb h1) hsum hm
end
def bi (b : Bool) : Int := if b = true then 1 else 0
theorem bi_rg (b : Bool) : rg (bi b) := by unfold bi; split <;> exact ⟨by decide, by decide⟩
theorem bi_01 (b : Bool) : (b = true ∧ bi b = 1) ∨ (b = false ∧ bi b = 0) := by cases b; exact Or.inr ⟨rfl, rfl⟩; exact Or.inl ⟨rfl, rfl⟩
/-- names -/
theorem xn_all {r : Int} (hr : rg r) {lo t1 : Nat} (hlo : K.n + 62 ≤ lo) (τ : Tr) :
    (∀ (D a : Nat) (Q : Outcome → xh → Prop), (wfP τ).1 → szT τ + 1 ≤ D → (gR g lo t1 τ).1 a → Q (.returned (some (iv (bi (nmP r τ).1)))) (hp K.n A R g t u) → mx K (sel4 τ M_GlobalEnd_names M_GlobalVariable_names M_GlobalLoop_names M_GlobalMessage_names) D [.ref a, iv r] (hp K.n A R g t u) Q) ∧
    (∀ (D a : Nat) (v : Value) (any : Bool) (Q : Outcome → xh → Prop), (wfP τ).2 → szB τ + 2 ≤ D → (gR g lo t1 τ).2 v → Q (.returned (some (iv (bi (any || (nmP r τ).2))))) (hp K.n A R g t u) → wx K M_GlobalMessage_names D Q 27 [some (.ref a), some (iv r), some (iv (bi any)), some v] [] (hp K.n A R g t u)) := by
  induction τ with
  | leaf k =>
    refine ⟨fun D a Q hw hD hR hq => ?_, fun D a v any Q hw hD hR hq => ?_⟩
    · obtain ⟨d, rfl⟩ : ∃ d, D = d + 1 := ⟨D - 1, by omega⟩
      unfold sel4
      dsimp only
      by_cases e : k = 0
      · rw [if_pos e]
        refine mx_in ok_GlobalEnd_names rfl (Nat.le_of_ble_eq_true rfl) ?_
        refine r_iconst 0 rfl ?_
        refine r_iret 1 rfl rfl (by first | rfl | assumption) ?_
        exact hq
      · rw [if_neg e]
        refine mx_in ok_GlobalVariable_names rfl (Nat.le_of_ble_eq_true rfl) ?_
        refine r_iconst 0 rfl ?_
        refine r_iret 1 rfl rfl (by first | rfl | assumption) ?_
        exact hq
    · replace hR : v = .null := hR
      subst hR
      have hrb := bi_rg any
      replace hq : Q (.returned (some (iv (bi (any || false))))) (hp K.n A R g t u) := hq
      rw [Bool.or_false] at hq
      have hbn : narrow .boolean (iv (bi any)) = iv (bi any) := by cases any <;> rfl
      first | refine r_aload_n 15 rfl rfl ?_ | refine r_aload_nN 15 rfl rfl ?_
      refine r_ifnullN (t := 60) 16 rfl (by decide) ?_
      refine r_iload_n 32 rfl rfl ?_
      refine r_iret 33 rfl rfl (by first | rfl | assumption) ?_
      exact hq
  | branch k l q ihl ihq =>
    refine ⟨fun D a Q hw hD hR hq => ?_, fun D a v any Q hw hD hR hq => ?_⟩
    · rw [gR_br] at hR
      rw [wfT_br] at hw
      rw [nmT_br] at hq
      have hsz := szT_br k l q
      unfold sel4
      dsimp only
      obtain ⟨d, rfl⟩ : ∃ d, D = d + 1 := ⟨D - 1, by omega⟩
      have ha := hR.1.1
      by_cases h3 : k < 3
      · rw [if_pos h3] at hR hw hq hsz ⊢
        obtain ⟨-, b, h1, h2⟩ := hR
        have hbn : narrow .boolean (iv (bi (nmP r l).1)) = iv (bi (nmP r l).1) := by cases (nmP r l).1 <;> rfl
        have hbi := gR_in l h2
        refine mx_in ok_GlobalLoop_names rfl (Nat.le_of_ble_eq_true rfl) ?_
        refine r_aload_n 0 rfl rfl ?_
        refine r_getg 1 rfl f_GlobalLoop_13 (by omega) h1 rfl ?_
        refine r_iload_n 2 rfl rfl ?_
        refine r_callT1 3 rfl ⟨u_GlobalLoop_17_GlobalEnd, u_GlobalLoop_17_GlobalVariable, u_GlobalLoop_17_GlobalLoop, u_GlobalLoop_17_GlobalMessage⟩ (by omega) h2 (Nat.le_of_ble_eq_true rfl) ?_
        refine ihl.1 d b _ hw (by omega) h2 (cp1 ?_)
        refine r_iret 4 rfl rfl (by first | rfl | assumption) ?_
        exact hq
      · rw [if_neg h3] at hR hw hq hsz ⊢
        obtain ⟨-, v, h1, h2⟩ := hR
        have n21 := ihl.2 (d + 1) a v (decide ((((k - 3) % 4 : Nat) : Int) = r) || decide ((((k - 3) / 4 : Nat) : Int) = r)) Q hw.2.1 (by omega) h2 hq
        refine mx_in ok_GlobalMessage_names rfl (Nat.le_of_ble_eq_true rfl) ?_
        by_cases c1 : (((k - 3) % 4 : Nat) : Int) = r
        · rw [decide_eq_true c1, Bool.true_or] at n21
          cases l with
          | leaf k' =>
            replace h2 : v = .null := h2
            subst h2
            refine r_iload_n 0 rfl rfl ?_
            refine r_aload_n 1 rfl rfl ?_
            refine r_getg 2 rfl f_GlobalMessage_7 (by omega) h1 rfl ?_
            refine r_icmp_eq (t := 16) 3 rfl (by decide) (by first | exact hA _ _ | exact ⟨by decide, by decide⟩ | assumption | exact ⟨by omega, by omega⟩) (by first | exact hA _ _ | exact ⟨by decide, by decide⟩ | assumption | exact ⟨by omega, by omega⟩) (fun c_5 => ?_) (fun c_5 => by omega)
            refine r_iconst 8 rfl ?_
            refine r_goto (t := 21) 9 rfl (by decide) ?_
            refine r_istore_n 11 rfl (Nat.le_of_ble_eq_true rfl) ?_
            refine r_aload_n 12 rfl rfl ?_
            refine r_getg 13 rfl f_GlobalMessage_16 (by omega) h1 rfl ?_
            first | refine r_astore_n 14 rfl (Nat.le_of_ble_eq_true rfl) ?_ | refine r_astore_nN 14 rfl (Nat.le_of_ble_eq_true rfl) ?_
            exact n21
          | branch k' l' q' =>
            rw [gR_brB] at h2
            obtain ⟨b, c, w, e1, -⟩ := h2
            subst e1
            refine r_iload_n 0 rfl rfl ?_
            refine r_aload_n 1 rfl rfl ?_
            refine r_getg 2 rfl f_GlobalMessage_7 (by omega) h1 rfl ?_
            refine r_icmp_eq (t := 16) 3 rfl (by decide) (by first | exact hA _ _ | exact ⟨by decide, by decide⟩ | assumption | exact ⟨by omega, by omega⟩) (by first | exact hA _ _ | exact ⟨by decide, by decide⟩ | assumption | exact ⟨by omega, by omega⟩) (fun c_5 => ?_) (fun c_5 => by omega)
            refine r_iconst 8 rfl ?_
            refine r_goto (t := 21) 9 rfl (by decide) ?_
            refine r_istore_n 11 rfl (Nat.le_of_ble_eq_true rfl) ?_
            refine r_aload_n 12 rfl rfl ?_
            refine r_getg 13 rfl f_GlobalMessage_16 (by omega) h1 rfl ?_
            first | refine r_astore_n 14 rfl (Nat.le_of_ble_eq_true rfl) ?_ | refine r_astore_nN 14 rfl (Nat.le_of_ble_eq_true rfl) ?_
            exact n21
        · rw [decide_eq_false c1, Bool.false_or] at n21
          have n21' : wx K M_GlobalMessage_names (d + 1) Q 21 [some (.ref a), some (iv r), none, none] [iv (bi (decide ((((k - 3) / 4 : Nat) : Int) = r)))] (hp K.n A R g t u) := by
            cases l with
            | leaf k' =>
              replace h2 : v = .null := h2
              subst h2
              refine r_istore_n 11 rfl (Nat.le_of_ble_eq_true rfl) ?_
              refine r_aload_n 12 rfl rfl ?_
              refine r_getg 13 rfl f_GlobalMessage_16 (by omega) h1 rfl ?_
              first | refine r_astore_n 14 rfl (Nat.le_of_ble_eq_true rfl) ?_ | refine r_astore_nN 14 rfl (Nat.le_of_ble_eq_true rfl) ?_
              exact n21
            | branch k' l' q' =>
              rw [gR_brB] at h2
              obtain ⟨b, c, w, e1, -⟩ := h2
              subst e1
              refine r_istore_n 11 rfl (Nat.le_of_ble_eq_true rfl) ?_
              refine r_aload_n 12 rfl rfl ?_
              refine r_getg 13 rfl f_GlobalMessage_16 (by omega) h1 rfl ?_
              first | refine r_astore_n 14 rfl (Nat.le_of_ble_eq_true rfl) ?_ | refine r_astore_nN 14 rfl (Nat.le_of_ble_eq_true rfl) ?_
              exact n21
          by_cases c2 : (((k - 3) / 4 : Nat) : Int) = r
          · rw [decide_eq_true c2] at n21'
            refine r_iload_n 0 rfl rfl ?_
            refine r_aload_n 1 rfl rfl ?_
            refine r_getg 2 rfl f_GlobalMessage_7 (by omega) h1 rfl ?_
            refine r_icmp_eq (t := 16) 3 rfl (by decide) (by first | exact hA _ _ | exact ⟨by decide, by decide⟩ | assumption | exact ⟨by omega, by omega⟩) (by first | exact hA _ _ | exact ⟨by decide, by decide⟩ | assumption | exact ⟨by omega, by omega⟩) (fun c_5 => by omega) (fun c_5 => ?_)
            refine r_iload_n 4 rfl rfl ?_
            refine r_aload_n 5 rfl rfl ?_
            refine r_getg 6 rfl f_GlobalMessage_13 (by omega) h1 rfl ?_
            refine r_icmp_ne (t := 20) 7 rfl (by decide) (by first | exact hA _ _ | exact ⟨by decide, by decide⟩ | assumption | exact ⟨by omega, by omega⟩) (by first | exact hA _ _ | exact ⟨by decide, by decide⟩ | assumption | exact ⟨by omega, by omega⟩) (fun c_13 => by omega) (fun c_13 => ?_)
            refine r_iconst 8 rfl ?_
            refine r_goto (t := 21) 9 rfl (by decide) ?_
            exact n21'
          · rw [decide_eq_false c2] at n21'
            refine r_iload_n 0 rfl rfl ?_
            refine r_aload_n 1 rfl rfl ?_
            refine r_getg 2 rfl f_GlobalMessage_7 (by omega) h1 rfl ?_
            refine r_icmp_eq (t := 16) 3 rfl (by decide) (by first | exact hA _ _ | exact ⟨by decide, by decide⟩ | assumption | exact ⟨by omega, by omega⟩) (by first | exact hA _ _ | exact ⟨by decide, by decide⟩ | assumption | exact ⟨by omega, by omega⟩) (fun c_5 => by omega) (fun c_5 => ?_)
            refine r_iload_n 4 rfl rfl ?_
            refine r_aload_n 5 rfl rfl ?_
            refine r_getg 6 rfl f_GlobalMessage_13 (by omega) h1 rfl ?_
            refine r_icmp_ne (t := 20) 7 rfl (by decide) (by first | exact hA _ _ | exact ⟨by decide, by decide⟩ | assumption | exact ⟨by omega, by omega⟩) (by first | exact hA _ _ | exact ⟨by decide, by decide⟩ | assumption | exact ⟨by omega, by omega⟩) (fun c_13 => ?_) (fun c_13 => by omega)
            refine r_iconst 10 rfl ?_
            exact n21'
    · rw [gR_brB] at hR
      rw [wfB_br] at hw
      rw [nmB_br] at hq
      have hsz := szB_br k l q
      have hlp := szT_pos l
      obtain ⟨b, c, w, e1, e2, e3, e4, e5⟩ := hR
      subst e1
      have hci := gR_in l e4
      obtain ⟨d, rfl⟩ : ∃ d, D = d + 1 := ⟨D - 1, by omega⟩
      have hrb := bi_rg any
      rw [← Bool.or_assoc] at hq
      have nx := ihq.2 (d + 1) a w (any || (nmP r l).1) Q hw.2.2.2 (by omega) e5 hq
      have n51 : wx K M_GlobalMessage_names (d + 1) Q 51 [some (.ref a), some (iv r), some (iv (bi any)), some (.ref b)] [iv (bi (any || (nmP r l).1))] (hp K.n A R g t u) := by
        cases q with
        | leaf k' =>
          replace e5 : w = .null := e5
          subst e5
          refine r_istore_n 27 rfl (Nat.le_of_ble_eq_true rfl) ?_
          first | refine r_aload_n 28 rfl rfl ?_ | refine r_aload_nN 28 rfl rfl ?_
          refine r_getg 29 rfl f_GlobalMessage_30 (by omega) e3 rfl ?_
          first | refine r_astore_n 30 rfl (Nat.le_of_ble_eq_true rfl) ?_ | refine r_astore_nN 30 rfl (Nat.le_of_ble_eq_true rfl) ?_
          refine r_goto (t := 27) 31 rfl (by decide) ?_
          exact nx
        | branch k' l' q' =>
          rw [gR_brB] at e5
          obtain ⟨b', c', w', f1, -⟩ := e5
          subst f1
          refine r_istore_n 27 rfl (Nat.le_of_ble_eq_true rfl) ?_
          first | refine r_aload_n 28 rfl rfl ?_ | refine r_aload_nN 28 rfl rfl ?_
          refine r_getg 29 rfl f_GlobalMessage_30 (by omega) e3 rfl ?_
          first | refine r_astore_n 30 rfl (Nat.le_of_ble_eq_true rfl) ?_ | refine r_astore_nN 30 rfl (Nat.le_of_ble_eq_true rfl) ?_
          refine r_goto (t := 27) 31 rfl (by decide) ?_
          exact nx
      rcases bi_01 any with ⟨h1, h2⟩ | ⟨h1, h2⟩
      · rw [h1, Bool.true_or] at n51
        rw [h2] at hrb ⊢
        first | refine r_aload_n 15 rfl rfl ?_ | refine r_aload_nN 15 rfl rfl ?_
        refine r_ifnull 16 rfl ?_
        refine r_iload_n 17 rfl rfl ?_
        refine r_if_ne (t := 46) 18 rfl (by decide) (by first | exact hA _ _ | exact ⟨by decide, by decide⟩ | assumption | exact ⟨by omega, by omega⟩) (fun c_32 => ?_) (fun c_32 => by omega)
        refine r_iconst 24 rfl ?_
        refine r_goto (t := 51) 25 rfl (by decide) ?_
        exact n51
      · rw [h1, Bool.false_or] at n51
        rw [h2] at hrb ⊢
        have hrb2 := bi_rg (nmP r l).1
        rcases bi_01 (nmP r l).1 with ⟨k1, k2⟩ | ⟨k1, k2⟩
        · rw [k2] at n51
          first | refine r_aload_n 15 rfl rfl ?_ | refine r_aload_nN 15 rfl rfl ?_
          refine r_ifnull 16 rfl ?_
          refine r_iload_n 17 rfl rfl ?_
          refine r_if_ne (t := 46) 18 rfl (by decide) (by first | exact hA _ _ | exact ⟨by decide, by decide⟩ | assumption | exact ⟨by omega, by omega⟩) (fun c_32 => by omega) (fun c_32 => ?_)
          first | refine r_aload_n 19 rfl rfl ?_ | refine r_aload_nN 19 rfl rfl ?_
          refine r_getg 20 rfl f_GlobalMessage_20 (by omega) e3 rfl ?_
          refine r_iload_n 21 rfl rfl ?_
          refine r_callT1 22 rfl ⟨u_GlobalMessage_26_GlobalEnd, u_GlobalMessage_26_GlobalVariable, u_GlobalMessage_26_GlobalLoop, u_GlobalMessage_26_GlobalMessage⟩ (by omega) e4 (Nat.le_of_ble_eq_true rfl) ?_
          refine ihl.1 d c _ hw.2.2.1 (by omega) e4 (cp1 ?_)
          rw [k2]
          refine r_if_eq (t := 50) 23 rfl (by decide) (by first | exact hA _ _ | exact ⟨by decide, by decide⟩ | assumption | exact ⟨by omega, by omega⟩) (fun c_43 => by omega) (fun c_43 => ?_)
          refine r_iconst 24 rfl ?_
          refine r_goto (t := 51) 25 rfl (by decide) ?_
          exact n51
        · rw [k2] at n51
          first | refine r_aload_n 15 rfl rfl ?_ | refine r_aload_nN 15 rfl rfl ?_
          refine r_ifnull 16 rfl ?_
          refine r_iload_n 17 rfl rfl ?_
          refine r_if_ne (t := 46) 18 rfl (by decide) (by first | exact hA _ _ | exact ⟨by decide, by decide⟩ | assumption | exact ⟨by omega, by omega⟩) (fun c_32 => by omega) (fun c_32 => ?_)
          first | refine r_aload_n 19 rfl rfl ?_ | refine r_aload_nN 19 rfl rfl ?_
          refine r_getg 20 rfl f_GlobalMessage_20 (by omega) e3 rfl ?_
          refine r_iload_n 21 rfl rfl ?_
          refine r_callT1 22 rfl ⟨u_GlobalMessage_26_GlobalEnd, u_GlobalMessage_26_GlobalVariable, u_GlobalMessage_26_GlobalLoop, u_GlobalMessage_26_GlobalMessage⟩ (by omega) e4 (Nat.le_of_ble_eq_true rfl) ?_
          refine ihl.1 d c _ hw.2.2.1 (by omega) e4 (cp1 ?_)
          rw [k2]
          refine r_if_eq (t := 50) 23 rfl (by decide) (by first | exact hA _ _ | exact ⟨by decide, by decide⟩ | assumption | exact ⟨by omega, by omega⟩) (fun c_43 => ?_) (fun c_43 => by omega)
          refine r_iconst 26 rfl ?_
          exact n51
end XN79


/-! the class: part -/
section XP85
variable {K : xk} {A : Nat → Int → Int} {R : Nat → Int → Value}
def nw (t0 t : Nat) : Nat → Prop := fun x => t0 ≤ x ∧ x < t
def okPT (K : xk) (A : Nat → Int → Int) (R : Nat → Int → Value) (r : Int) (τ : Tr) : Prop := ∀ (D a lo t1 : Nat) (g : Nat → Nat × List Value) (t u : Nat) (Q : Outcome → xh → Prop), (wfP τ).1 → 2 * szT τ + 12 ≤ D → K.n + 62 ≤ lo → t1 ≤ t → (gR g lo t1 τ).1 a → bud K t u (7 * (wP τ).1 + 1) →
  (∀ e g' t' u', (pt r τ).1 = none → mgE K g t (7 * (wP τ).1) e g' t' u' → Q (.threw e) (hp K.n A R g' t' u')) →
  (∀ σ c g' t' u', (pt r τ).1 = some σ → mgS K g t (7 * (wP τ).1) g' t' u' → (lQ g' (nw t t') σ).1 c → Q (.returned (some (.ref c))) (hp K.n A R g' t' u')) →
  mx K (sel4 τ M_GlobalEnd_part M_GlobalVariable_part M_GlobalLoop_part M_GlobalMessage_part) D [.ref a, iv r] (hp K.n A R g t u) Q
/-- a choice is made, from a branch on -/
def okP1 (K : xk) (A : Nat → Int → Int) (R : Nat → Int → Value) (r : Int) (τ : Tr) : Prop := ∀ (D a ac lo t1 : Nat) (pre : Tr) (S : List Nat) (g : Nat → Nat × List Value) (t0 t u : Nat) (s p v : Value) (Q : Outcome → xh → Prop), (wfP τ).2 → 2 * szB τ + 13 ≤ D → K.n + 62 ≤ lo → t1 ≤ t0 → K.n + 62 ≤ t0 → t0 ≤ t → (∀ x, x ∈ S → t0 ≤ x ∧ x < t) → ac ∈ S → (gR g lo t1 τ).2 v → bL g (fun x => t0 ≤ x ∧ x < t ∧ x ∉ S) S ac s p pre → bud K t u (7 * swB τ + lenB τ + 1) →
  (∀ e g' t' u', (pt r τ).2.1 = none → (∀ x, x < t0 → g' x = g x) → g' e = (31, []) → K.n + 62 ≤ e → e < t' → t ≤ t' → t' ≤ t + (7 * swB τ + lenB τ) + 1 → u' + 7 * (K.n + 600128) ≤ 7301098 + 7 * t' → Q (.threw e) (hp K.n A R g' t' u')) →
  (∀ x g' t' u' S', (pt r τ).2.1 = some x → (∀ x, x < t0 → g' x = g x) → t ≤ t' → t' ≤ t + (7 * swB τ + lenB τ) → u' + 7 * (K.n + 600128) ≤ 7301098 + 7 * t' → (∀ x, x ∈ S' → t0 ≤ x ∧ x < t') → ac ∈ S' → bL g' (fun x => t0 ≤ x ∧ x < t' ∧ x ∉ S') S' ac s p (apL pre x) → Q (.returned (some (.ref ac))) (hp K.n A R g' t' u')) →
  wx K M_GlobalMessage_part D Q 108 [some (.ref a), some (iv r), some (.ref ac), some v] [] (hp K.n A R g t u)
/-- merged to what is before -/
def okP2 (K : xk) (A : Nat → Int → Int) (R : Nat → Int → Value) (r : Int) (τ : Tr) : Prop := ∀ (D a ca lo t1 : Nat) (σ : Tr) (g : Nat → Nat × List Value) (t0 t u : Nat) (v : Value) (Q : Outcome → xh → Prop), (wfP τ).2 → (wfP σ).1 → (lkP σ).1 → 2 * szB τ + szT σ + 13 ≤ D → K.n + 62 ≤ lo → t1 ≤ t0 → K.n + 62 ≤ t0 → t0 ≤ t → (gR g lo t1 τ).2 v → (lQ g (nw t0 t) σ).1 ca → bud K t u (7 * (swB τ + mcR τ) + 1) →
  (∀ e g' t' u', (pt r τ).2.2.1 σ = none → (∀ x, x < t0 → g' x = g x) → g' e = (31, []) → K.n + 62 ≤ e → e < t' → t ≤ t' → t' ≤ t + 7 * (swB τ + mcR τ) + 1 → u' + 7 * (K.n + 600128) ≤ 7301098 + 7 * t' → Q (.threw e) (hp K.n A R g' t' u')) →
  (∀ x c g' t' u', (pt r τ).2.2.1 σ = some x → (∀ x, x < t0 → g' x = g x) → t ≤ t' → t' ≤ t + 7 * (swB τ + mcR τ) → u' + 7 * (K.n + 600128) ≤ 7301098 + 7 * t' → (lQ g' (nw t0 t') x).1 c → Q (.returned (some (.ref c))) (hp K.n A R g' t' u')) →
  wx K M_GlobalMessage_part D Q 36 [some (.ref a), some (iv r), some (.ref ca), some v] [] (hp K.n A R g t u)
theorem gR_v {g : Nat → Nat × List Value} {lo t : Nat} (l : Tr) {v : Value} (h : (gR g lo t l).2 v) : v = .null ∨ ∃ b, v = .ref b := by
  cases l with
  | leaf k => exact Or.inl h
  | branch k l r => obtain ⟨b, -, -, e, -⟩ := h; exact Or.inr ⟨b, e⟩
theorem xp1_lf {r : Int} (k : Nat) : okP1 K A R r (.leaf k) := by
  intro D a ac lo t1 pre S g t0 t u s p v Q hw hD hlo ht1 ht0 ht hS hac hR hbL hb hn hs
  replace hR : v = .null := hR
  subst hR
  have fin := hs (.leaf 0) g t u S rfl (fun _ _ => rfl) (Nat.le_refl _) (by omega) hb.2.2 hS hac (by rw [bL_0 hbL]; exact hbL)
  first | refine r_aload_n 56 rfl rfl ?_ | refine r_aload_nN 56 rfl rfl ?_
  refine r_ifnullN (t := 140) 57 rfl (by decide) ?_
  first | refine r_aload_n 72 rfl rfl ?_ | refine r_aload_nN 72 rfl rfl ?_
  refine r_aret 73 rfl rfl (by first | exact Or.inl rfl | exact Or.inr ⟨_, rfl⟩) ?_
  exact fin
theorem xp2_lf {r : Int} (k : Nat) : okP2 K A R r (.leaf k) := by
  intro D a ca lo t1 σ g t0 t u v Q hw hws hls hD hlo ht1 ht0 ht hR hRσ hb hn hs
  replace hR : v = .null := hR
  subst hR
  have fin := hs σ ca g t u rfl (fun _ _ => rfl) (Nat.le_refl _) (by omega) hb.2.2 hRσ
  first | refine r_aload_n 18 rfl rfl ?_ | refine r_aload_nN 18 rfl rfl ?_
  refine r_ifnullN (t := 61) 19 rfl (by decide) ?_
  first | refine r_aload_n 31 rfl rfl ?_ | refine r_aload_nN 31 rfl rfl ?_
  refine r_aret 32 rfl rfl (by first | exact Or.inl rfl | exact Or.inr ⟨_, rfl⟩) ?_
  exact fin
theorem xp1_br {r : Int} (hr : rg r) {k : Nat} {τ q : Tr} (ihT : okPT K A R r τ) (ihq : okP1 K A R r q) : okP1 K A R r (.branch k τ q) := by
  intro D a ac lo t1 pre S g t0 t u s p v Q hw hD hlo ht1 ht0 ht hS hac hR hbL hb hn hs
  obtain ⟨d, rfl⟩ : ∃ d, D = d + 13 := ⟨D - 13, by omega⟩
  rw [wfB_br] at hw
  rw [gR_brB] at hR
  obtain ⟨b1, c, w, e1, e2, e3, e4, e5⟩ := hR
  subst e1
  have hci := gR_in τ e4
  have hsz := szB_br k τ q
  have hlen := lenB_br k τ q
  have hsw := swB_br k τ q
  obtain ⟨bb0, bb1, bb2⟩ := hb
  rw [ptM_br] at hn hs
  have hacS := hS ac hac
  obtain ⟨av, hav⟩ : ∃ av : Value × Value, g ac = (11, [s, p, av.1, av.2]) := by
    rcases hbL with ⟨-, h⟩ | ⟨fv, hb', h, -⟩
    · exact ⟨(_, _), h⟩
    · exact ⟨(_, _), h⟩
  have call : ∀ Q', mx K (sel4 τ M_GlobalEnd_part M_GlobalVariable_part M_GlobalLoop_part M_GlobalMessage_part) (d + 12) [.ref c, iv r] (hp K.n A R g t u) Q' → (∀ o h', Q' o h' → cpost K M_GlobalMessage_part (d + 13) Q 126 [some (.ref a), some (iv r), some (.ref ac), some (.ref b1)] [iv (k % 3 : Nat), iv (k / 3 : Nat), .ref ac] o h') → wx K M_GlobalMessage_part (d + 13) Q 108 [some (.ref a), some (iv r), some (.ref ac), some (.ref b1)] [] (hp K.n A R g t u) := by
    intro Q' hm hpost
    first | refine r_aload_n 56 rfl rfl ?_ | refine r_aload_nN 56 rfl rfl ?_
    refine r_ifnull 57 rfl ?_
    first | refine r_aload_n 58 rfl rfl ?_ | refine r_aload_nN 58 rfl rfl ?_
    first | refine r_aload_n 59 rfl rfl ?_ | refine r_aload_nN 59 rfl rfl ?_
    refine r_getg 60 rfl f_GlobalMessage_52 (by omega) e3 rfl ?_
    first | refine r_aload_n 61 rfl rfl ?_ | refine r_aload_nN 61 rfl rfl ?_
    refine r_getg 62 rfl f_GlobalMessage_55 (by omega) e3 rfl ?_
    first | refine r_aload_n 63 rfl rfl ?_ | refine r_aload_nN 63 rfl rfl ?_
    refine r_getg 64 rfl f_GlobalMessage_20 (by omega) e3 rfl ?_
    refine r_iload_n 65 rfl rfl ?_
    refine r_callT1 66 rfl ⟨u_GlobalMessage_37_GlobalEnd, u_GlobalMessage_37_GlobalVariable, u_GlobalMessage_37_GlobalLoop, u_GlobalMessage_37_GlobalMessage⟩ (by omega) e4 (Nat.le_of_ble_eq_true rfl) ?_
    refine mx_mono hm hpost
  refine call _ (ihT (d + 12) c lo t1 g t u (cpost K M_GlobalMessage_part (d + 13) Q 126 [some (.ref a), some (iv r), some (.ref ac), some (.ref b1)] [iv (k % 3 : Nat), iv (k / 3 : Nat), .ref ac]) hw.2.2.1 (by omega) hlo (by omega) e4 ⟨bb0, by omega, bb2⟩ (fun e g' t' u' k1 k2 => ?_) (fun σ c3 g1 t2 u1 k1 k2 k3 => cp1 ?_)) (fun _ _ h => h)
  · obtain ⟨q1, q2, q3, q4, q5⟩ := k2
    exact cpt rfl (hn e g' t' u' (by rw [k1]; rfl) (fun x hx => q1 x (by omega)) q2.1 q2.2.1 q2.2.2 q3 (by omega) q5)
  · obtain ⟨q1, q2, q3, q4⟩ := k2
    rw [k1] at hn hs
    replace hn : ∀ e g' t' u', (pt r q).2.1.map (fun b => (.branch k σ b : Tr)) = none → (∀ x, x < t0 → g' x = g x) → g' e = (31, []) → K.n + 62 ≤ e → e < t' → t ≤ t' → t' ≤ t + (7 * swB (.branch k τ q) + lenB (.branch k τ q)) + 1 → u' + 7 * (K.n + 600128) ≤ 7301098 + 7 * t' → Q (.threw e) (hp K.n A R g' t' u') := hn
    replace hs : ∀ x g' t' u' S', (pt r q).2.1.map (fun b => (.branch k σ b : Tr)) = some x → (∀ x, x < t0 → g' x = g x) → t ≤ t' → t' ≤ t + (7 * swB (.branch k τ q) + lenB (.branch k τ q)) → u' + 7 * (K.n + 600128) ≤ 7301098 + 7 * t' → (∀ x, x ∈ S' → t0 ≤ x ∧ x < t') → ac ∈ S' → bL g' (fun x => t0 ≤ x ∧ x < t' ∧ x ∉ S') S' ac s p (apL pre x) → Q (.returned (some (.ref ac))) (hp K.n A R g' t' u') := hs
    have hbL1 : bL g1 (fun x => t0 ≤ x ∧ x < t2 ∧ x ∉ S) S ac s p pre := bL_fr hac (fun x hx => ⟨⟨hx.1, by omega, hx.2.2⟩, q1 x hx.2.1⟩) (fun x hx => q1 x (by have := hS x hx; omega)) hbL
    have nx : ∀ g2, (∀ x, x < t2 → x ∉ S → g2 x = g1 x) → bL g2 (fun x => t0 ≤ x ∧ x < t2 ∧ x ∉ S) (t2 :: S) ac s p (apL pre (.branch k σ (.leaf 0))) → wx K M_GlobalMessage_part (d + 13) Q 132 [some (.ref a), some (iv r), some (.ref ac), some (.ref b1)] [] (hp K.n A R g2 (t2 + 1) (u1 + 4)) := fun g2 k4 k5 => by
      have g2o : ∀ x, x < t0 → g2 x = g x := fun x hx => by rw [k4 x (by omega) (fun h => by have := hS x h; omega)]; exact q1 x (by omega)
      have hS2 : ∀ x, x ∈ t2 :: S → t0 ≤ x ∧ x < t2 + 1 := fun x hx => by
        rcases List.mem_cons.mp hx with h | h
        · omega
        · have := hS x h; omega
      have n2 := ihq (d + 13) a ac lo t1 (apL pre (.branch k σ (.leaf 0))) (t2 :: S) g2 t0 (t2 + 1) (u1 + 4) s p w Q hw.2.2.2 (by omega) hlo ht1 ht0 (by omega) hS2 (List.mem_cons_of_mem _ hac) ((gR_fr (fun x _ hx => g2o x (by omega)) (Nat.le_refl _) (Nat.le_refl _) q).2 w e5) (bL_fr (List.mem_cons_of_mem _ hac) (fun x hx => ⟨⟨hx.1, by omega, fun h => by
          rcases List.mem_cons.mp h with h | h
          · omega
          · exact hx.2.2 h⟩, rfl⟩) (fun _ _ => rfl) k5) ⟨by omega, by omega, ubs q4 (by decide)⟩ (fun e g' t' u' z1 z2 z3 z4 z5 z6 z7 z8 => hn e g' t' u' (by rw [z1]; rfl) (fun x hx => by rw [z2 x hx]; exact g2o x hx) z3 z4 z5 (by omega) (by omega) z8) (fun x g' t' u' S' z1 z2 z3 z4 z5 z6 z7 z8 => hs (.branch k σ x) g' t' u' S' (by rw [z1]; rfl) (fun x hx => by rw [z2 x hx]; exact g2o x hx) (by omega) (by omega) z5 z6 z7 (by rw [apL_as] at z8; exact z8))
      have g2b : g2 b1 = (7, [iv (k / 3 : Nat), iv (k % 3 : Nat), .ref c, w]) := by rw [g2o b1 (Nat.lt_of_lt_of_le e2.2 ht1)]; exact e3
      rcases gR_v q e5 with f | ⟨b', f⟩
      · subst f
        first | refine r_aload_n 68 rfl rfl ?_ | refine r_aload_nN 68 rfl rfl ?_
        refine r_getg 69 rfl f_GlobalMessage_30 (by omega) g2b rfl ?_
        first | refine r_astore_n 70 rfl (Nat.le_of_ble_eq_true rfl) ?_ | refine r_astore_nN 70 rfl (Nat.le_of_ble_eq_true rfl) ?_
        refine r_goto (t := 108) 71 rfl (by decide) ?_
        exact n2
      · subst f
        first | refine r_aload_n 68 rfl rfl ?_ | refine r_aload_nN 68 rfl rfl ?_
        refine r_getg 69 rfl f_GlobalMessage_30 (by omega) g2b rfl ?_
        first | refine r_astore_n 70 rfl (Nat.le_of_ble_eq_true rfl) ?_ | refine r_astore_nN 70 rfl (Nat.le_of_ble_eq_true rfl) ?_
        refine r_goto (t := 108) 71 rfl (by decide) ?_
        exact n2
    have hav1 : g1 ac = (11, [s, p, av.1, av.2]) := by rw [q1 ac (by omega)]; exact hav
    refine r_callv3 67 rfl l_GlobalMessage_58 (hpg (by omega) hav1) (Nat.le_of_ble_eq_true rfl) ?_
    refine c_Choice_addB ⟨by omega, by omega, q4⟩ hac (fun x hx => by have := hS x hx; omega) (fun x hx => ⟨hx.2.1, hx.2.2⟩) hbL1 ((lQ_fr (fun x hx => ⟨⟨Nat.le_trans ht hx.1, hx.2, fun h => by have := hS x h; have := hx.1; omega⟩, rfl⟩) σ).1 c3 k3) (fun g2 k4 k5 => cp0 ?_)
    exact nx g2 k4 k5
theorem xp2_br {r : Int} (hr : rg r) {k : Nat} {τ q : Tr} (ihT : okPT K A R r τ) (ihq : okP2 K A R r q) : okP2 K A R r (.branch k τ q) := by
  intro D a ca lo t1 σ g t0 t u v Q hw hws hls hD hlo ht1 ht0 ht hR hRσ hb hn hs
  obtain ⟨d, rfl⟩ : ∃ d, D = d + 13 := ⟨D - 13, by omega⟩
  rw [wfB_br] at hw
  rw [gR_brB] at hR
  obtain ⟨b1, c, w, e1, e2, e3, e4, e5⟩ := hR
  subst e1
  have hci := gR_in τ e4
  have hsz := szB_br k τ q
  have hsw := swB_br k τ q
  have hmc := mcR_br k τ q
  obtain ⟨bb0, bb1, bb2⟩ := hb
  rw [ptA_br] at hn hs
  have call : ∀ Q', mx K (sel4 τ M_GlobalEnd_part M_GlobalVariable_part M_GlobalLoop_part M_GlobalMessage_part) (d + 12) [.ref c, iv r] (hp K.n A R g t u) Q' → (∀ o h', Q' o h' → cpost K M_GlobalMessage_part (d + 13) Q 46 [some (.ref a), some (iv r), some (.ref ca), some (.ref b1)] [.ref ca] o h') → wx K M_GlobalMessage_part (d + 13) Q 36 [some (.ref a), some (iv r), some (.ref ca), some (.ref b1)] [] (hp K.n A R g t u) := by
    intro Q' hm hpost
    first | refine r_aload_n 18 rfl rfl ?_ | refine r_aload_nN 18 rfl rfl ?_
    refine r_ifnull 19 rfl ?_
    first | refine r_aload_n 20 rfl rfl ?_ | refine r_aload_nN 20 rfl rfl ?_
    first | refine r_aload_n 21 rfl rfl ?_ | refine r_aload_nN 21 rfl rfl ?_
    refine r_getg 22 rfl f_GlobalMessage_20 (by omega) e3 rfl ?_
    refine r_iload_n 23 rfl rfl ?_
    refine r_callT1 24 rfl ⟨u_GlobalMessage_37_GlobalEnd, u_GlobalMessage_37_GlobalVariable, u_GlobalMessage_37_GlobalLoop, u_GlobalMessage_37_GlobalMessage⟩ (by omega) e4 (Nat.le_of_ble_eq_true rfl) ?_
    refine mx_mono hm hpost
  refine call _ (ihT (d + 12) c lo t1 g t u (cpost K M_GlobalMessage_part (d + 13) Q 46 [some (.ref a), some (iv r), some (.ref ca), some (.ref b1)] [.ref ca]) hw.2.2.1 (by omega) hlo (by omega) e4 ⟨bb0, by omega, bb2⟩ (fun e g' t' u' k1 k2 => ?_) (fun ρ c3 g1 t2 u1 k1 k2 k3 => cp1 ?_)) (fun _ _ h => h)
  · obtain ⟨q1, q2, q3, q4, q5⟩ := k2
    exact cpt rfl (hn e g' t' u' (by rw [k1]; rfl) (fun x hx => q1 x (by omega)) q2.1 q2.2.1 q2.2.2 q3 (by omega) q5)
  · obtain ⟨q1, q2, q3, q4⟩ := k2
    rw [k1] at hn hs
    replace hn : ∀ e g' t' u', ((mg σ).1 ρ).bind (pt r q).2.2.1 = none → (∀ x, x < t0 → g' x = g x) → g' e = (31, []) → K.n + 62 ≤ e → e < t' → t ≤ t' → t' ≤ t + 7 * (swB (.branch k τ q) + mcR (.branch k τ q)) + 1 → u' + 7 * (K.n + 600128) ≤ 7301098 + 7 * t' → Q (.threw e) (hp K.n A R g' t' u') := hn
    replace hs : ∀ x c g' t' u', ((mg σ).1 ρ).bind (pt r q).2.2.1 = some x → (∀ x, x < t0 → g' x = g x) → t ≤ t' → t' ≤ t + 7 * (swB (.branch k τ q) + mcR (.branch k τ q)) → u' + 7 * (K.n + 600128) ≤ 7301098 + 7 * t' → (lQ g' (nw t0 t') x).1 c → Q (.returned (some (.ref c))) (hp K.n A R g' t' u') := hs
    obtain ⟨wρ, lρ, zρ⟩ := (pt_ok r τ).1 hw.2.2.1 ρ k1
    have hRσ1 : (lQ g1 (nw t0 t2) σ).1 ca := (lQ_fr (fun x hx => ⟨⟨hx.1, Nat.lt_of_lt_of_le hx.2 q2⟩, q1 x hx.2⟩) σ).1 ca hRσ
    have hRρ1 : (lQ g1 (nw t0 t2) ρ).1 c3 := (lQ_fr (fun x hx => ⟨⟨Nat.le_trans ht hx.1, hx.2⟩, rfl⟩) ρ).1 c3 k3
    have hcai := lQ_in σ hRσ1
    have call2 : ∀ Q', mx K (sel4 σ M_End_merged M_Variable_merged M_Loop_merged M_Choice_merged) (d + 12) [.ref ca, .ref c3] (hp K.n A R g1 t2 u1) Q' → (∀ o h', Q' o h' → cpost K M_GlobalMessage_part (d + 13) Q 49 [some (.ref a), some (iv r), some (.ref ca), some (.ref b1)] [] o h') → wx K M_GlobalMessage_part (d + 13) Q 49 [some (.ref a), some (iv r), some (.ref ca), some (.ref b1)] [.ref c3, .ref ca] (hp K.n A R g1 t2 u1) := by
      intro Q' hm hpost
      have hca0 : K.n + 62 ≤ ca := Nat.le_trans ht0 hcai.1
      refine r_callL1 25 rfl ⟨u_GlobalMessage_41_End, u_GlobalMessage_41_Variable, u_GlobalMessage_41_Loop, u_GlobalMessage_41_Choice⟩ hca0 hRσ1 (Nat.le_of_ble_eq_true rfl) ?_
      refine mx_mono hm hpost
    refine call2 _ ((okMg_all σ).1 (d + 12) ca c3 ρ (nw t0 t2) g1 t2 u1 (cpost K M_GlobalMessage_part (d + 13) Q 49 [some (.ref a), some (iv r), some (.ref ca), some (.ref b1)] []) hws wρ hls lρ (by omega) (fun x hx => ⟨Nat.le_trans ht0 hx.1, hx.2⟩) hRσ1 hRρ1 ⟨by omega, by omega, q4⟩ (fun e g' t' u' y1 y2 => ?_) (fun γ c4 g' t' u' y1 y2 y3 => cp1 ?_)) (fun _ _ h => h)
    · obtain ⟨z1, z2, z3, z4, z5⟩ := y2
      exact cpt rfl (hn e g' t' u' (by rw [y1]; rfl) (fun x hx => by rw [z1 x (by omega)]; exact q1 x (by omega)) z2.1 z2.2.1 z2.2.2 (by omega) (by omega) z5)
    · obtain ⟨z1, z2, z3, z4⟩ := y2
      rw [y1] at hn hs
      replace hn : ∀ e g' t' u', (pt r q).2.2.1 γ = none → (∀ x, x < t0 → g' x = g x) → g' e = (31, []) → K.n + 62 ≤ e → e < t' → t ≤ t' → t' ≤ t + 7 * (swB (.branch k τ q) + mcR (.branch k τ q)) + 1 → u' + 7 * (K.n + 600128) ≤ 7301098 + 7 * t' → Q (.threw e) (hp K.n A R g' t' u') := hn
      replace hs : ∀ x c g' t' u', (pt r q).2.2.1 γ = some x → (∀ x, x < t0 → g' x = g x) → t ≤ t' → t' ≤ t + 7 * (swB (.branch k τ q) + mcR (.branch k τ q)) → u' + 7 * (K.n + 600128) ≤ 7301098 + 7 * t' → (lQ g' (nw t0 t') x).1 c → Q (.returned (some (.ref c))) (hp K.n A R g' t' u') := hs
      obtain ⟨wγ, zγ, lγ⟩ := (mg_ok σ).1 ρ γ hws wρ y1
      have g'o : ∀ x, x < t0 → g' x = g x := fun x hx => by rw [z1 x (by omega)]; exact q1 x (by omega)
      have hRγ : (lQ g' (nw t0 t') γ).1 c4 := (lQ_fr (fun x hx => ⟨by
        rcases hx with hx | hx
        · exact ⟨hx.1, Nat.lt_of_lt_of_le hx.2 z2⟩
        · exact ⟨by omega, hx.2⟩, rfl⟩) γ).1 c4 y3
      have n2 := ihq (d + 13) a c4 lo t1 γ g' t0 t' u' w Q hw.2.2.2 wγ (lγ hls lρ) (by omega) hlo ht1 ht0 (by omega) ((gR_fr (fun x _ hx => g'o x (by omega)) (Nat.le_refl _) (Nat.le_refl _) q).2 w e5) hRγ ⟨by omega, by omega, z4⟩ (fun e g2 t3 u3 x1 x2 x3 x4 x5 x6 x7 x8 => hn e g2 t3 u3 x1 (fun x hx => by rw [x2 x hx]; exact g'o x hx) x3 x4 x5 (by omega) (by omega) x8) (fun x c5 g2 t3 u3 x1 x2 x3 x4 x5 x6 => hs x c5 g2 t3 u3 x1 (fun x hx => by rw [x2 x hx]; exact g'o x hx) (by omega) (by omega) x5 x6)
      have g2b : g' b1 = (7, [iv (k / 3 : Nat), iv (k % 3 : Nat), .ref c, w]) := by rw [g'o b1 (Nat.lt_of_lt_of_le e2.2 ht1)]; exact e3
      rcases gR_v q e5 with f | ⟨b', f⟩
      · subst f
        first | refine r_astore_n 26 rfl (Nat.le_of_ble_eq_true rfl) ?_ | refine r_astore_nN 26 rfl (Nat.le_of_ble_eq_true rfl) ?_
        first | refine r_aload_n 27 rfl rfl ?_ | refine r_aload_nN 27 rfl rfl ?_
        refine r_getg 28 rfl f_GlobalMessage_30 (by omega) g2b rfl ?_
        first | refine r_astore_n 29 rfl (Nat.le_of_ble_eq_true rfl) ?_ | refine r_astore_nN 29 rfl (Nat.le_of_ble_eq_true rfl) ?_
        refine r_goto (t := 36) 30 rfl (by decide) ?_
        exact n2
      · subst f
        first | refine r_astore_n 26 rfl (Nat.le_of_ble_eq_true rfl) ?_ | refine r_astore_nN 26 rfl (Nat.le_of_ble_eq_true rfl) ?_
        first | refine r_aload_n 27 rfl rfl ?_ | refine r_aload_nN 27 rfl rfl ?_
        refine r_getg 28 rfl f_GlobalMessage_30 (by omega) g2b rfl ?_
        first | refine r_astore_n 29 rfl (Nat.le_of_ble_eq_true rfl) ?_ | refine r_astore_nN 29 rfl (Nat.le_of_ble_eq_true rfl) ?_
        refine r_goto (t := 36) 30 rfl (by decide) ?_
        exact n2
end XP85


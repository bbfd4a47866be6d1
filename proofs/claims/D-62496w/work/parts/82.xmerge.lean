/-! the class: merged -/
theorem apL_as : ∀ a b c : Tr, apL (apL a b) c = apL a (apL b c)
  | .leaf _, b, c => rfl
  | .branch k τ r, b, c => by rw [apL_br, apL_br, apL_br, apL_as r b c]
theorem bL_0 {g : Nat → Nat × List Value} {PP : Nat → Prop} {S : List Nat} {ac : Nat} {s p : Value} {pre : Tr} (h : bL g PP S ac s p pre) : apL pre (.leaf 0) = pre := by
  rcases h with ⟨h1, -⟩ | ⟨fv, hb, -, -, -, h2, -⟩
  · subst h1; rfl
  · have key : ∀ (pre : Tr) (v : Value), sg g PP S pre v hb → apL pre (.leaf 0) = pre := by
      intro pre
      induction pre with
      | leaf k => intro v h; exact absurd h id
      | branch k τ q _ ihq =>
        intro v h
        obtain ⟨b, c, w, -, -, -, -, e5⟩ := h
        rw [apL_br]
        rcases e5 with ⟨-, q0, -⟩ | ⟨-, e6⟩
        · subst q0; rfl
        · rw [ihq w e6]
    exact key pre fv h2
theorem bL_fr {g g' : Nat → Nat × List Value} {PP PP' : Nat → Prop} {S : List Nat} {ac : Nat} {s p : Value} {pre : Tr} (hac : ac ∈ S) (hP : ∀ x, PP x → PP' x ∧ g' x = g x) (hS : ∀ x, x ∈ S → g' x = g x) (h : bL g PP S ac s p pre) : bL g' PP' S ac s p pre := by
  rcases h with ⟨h1, h2⟩ | ⟨fv, hb, h1, h2, h3, h4, x, y, z, h5⟩
  · exact Or.inl ⟨h1, by rw [hS ac hac]; exact h2⟩
  · refine Or.inr ⟨fv, hb, by rw [hS ac hac]; exact h1, h2, h3, ?_, x, y, z, by rw [hS hb h2]; exact h5⟩
    have key : ∀ (pre : Tr) (v : Value), sg g PP S pre v hb → sg g' PP' S pre v hb := by
      intro pre
      induction pre with
      | leaf k => intro v h; exact h
      | branch k τ q _ ihq =>
        intro v h
        obtain ⟨b, c, w, e1, e2, e3, e4, e5⟩ := h
        refine ⟨b, c, w, e1, e2, by rw [hS b e2]; exact e3, (lQ_fr hP τ).1 c e4, ?_⟩
        rcases e5 with e5 | ⟨e5, e6⟩
        · exact Or.inl e5
        · exact Or.inr ⟨e5, ihq w e6⟩
    exact key pre fv h4
theorem wF_1 : ∀ l : Tr, wF (fun _ _ => 1) l = lenB l
  | .leaf _ => rfl
  | .branch k τ q => by rw [wF_br, lenB_br, wF_1 q]
theorem mgB_all : ∀ (r l' x : Tr), (mg r).2 true l' = some x → sF (fun _ _ => 1) l' r = lenB r
  | .leaf _, l', x, _ => rfl
  | .branch k τ q, l', x, h => by
    rw [mg_brB] at h
    rw [sF_br, lenB_br]
    cases hf : fdL l' (k / 3) with
    | none => rw [hf] at h; cases h
    | some p =>
      obtain ⟨k', τ'⟩ := p
      rw [hf] at h
      dsimp only at h ⊢
      split at h
      · cases h
      split at h
      · cases h
      cases hm : (mg q).2 true l' with
      | none => rw [hm] at h; cases h
      | some z => rw [mgB_all q l' z hm]
theorem flt_len0 (a : Tr) : ∀ l : Tr, lenB (flt a l) = 0 → flt a l = .leaf 0
  | .leaf _, _ => rfl
  | .branch k τ r, h => by
    rw [flt_br] at h ⊢
    split at h
    · rename_i e; rw [if_pos e]; exact flt_len0 a r h
    · rw [lenB_br] at h; omega
theorem flt_all (a : Tr) : ∀ l : Tr, flt a l = .leaf 0 → sF (fun _ _ => 1) a l = lenB l
  | .leaf _, _ => rfl
  | .branch k τ r, h => by
    rw [flt_br] at h
    rw [sF_br, lenB_br]
    split at h
    · rename_i e
      have hh := fdL_has a (k / 3)
      rw [e] at hh
      cases hf : fdL a (k / 3) with
      | none => rw [hf] at hh; cases hh
      | some p => dsimp only; rw [flt_all a r h]
    · cases h
theorem mg_len {l l' x : Tr} (hw : (wfP l).2) (hw' : (wfP l').2) (h : (mg l).2 true l' = some x) : lenB l = lenB l' ↔ flt l l' = .leaf 0 := by
  have h1 := sF_le (fun _ _ => 1) l hw l'
  rw [mgB_all l l' x h, wF_1, wF_1] at h1
  constructor
  · intro e
    exact flt_len0 l l' (by omega)
  · intro e
    have h2 := sF_le (fun _ _ => 1) l' hw' l
    rw [flt_all l l' e, wF_1, wF_1] at h2
    omega
section XM82
variable {K : xk} {A : Nat → Int → Int} {R : Nat → Int → Value}
/-- what merging keeps and takes -/
def mgE (K : xk) (g : Nat → Nat × List Value) (t n e : Nat) (g' : Nat → Nat × List Value) (t' u' : Nat) : Prop := (∀ x, x < t → g' x = g x) ∧ (g' e = (31, []) ∧ K.n + 62 ≤ e ∧ e < t') ∧ t ≤ t' ∧ t' ≤ t + n + 1 ∧ u' + 7 * (K.n + 600128) ≤ 7301098 + 7 * t'
def mgS (K : xk) (g : Nat → Nat × List Value) (t n : Nat) (g' : Nat → Nat × List Value) (t' u' : Nat) : Prop := (∀ x, x < t → g' x = g x) ∧ t ≤ t' ∧ t' ≤ t + n ∧ u' + 7 * (K.n + 600128) ≤ 7301098 + 7 * t'
theorem mgE_now {g : Nat → Nat × List Value} {t u n : Nat} (hb : bud K t u 1) : mgE K g t n t (gu g t (31, [])) (t + 1) (u + 6) := by
  obtain ⟨b0, b1, b2⟩ := hb
  exact ⟨fun x hx => gu_n g _ (by omega), ⟨gu_s _ _ _, b0, by omega⟩, by omega, by omega, ubs b2 (by decide)⟩
def okMg (K : xk) (A : Nat → Int → Int) (R : Nat → Int → Value) (α : Tr) : Prop := ∀ (D a b : Nat) (β : Tr) (P : Nat → Prop) (g : Nat → Nat × List Value) (t u : Nat) (Q : Outcome → xh → Prop), (wfP α).1 → (wfP β).1 → (lkP α).1 → (lkP β).1 → szT α + 8 ≤ D → (∀ x, P x → K.n + 62 ≤ x ∧ x < t) → (lQ g P α).1 a → (lQ g P β).1 b → bud K t u (7 * szT β + 1) →
  (∀ e g' t' u', (mg α).1 β = none → mgE K g t (7 * szT β) e g' t' u' → Q (.threw e) (hp K.n A R g' t' u')) →
  (∀ γ c g' t' u', (mg α).1 β = some γ → mgS K g t (7 * szT β) g' t' u' → (lQ g' (fun x => P x ∨ (t ≤ x ∧ x < t')) γ).1 c → Q (.returned (some (.ref c))) (hp K.n A R g' t' u')) →
  mx K (sel4 α M_End_merged M_Variable_merged M_Loop_merged M_Choice_merged) D [.ref a, .ref b] (hp K.n A R g t u) Q
/-- the first loop, from a branch on -/
def okM1 (K : xk) (A : Nat → Int → Int) (R : Nat → Int → Value) (r : Tr) : Prop := ∀ (D a b ac : Nat) (sb : Bool) (l' pre : Tr) (P : Nat → Prop) (S : List Nat) (g : Nat → Nat × List Value) (t0 t u : Nat) (v va za vb zb s2 p2 : Value) (pn : Value) (Q : Outcome → xh → Prop), (wfP r).2 → (wfP l').2 → (lkP r).2 → (lkP l').2 → szB r + 9 ≤ D → (∀ x, P x → K.n + 62 ≤ x ∧ x < t0) → K.n + 62 ≤ t0 → t0 ≤ t → (∀ x, x ∈ S → t0 ≤ x ∧ x < t) → ac ∈ S → P a → P b → g a = (11, [iv (bi sb), pn, va, za]) → g b = (11, [s2, p2, vb, zb]) → (lQ g P l').2 vb → (lQ g P r).2 v → bL g (fun x => P x ∨ (t0 ≤ x ∧ x < t ∧ x ∉ S)) S ac (iv (bi sb)) pn pre → bud K t u (lenB r + 7 * sF (fun _ τ => szT τ) l' r + 1) →
  (∀ e g' t' u', (mg r).2 sb l' = none → (∀ x, x < t0 → g' x = g x) → g' e = (31, []) → K.n + 62 ≤ e → e < t' → t ≤ t' → t' ≤ t + (lenB r + 7 * sF (fun _ τ => szT τ) l' r) + 1 → u' + 7 * (K.n + 600128) ≤ 7301098 + 7 * t' → Q (.threw e) (hp K.n A R g' t' u')) →
  (∀ x g' t' u' S', (mg r).2 sb l' = some x → (∀ x, x < t0 → g' x = g x) → t ≤ t' → t' ≤ t + (lenB r + 7 * sF (fun _ τ => szT τ) l' r) → u' + 7 * (K.n + 600128) ≤ 7301098 + 7 * t' → (∀ x, x ∈ S' → t0 ≤ x ∧ x < t') → ac ∈ S' → bL g' (fun x => P x ∨ (t0 ≤ x ∧ x < t' ∧ x ∉ S')) S' ac (iv (bi sb)) pn (apL pre x) → wx K M_Choice_merged D Q 174 [some (.ref a), some (.ref b), some (.ref b), some (.ref ac), none, none] [] (hp K.n A R g' t' u')) →
  wx K M_Choice_merged D Q 72 [some (.ref a), some (.ref b), some (.ref b), some (.ref ac), some v, none] [] (hp K.n A R g t u)
theorem xm1_lf (k : Nat) : okM1 K A R (.leaf k) := by
  intro D a b ac sb l' pre P S g t0 t u v va za vb zb s2 p2 pn Q hw hw' hlk hlk' hD hP ht0 ht hS hac hPa hPb hga hgb hl' hR hbL hb hn hs
  replace hR : v = .null := hR
  subst hR
  have nx := hs (.leaf 0) g t u S rfl (fun _ _ => rfl) (Nat.le_refl _) (by omega) hb.2.2 hS hac (by rw [bL_0 hbL]; exact hbL)
  have hnx : wx K M_Choice_merged D Q 174 [some (.ref a), some (.ref b), some (.ref b), some (.ref ac), some .null, none] [] (hp K.n A R g t u) := wx_t (pre := [some (.ref a), some (.ref b), some (.ref b), some (.ref ac)]) (tl := [some .null, none]) nx
  first | refine r_aload 35 rfl rfl ?_ | refine r_aloadN 35 rfl rfl ?_
  refine r_ifnullN (t := 174) 36 rfl (by decide) ?_
  exact hnx
theorem xm1_br {k : Nat} {τ q : Tr} (ihτ : okMg K A R τ) (ihq : okM1 K A R q) : okM1 K A R (.branch k τ q) := by
  intro D a b ac sb l' pre P S g t0 t u v va za vb zb s2 p2 pn Q hw hw' hlk hlk' hD hP ht0 ht hS hac hPa hPb hga hgb hl' hR hbL hb hn hs
  obtain ⟨d, rfl⟩ : ∃ d, D = d + 9 := ⟨D - 9, by omega⟩
  rw [wfB_br] at hw
  rw [lkB_br] at hlk
  rw [lQ_brB] at hR
  obtain ⟨b1, c, w, e1, e2, e3, e4, e5⟩ := hR
  subst e1
  have hPb1 := hP b1 e2
  have hPa' := hP a hPa
  have hPb' := hP b hPb
  have hacS := hS ac hac
  have hsz := szB_br k τ q
  have hlen := lenB_br k τ q
  obtain ⟨bb0, bb1, bb2⟩ := hb
  rw [mg_brB] at hn hs
  -- behind the add: the rest
  have rest : ∀ (σ : Tr) (g1 : Nat → Nat × List Value) (t1 u1 n1 : Nat) (v5 : Value), (∀ x, x < t → x ∉ S → g1 x = g x) → t + 1 ≤ t1 → t1 ≤ t + n1 + 1 → n1 + (lenB q + 7 * sF (fun _ τ => szT τ) l' q) + 1 ≤ lenB (.branch k τ q) + 7 * sF (fun _ τ => szT τ) l' (.branch k τ q) → u1 + 7 * (K.n + 600128) ≤ 7301098 + 7 * t1 →
      bL g1 (fun x => P x ∨ (t0 ≤ x ∧ x < t1 - 1 ∧ x ∉ S)) ((t1 - 1) :: S) ac (iv (bi sb)) pn (apL pre (.branch k σ (.leaf 0))) →
      ((mg q).2 sb l' = none → ∀ e g' t' u', (∀ x, x < t0 → g' x = g x) → g' e = (31, []) → K.n + 62 ≤ e → e < t' → t ≤ t' → t' ≤ t1 + (lenB q + 7 * sF (fun _ τ => szT τ) l' q) + 1 → u' + 7 * (K.n + 600128) ≤ 7301098 + 7 * t' → Q (.threw e) (hp K.n A R g' t' u')) →
      (∀ x, (mg q).2 sb l' = some x → ∀ g' t' u' S', (∀ x, x < t0 → g' x = g x) → t ≤ t' → t' ≤ t1 + (lenB q + 7 * sF (fun _ τ => szT τ) l' q) → u' + 7 * (K.n + 600128) ≤ 7301098 + 7 * t' → (∀ x, x ∈ S' → t0 ≤ x ∧ x < t') → ac ∈ S' → bL g' (fun x => P x ∨ (t0 ≤ x ∧ x < t' ∧ x ∉ S')) S' ac (iv (bi sb)) pn (apL pre (.branch k σ x)) → wx K M_Choice_merged (d + 9) Q 174 [some (.ref a), some (.ref b), some (.ref b), some (.ref ac), none, none] [] (hp K.n A R g' t' u')) →
      wx K M_Choice_merged (d + 9) Q 164 [some (.ref a), some (.ref b), some (.ref b), some (.ref ac), some (.ref b1), some v5] [] (hp K.n A R g1 t1 u1) := by
    intro σ g1 t1 u1 n1 v5 h1 h2 h3 h3' h4 h5 h6 h7
    have hS1 : ∀ x, x ∈ (t1 - 1) :: S → t0 ≤ x ∧ x < t1 := fun x hx => by
      rcases List.mem_cons.mp hx with h | h
      · omega
      · have := hS x h; omega
    have hSP : ∀ x, P x → x ∉ S := fun x hx h => by have := hS x h; have := hP x hx; omega
    have g1P : ∀ x, P x → g1 x = g x := fun x hx => h1 x (by have := hP x hx; omega) (hSP x hx)
    have nx := ihq (d + 9) a b ac sb l' (apL pre (.branch k σ (.leaf 0))) P ((t1 - 1) :: S) g1 t0 t1 u1 w va za vb zb s2 p2 pn Q hw.2.2.2 hw' hlk.2 hlk' (by omega) hP ht0 (by omega) hS1 (List.mem_cons_of_mem _ hac) hPa hPb (by rw [g1P a hPa]; exact hga) (by rw [g1P b hPb]; exact hgb) ((lQ_fr (fun x hx => ⟨hx, g1P x hx⟩) l').2 vb hl') ((lQ_fr (fun x hx => ⟨hx, g1P x hx⟩) q).2 w e5) (bL_fr (List.mem_cons_of_mem _ hac) (fun x hx => ⟨?_, rfl⟩) (fun _ _ => rfl) h5) ⟨by omega, ?_, h4⟩ (fun e g' t' u' k1 k2 k3 k4 k5 k6 k7 k8 => h6 k1 e g' t' u' (fun x hx => by rw [k2 x hx]; exact h1 x (by omega) (fun h => by have := hS x h; omega)) k3 k4 k5 (by omega) k7 k8) (fun x g' t' u' S' k1 k2 k3 k4 k5 k6 k7 k8 => h7 x k1 g' t' u' S' (fun x hx => by rw [k2 x hx]; exact h1 x (by omega) (fun h => by have := hS x h; omega)) (by omega) k4 k5 k6 k7 (by rw [apL_as] at k8; exact k8))
    · have g1b : g1 b1 = (12, [iv (k / 3 : Nat), iv (k % 3 : Nat), .ref c, w]) := by rw [g1P b1 e2]; exact e3
      rcases lQ_v q e5 with f | ⟨b', f⟩
      · subst f
        have hnx : wx K M_Choice_merged (d + 9) Q 72 [some (.ref a), some (.ref b), some (.ref b), some (.ref ac), some .null, some v5] [] (hp K.n A R g1 t1 u1) := wx_t (pre := [some (.ref a), some (.ref b), some (.ref b), some (.ref ac), some .null]) (tl := [some v5]) nx
        first | refine r_aload 73 rfl rfl ?_ | refine r_aloadN 73 rfl rfl ?_
        refine r_getg 74 rfl f_Choice_29 (by omega) g1b rfl ?_
        first | refine r_astore 75 rfl (Nat.le_of_ble_eq_true rfl) ?_ | refine r_astoreN 75 rfl (Nat.le_of_ble_eq_true rfl) ?_
        refine r_goto (t := 72) 76 rfl (by decide) ?_
        exact hnx
      · subst f
        have hnx : wx K M_Choice_merged (d + 9) Q 72 [some (.ref a), some (.ref b), some (.ref b), some (.ref ac), some (.ref b'), some v5] [] (hp K.n A R g1 t1 u1) := wx_t (pre := [some (.ref a), some (.ref b), some (.ref b), some (.ref ac), some (.ref b')]) (tl := [some v5]) nx
        first | refine r_aload 73 rfl rfl ?_ | refine r_aloadN 73 rfl rfl ?_
        refine r_getg 74 rfl f_Choice_29 (by omega) g1b rfl ?_
        first | refine r_astore 75 rfl (Nat.le_of_ble_eq_true rfl) ?_ | refine r_astoreN 75 rfl (Nat.le_of_ble_eq_true rfl) ?_
        refine r_goto (t := 72) 76 rfl (by decide) ?_
        exact hnx
    · rcases hx with hx | hx
      · exact Or.inl hx
      · refine Or.inr ⟨hx.1, by omega, fun h => ?_⟩
        rcases List.mem_cons.mp h with h | h
        · omega
        · exact hx.2.2 h
    · omega
  have hrb := bi_rg sb
  have hlab : k / 3 < 6 := hw.1
  have hSP : ∀ x, P x → x ∉ S := fun x hx h => by have := hS x h; have := hP x hx; omega
  have hPn : ∀ x, P x → K.n + 62 ≤ x := fun x hx => (hP x hx).1
  cases hf : fdL l' (k / 3) with
  | none =>
    have hN : sF (fun _ τ => szT τ) l' (.branch k τ q) = sF (fun _ τ => szT τ) l' q := by rw [sF_br, hf]; exact Nat.zero_add _
    rw [hf] at hn hs
    dsimp only at hn hs
    have n86 : wx K M_Choice_merged (d + 9) Q 86 [some (.ref a), some (.ref b), some (.ref b), some (.ref ac), some (.ref b1), none] [.null] (hp K.n A R g t u) := by
      rcases bi_01 sb with ⟨h1, h2⟩ | ⟨h1, h2⟩
      · subst h1
        rw [if_pos rfl] at hn
        have fin := hn t (gu g t (31, [])) (t + 1) (u + 6) rfl (fun x hx => gu_n g _ (by omega)) (gu_s _ _ _) bb0 (by omega) (by omega) (by omega) (ubs bb2 (by decide))
        first | refine r_astore 41 rfl (Nat.le_of_ble_eq_true rfl) ?_ | refine r_astoreN 41 rfl (Nat.le_of_ble_eq_true rfl) ?_
        first | refine r_aload 42 rfl rfl ?_ | refine r_aloadN 42 rfl rfl ?_
        refine r_ifnonnullN 43 rfl ?_
        refine r_aload_n 44 rfl rfl ?_
        refine r_getg 45 rfl f_Choice_7 (by omega) hga rfl ?_
        refine r_if_eq (t := 124) 46 rfl (by decide) (by first | exact hA _ _ | exact ⟨by decide, by decide⟩ | assumption | exact ⟨by omega, by omega⟩) (fun c_97 => by omega) (fun c_97 => ?_)
        refine r_goto (t := 116) 47 rfl (by decide) ?_
        refine r_throwg 53 rfl rfl rfl rfl t_Choice_35 rfl (Nat.le_of_ble_eq_true rfl) (by omega) (by omega) (by omega) (by omega) ?_
        exact fin
      · subst h1
        rw [if_neg (by decide)] at hn hs
        have nx : ∀ g1, (∀ x, x < t → x ∉ S → g1 x = g x) → bL g1 (fun x => P x ∨ (t0 ≤ x ∧ x < t ∧ x ∉ S)) (t :: S) ac (iv (bi false)) pn (apL pre (.branch k τ (.leaf 0))) → wx K M_Choice_merged (d + 9) Q 164 [some (.ref a), some (.ref b), some (.ref b), some (.ref ac), some (.ref b1), some .null] [] (hp K.n A R g1 (t + 1) (u + 4)) := fun g1 k1 k2 => by
          refine rest τ g1 (t + 1) (u + 4) 0 .null k1 (by omega) (by omega) (by omega) (ubs bb2 (by decide)) k2 (fun k3 e g' t' u' q1 q2 q3 q4 q5 q6 q7 => hn e g' t' u' (by rw [k3]; rfl) q1 q2 q3 q4 q5 (by omega) q7) (fun x k3 g' t' u' S' q1 q2 q3 q4 q5 q6 q7 => hs (.branch k τ x) g' t' u' S' (by rw [k3]; rfl) q1 q2 (by omega) q4 q5 q6 q7)
        obtain ⟨av, hav⟩ : ∃ av : Value × Value, g ac = (11, [iv (bi false), pn, av.1, av.2]) := by
          rcases hbL with ⟨-, h⟩ | ⟨fv, hb', h, -⟩
          · exact ⟨(_, _), h⟩
          · exact ⟨(_, _), h⟩
        first | refine r_astore 41 rfl (Nat.le_of_ble_eq_true rfl) ?_ | refine r_astoreN 41 rfl (Nat.le_of_ble_eq_true rfl) ?_
        first | refine r_aload 42 rfl rfl ?_ | refine r_aloadN 42 rfl rfl ?_
        refine r_ifnonnullN 43 rfl ?_
        refine r_aload_n 44 rfl rfl ?_
        refine r_getg 45 rfl f_Choice_7 (by omega) hga rfl ?_
        refine r_if_eq (t := 124) 46 rfl (by decide) (by first | exact hA _ _ | exact ⟨by decide, by decide⟩ | assumption | exact ⟨by omega, by omega⟩) (fun c_97 => ?_) (fun c_97 => by omega)
        first | refine r_aload_n 57 rfl rfl ?_ | refine r_aload_nN 57 rfl rfl ?_
        first | refine r_aload 58 rfl rfl ?_ | refine r_aloadN 58 rfl rfl ?_
        refine r_getg 59 rfl f_Choice_32 (by omega) e3 rfl ?_
        first | refine r_aload 60 rfl rfl ?_ | refine r_aloadN 60 rfl rfl ?_
        refine r_getg 61 rfl f_Choice_45 (by omega) e3 rfl ?_
        first | refine r_aload 62 rfl rfl ?_ | refine r_aloadN 62 rfl rfl ?_
        refine r_ifnonnullN 63 rfl ?_
        first | refine r_aload 64 rfl rfl ?_ | refine r_aloadN 64 rfl rfl ?_
        refine r_getg 65 rfl f_Choice_48 (by omega) e3 rfl ?_
        refine r_goto (t := 161) 66 rfl (by decide) ?_
        refine r_callv3 72 rfl l_Choice_56 (hpg (by omega) hav) (Nat.le_of_ble_eq_true rfl) ?_
        refine c_Choice_addB ⟨bb0, by omega, bb2⟩ hac (fun x hx => by have := hS x hx; omega) (fun x hx => by rcases hx with hx | hx; exact ⟨by have := hP x hx; omega, hSP x hx⟩; exact ⟨hx.2.1, hx.2.2⟩) hbL ((lQ_fr (fun x hx => ⟨Or.inl hx, rfl⟩) τ).1 c e4) (fun g1 k1 k2 => cp0 ?_)
        exact nx g1 k1 k2
    first | refine r_aload 35 rfl rfl ?_ | refine r_aloadN 35 rfl rfl ?_
    refine r_ifnull 36 rfl ?_
    first | refine r_aload_n 37 rfl rfl ?_ | refine r_aload_nN 37 rfl rfl ?_
    first | refine r_aload 38 rfl rfl ?_ | refine r_aloadN 38 rfl rfl ?_
    refine r_getg 39 rfl f_Choice_32 (by omega) e3 rfl ?_
    refine r_callv1 40 rfl l_Choice_41 (hpg (by omega) hgb) (Nat.le_of_ble_eq_true rfl) ?_
    refine c_Choice_of hPn (by omega) hlab hw' hgb hl' (fun _ => cp1 ?_) (fun k' τ' b2 c2 w2 h => absurd (hf.symm.trans h) (by intro h; cases h))
    exact n86
  | some pr =>
    obtain ⟨k', τ'⟩ := pr
    have hN : sF (fun _ τ => szT τ) l' (.branch k τ q) = szT τ' + sF (fun _ τ => szT τ) l' q := by rw [sF_br, hf]
    rw [hf] at hn hs
    dsimp only at hn hs
    obtain ⟨wτ', hk', -, hlk2⟩ := fd_wf l' (k / 3) k' τ' hw' hf
    have body : ∀ (b2 c2 : Nat) (w2 : Value), g b2 = (12, [iv (k' / 3 : Nat), iv (k' % 3 : Nat), .ref c2, w2]) → (lQ g P τ').1 c2 → P b2 → wx K M_Choice_merged (d + 9) Q 86 [some (.ref a), some (.ref b), some (.ref b), some (.ref ac), some (.ref b1), none] [.ref b2] (hp K.n A R g t u) := by
      intro b2 c2 w2 f1 f2 f3
      have hPb2 := hP b2 f3
      by_cases c1 : k' % 3 ≠ k % 3
      · rw [if_pos c1] at hn
        have fin := hn t (gu g t (31, [])) (t + 1) (u + 6) rfl (fun x hx => gu_n g _ (by omega)) (gu_s _ _ _) bb0 (by omega) (by omega) (by omega) (ubs bb2 (by decide))
        first | refine r_astore 41 rfl (Nat.le_of_ble_eq_true rfl) ?_ | refine r_astoreN 41 rfl (Nat.le_of_ble_eq_true rfl) ?_
        first | refine r_aload 42 rfl rfl ?_ | refine r_aloadN 42 rfl rfl ?_
        refine r_ifnonnull (t := 103) 43 rfl (by decide) ?_
        first | refine r_aload 48 rfl rfl ?_ | refine r_aloadN 48 rfl rfl ?_
        refine r_getg 49 rfl f_Choice_45 (by omega) f1 rfl ?_
        first | refine r_aload 50 rfl rfl ?_ | refine r_aloadN 50 rfl rfl ?_
        refine r_getg 51 rfl f_Choice_45 (by omega) e3 rfl ?_
        refine r_icmp_eq (t := 124) 52 rfl (by decide) (by first | exact hA _ _ | exact ⟨by decide, by decide⟩ | assumption | exact ⟨by omega, by omega⟩) (by first | exact hA _ _ | exact ⟨by decide, by decide⟩ | assumption | exact ⟨by omega, by omega⟩) (fun c_113 => by omega) (fun c_113 => ?_)
        refine r_throwg 53 rfl rfl rfl rfl t_Choice_35 rfl (Nat.le_of_ble_eq_true rfl) (by omega) (by omega) (by omega) (by omega) ?_
        exact fin
      · rw [if_neg c1] at hn hs
        have hPc := hP c (lQ_in τ e4)
        have hPc2 := hP c2 (lQ_in τ' f2)
        have hav0 : ∃ av : Value × Value, g ac = (11, [iv (bi sb), pn, av.1, av.2]) := by
          rcases hbL with ⟨-, h⟩ | ⟨fv, hb', h, -⟩
          · exact ⟨(_, _), h⟩
          · exact ⟨(_, _), h⟩
        obtain ⟨av, hav⟩ := hav0
        have call : ∀ Q', mx K (sel4 τ M_End_merged M_Variable_merged M_Loop_merged M_Choice_merged) (d + 8) [.ref c, .ref c2] (hp K.n A R g t u) Q' → (∀ o h', Q' o h' → cpost K M_Choice_merged (d + 9) Q 158 [some (.ref a), some (.ref b), some (.ref b), some (.ref ac), some (.ref b1), some (.ref b2)] [iv (k % 3 : Nat), iv (k / 3 : Nat), .ref ac] o h') → wx K M_Choice_merged (d + 9) Q 86 [some (.ref a), some (.ref b), some (.ref b), some (.ref ac), some (.ref b1), none] [.ref b2] (hp K.n A R g t u) := by
          intro Q' hm hpost
          first | refine r_astore 41 rfl (Nat.le_of_ble_eq_true rfl) ?_ | refine r_astoreN 41 rfl (Nat.le_of_ble_eq_true rfl) ?_
          first | refine r_aload 42 rfl rfl ?_ | refine r_aloadN 42 rfl rfl ?_
          refine r_ifnonnull (t := 103) 43 rfl (by decide) ?_
          first | refine r_aload 48 rfl rfl ?_ | refine r_aloadN 48 rfl rfl ?_
          refine r_getg 49 rfl f_Choice_45 (by omega) f1 rfl ?_
          first | refine r_aload 50 rfl rfl ?_ | refine r_aloadN 50 rfl rfl ?_
          refine r_getg 51 rfl f_Choice_45 (by omega) e3 rfl ?_
          refine r_icmp_eq (t := 124) 52 rfl (by decide) (by first | exact hA _ _ | exact ⟨by decide, by decide⟩ | assumption | exact ⟨by omega, by omega⟩) (by first | exact hA _ _ | exact ⟨by decide, by decide⟩ | assumption | exact ⟨by omega, by omega⟩) (fun c_113 => ?_) (fun c_113 => by omega)
          first | refine r_aload_n 57 rfl rfl ?_ | refine r_aload_nN 57 rfl rfl ?_
          first | refine r_aload 58 rfl rfl ?_ | refine r_aloadN 58 rfl rfl ?_
          refine r_getg 59 rfl f_Choice_32 (by omega) e3 rfl ?_
          first | refine r_aload 60 rfl rfl ?_ | refine r_aloadN 60 rfl rfl ?_
          refine r_getg 61 rfl f_Choice_45 (by omega) e3 rfl ?_
          first | refine r_aload 62 rfl rfl ?_ | refine r_aloadN 62 rfl rfl ?_
          refine r_ifnonnull (t := 148) 63 rfl (by decide) ?_
          first | refine r_aload 67 rfl rfl ?_ | refine r_aloadN 67 rfl rfl ?_
          refine r_getg 68 rfl f_Choice_48 (by omega) e3 rfl ?_
          first | refine r_aload 69 rfl rfl ?_ | refine r_aloadN 69 rfl rfl ?_
          refine r_getg 70 rfl f_Choice_48 (by omega) f1 rfl ?_
          refine r_callL1 71 rfl ⟨u_Choice_52_End, u_Choice_52_Variable, u_Choice_52_Loop, u_Choice_52_Choice⟩ (by omega) e4 (Nat.le_of_ble_eq_true rfl) ?_
          refine mx_mono hm hpost
        refine call _ (ihτ (d + 8) c c2 τ' P g t u (cpost K M_Choice_merged (d + 9) Q 158 [some (.ref a), some (.ref b), some (.ref b), some (.ref ac), some (.ref b1), some (.ref b2)] [iv (k % 3 : Nat), iv (k / 3 : Nat), .ref ac]) hw.2.2.1 wτ' hlk.1 (hlk2 hlk') (by omega) (fun x hx => by have := hP x hx; omega) e4 f2 ⟨bb0, by omega, bb2⟩ (fun e g' t' u' k1 k2 => ?_) (fun γ c3 g1 t1 u1 k1 k2 k3 => cp1 ?_)) (fun _ _ h => h)
        · obtain ⟨q1, q2, q3, q4, q5⟩ := k2
          exact cpt rfl (hn e g' t' u' (by rw [k1]) (fun x hx => q1 x (by omega)) q2.1 q2.2.1 q2.2.2 q3 (by omega) q5)
        · obtain ⟨q1, q2, q3, q4⟩ := k2
          rw [k1] at hn hs
          dsimp only at hn hs
          have hbL1 : bL g1 (fun x => P x ∨ (t0 ≤ x ∧ x < t1 ∧ x ∉ S)) S ac (iv (bi sb)) pn pre := bL_fr hac (fun x hx => by
            rcases hx with hx | hx
            · exact ⟨Or.inl hx, q1 x (by have := hP x hx; omega)⟩
            · exact ⟨Or.inr ⟨hx.1, by omega, hx.2.2⟩, q1 x hx.2.1⟩) (fun x hx => q1 x (by have := hS x hx; omega)) hbL
          have nx : ∀ g2, (∀ x, x < t1 → x ∉ S → g2 x = g1 x) → bL g2 (fun x => P x ∨ (t0 ≤ x ∧ x < t1 ∧ x ∉ S)) (t1 :: S) ac (iv (bi sb)) pn (apL pre (.branch k γ (.leaf 0))) → wx K M_Choice_merged (d + 9) Q 164 [some (.ref a), some (.ref b), some (.ref b), some (.ref ac), some (.ref b1), some (.ref b2)] [] (hp K.n A R g2 (t1 + 1) (u1 + 4)) := fun g2 k4 k5 => by
            refine rest γ g2 (t1 + 1) (u1 + 4) (7 * szT τ') (.ref b2) (fun x hx1 hx2 => by rw [k4 x (by omega) hx2]; exact q1 x hx1) (by omega) (by omega) (by omega) (ubs q4 (by decide)) k5 (fun k6 e g' t' u' z1 z2 z3 z4 z5 z6 z7 => hn e g' t' u' (by rw [k6]; rfl) z1 z2 z3 z4 z5 (by omega) z7) (fun x k6 g' t' u' S' z1 z2 z3 z4 z5 z6 z7 => hs (.branch k γ x) g' t' u' S' (by rw [k6]; rfl) z1 z2 (by omega) z4 z5 z6 z7)
          have hav1 : g1 ac = (11, [iv (bi sb), pn, av.1, av.2]) := by rw [q1 ac (by omega)]; exact hav
          refine r_callv3 72 rfl l_Choice_56 (hpg (by omega) hav1) (Nat.le_of_ble_eq_true rfl) ?_
          refine c_Choice_addB ⟨by omega, by omega, q4⟩ hac (fun x hx => by have := hS x hx; omega) (fun x hx => by rcases hx with hx | hx; exact ⟨by have := hP x hx; omega, hSP x hx⟩; exact ⟨hx.2.1, hx.2.2⟩) hbL1 ((lQ_fr (fun x hx => ⟨by rcases hx with hx | hx; exact Or.inl hx; exact Or.inr ⟨by omega, hx.2, fun h => by have := hS x h; omega⟩, rfl⟩) γ).1 c3 k3) (fun g2 k4 k5 => cp0 ?_)
          exact nx g2 k4 k5
    first | refine r_aload 35 rfl rfl ?_ | refine r_aloadN 35 rfl rfl ?_
    refine r_ifnull 36 rfl ?_
    first | refine r_aload_n 37 rfl rfl ?_ | refine r_aload_nN 37 rfl rfl ?_
    first | refine r_aload 38 rfl rfl ?_ | refine r_aloadN 38 rfl rfl ?_
    refine r_getg 39 rfl f_Choice_32 (by omega) e3 rfl ?_
    refine r_callv1 40 rfl l_Choice_41 (hpg (by omega) hgb) (Nat.le_of_ble_eq_true rfl) ?_
    refine c_Choice_of hPn (by omega) hlab hw' hgb hl' (fun h => absurd (hf.symm.trans h) (by intro h; cases h)) (fun k'' τ'' b2 c2 w2 h f1 f2 f3 => cp1 ?_)
    skip
    have he := hf.symm.trans h
    cases he
    exact body b2 c2 w2 f1 f2 f3
end XM82


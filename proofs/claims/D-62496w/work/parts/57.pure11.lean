/-! the rows of the table of types are kept -/
def eqT (A A' : Nat → Int → Int) : Prop := ∀ j i, 105 ≤ j → j ≤ 111 → A' j i = A j i
theorem eqT.s {A A' : Nat → Int → Int} (h : eqT A A') (x : Int) : sameN A A' x := ⟨h _ _ (by decide) (by decide), h _ _ (by decide) (by decide), h _ _ (by decide) (by decide), fun _ _ _ => ⟨h _ _ (by decide) (by decide), h _ _ (by decide) (by decide), h _ _ (by decide) (by decide)⟩⟩
theorem eqT_tR {A A' : Nat → Int → Int} (h : eqT A A') {τ : Tr} (hw : (wfP τ).1) {n : Int} (ht : (tR A τ).1 n) : (tR A' τ).1 n := ((tR_frame A A' τ).1 n hw (fun x _ => h.s x) ht).1
theorem eqT_tRB {A A' : Nat → Int → Int} (h : eqT A A') {τ : Tr} (hw : (wfP τ).2) {m i : Int} (ht : (tR A τ).2 m i) : (tR A' τ).2 m i := ((tR_frame A A' τ).2 m i hw (fun x _ => h.s x) (h _ _ (by decide) (by decide)) (fun _ _ _ _ => ⟨h _ _ (by decide) (by decide), h _ _ (by decide) (by decide), h _ _ (by decide) (by decide)⟩) ht).1
theorem eqT_ct {A A' : Nat → Int → Int} (h : eqT A A') (τ : Tr) : (∀ n x, (ct A' τ).1 n x = (ct A τ).1 n x) ∧ ∀ n x, (ct A' τ).2 n x = (ct A τ).2 n x := ct_110 (fun i => h 110 i (by decide) (by decide)) τ
theorem eqT_tH {A A' : Nat → Int → Int} (h : eqT A A') (τ : Tr) : (∀ n p, (tH A' τ).1 n p = (tH A τ).1 n p) ∧ ∀ m, (tH A' τ).2 m = (tH A τ).2 m := by
  induction τ with
  | leaf k => exact ⟨fun n p => by show (A' 111 n = p) = (A 111 n = p); rw [h 111 n (by decide) (by decide)], fun _ => rfl⟩
  | branch k l q ihl ihq =>
    refine ⟨fun n p => ?_, fun m => ?_⟩
    · rw [tH_br, tH_br, h 111 _ (by decide) (by decide), h 110 _ (by decide) (by decide)]
      by_cases h3 : k < 3
      · rw [if_pos h3, if_pos h3, ihl.1]
      · rw [if_neg h3, if_neg h3, ihl.2]
    · rw [tH_brB, tH_brB, h 110 _ (by decide) (by decide), ihl.1, ihq.2]
theorem eqT_anc {A A' : Nat → Int → Int} (h : eqT A A') : ∀ (L : List Int) (k : Int), anc A' k L = anc A k L
  | [], k => by show (A' 111 k < 0) = (A 111 k < 0); rw [h 111 _ (by decide) (by decide)]
  | a :: L, k => by
    show (A' 111 k = a ∧ 0 ≤ a ∧ a < 300 ∧ anc A' a L) = (A 111 k = a ∧ 0 ≤ a ∧ a < 300 ∧ anc A a L)
    rw [h 111 _ (by decide) (by decide), eqT_anc h L a]
theorem eqT_bnd {A A' : Nat → Int → Int} (h : eqT A A') (v : Int) : ∀ (L : List Int), bnd A' v L = bnd A v L
  | [] => rfl
  | a :: L => by
    show (if A' 105 a = 2 ∧ A' 106 a = v then a else bnd A' v L) = if A 105 a = 2 ∧ A 106 a = v then a else bnd A v L
    rw [h 105 _ (by decide) (by decide), h 106 _ (by decide) (by decide), eqT_bnd h v L]
theorem eqT_bg {A A' : Nat → Int → Int} (h : eqT A A') : ∀ (f : Nat) (n x : Int), bg A f n x → bg A' f n x
  | 0, n, x, hb => by
    obtain ⟨a, b, c⟩ := hb
    exact ⟨a, by rw [h 105 _ (by decide) (by decide)]; exact b, by rw [h 105 _ (by decide) (by decide)]; exact c⟩
  | f + 1, n, x, hb => by
    obtain ⟨a, b⟩ := hb
    refine ⟨a, ?_⟩
    rcases b with ⟨b1, b2⟩ | ⟨b1, L, b2, b3, b4⟩
    · exact Or.inl ⟨by rw [h 105 _ (by decide) (by decide)]; exact b1, by rw [h 110 _ (by decide) (by decide)]; exact eqT_bg h f _ _ b2⟩
    · refine Or.inr ⟨by rw [h 105 _ (by decide) (by decide)]; exact b1, L, by rw [eqT_anc h]; exact b2, ?_, ?_⟩
      · rw [eqT_bnd h, h 106 _ (by decide) (by decide)]; exact b3
      · rw [eqT_bnd h, h 106 _ (by decide) (by decide)]; exact eqT_bg h f _ _ b4
theorem eqT_hn {A A' : Nat → Int → Int} (h : eqT A A') : ∀ (τ : Tr) (n : Int) (hb : Nat → Int), hn A' τ n hb = hn A τ n hb
  | .leaf k, n, hb => rfl
  | .branch k l q, n, hb => by
    rw [hn_br, hn_br, h 110 _ (by decide) (by decide), eqT_hn h l]
/-- one comes to one place -/
theorem bg_u (A : Nat → Int → Int) : ∀ (f f' : Nat) (n x x' : Int), bg A f n x → bg A f' n x' → x = x'
  | 0, 0, n, x, x', h, h' => h.1.symm.trans h'.1
  | 0, f' + 1, n, x, x', h, h' => by
    obtain ⟨-, a, b⟩ := h
    rcases h'.2 with c | c
    · exact absurd c.1 b
    · exact absurd c.1 a
  | f + 1, 0, n, x, x', h, h' => by
    obtain ⟨-, a, b⟩ := h'
    rcases h.2 with c | c
    · exact absurd c.1 b
    · exact absurd c.1 a
  | f + 1, f' + 1, n, x, x', h, h' => by
    rcases h.2 with ⟨b1, b2⟩ | ⟨b1, L, b2, b3, b4⟩
    · rcases h'.2 with ⟨c1, c2⟩ | ⟨c1, L', c2, c3, c4⟩
      · exact bg_u A f f' _ _ _ b2 c2
      · omega
    · rcases h'.2 with ⟨c1, c2⟩ | ⟨c1, L', c2, c3, c4⟩
      · omega
      · rw [anc_u A L' L n c2 b2] at c4
        exact bg_u A f f' _ _ _ b4 c4
/-- a type at a place of the table; a list of branches of a place -/
def pos (A : Nat → Int → Int) (τ : Tr) (n p : Int) (L : List Int) : Prop := (tR A τ).1 n ∧ (wfP τ).1 ∧ (lkP τ).1 ∧ (tH A τ).1 n p ∧ anc A n L ∧ (∀ x, (ct A τ).1 n x ≠ 0 → 0 ≤ x ∧ x < 300) ∧ ∀ x, (ct A τ).1 n x ≤ 1
def posB (A : Nat → Int → Int) (q : Tr) (x i : Int) (L : List Int) : Prop := (tR A q).2 x i ∧ (wfP q).2 ∧ (lkP q).2 ∧ (tH A q).2 x ∧ (anc A x L ∧ 0 ≤ x ∧ x < 300) ∧ (∀ y, (ct A q).2 x y ≠ 0 → 0 ≤ y ∧ y < 300) ∧ ∀ y, (ct A q).2 x y ≤ 1
theorem pos_n {A : Nat → Int → Int} {τ : Tr} {n p : Int} {L : List Int} (h : pos A τ n p L) : 0 ≤ n ∧ n < 300 := h.2.2.2.2.2.1 n (by have := ct_self A τ n; omega)
theorem pos_eqT {A A' : Nat → Int → Int} (e : eqT A A') {τ : Tr} {n p : Int} {L : List Int} (h : pos A τ n p L) : pos A' τ n p L := by
  obtain ⟨h1, h2, h3, h4, h5, h6, h7⟩ := h
  refine ⟨eqT_tR e h2 h1, h2, h3, by rw [(eqT_tH e τ).1]; exact h4, by rw [eqT_anc e]; exact h5, fun x hx => h6 x (by rw [(eqT_ct e τ).1] at hx; exact hx), fun x => by rw [(eqT_ct e τ).1]; exact h7 x⟩
theorem posB_eqT {A A' : Nat → Int → Int} (e : eqT A A') {τ : Tr} {n i : Int} {L : List Int} (h : posB A τ n i L) : posB A' τ n i L := by
  obtain ⟨h1, h2, h3, h4, h5, h6, h7⟩ := h
  refine ⟨eqT_tRB e h2 h1, h2, h3, by rw [(eqT_tH e τ).2]; exact h4, ⟨by rw [eqT_anc e]; exact h5.1, h5.2⟩, fun x hx => h6 x (by rw [(eqT_ct e τ).2] at hx; exact hx), fun x => by rw [(eqT_ct e τ).2]; exact h7 x⟩
theorem pos_loop {A : Nat → Int → Int} {k : Nat} {l q : Tr} {n p : Int} {L : List Int} (h3 : k < 3) (h : pos A (.branch k l q) n p L) : pos A l (A 110 (6 * n)) n (n :: L) := by
  have hn := pos_n h
  obtain ⟨a1, a2, a3, a4, a5, a6, a7⟩ := h
  rw [tR_br, if_pos h3] at a1
  rw [wfT_br, if_pos h3] at a2
  rw [lkT_br, if_pos h3] at a3
  rw [tH_br, if_pos h3] at a4
  refine ⟨a1.2.2, a2, a3, a4.2, ⟨tH_p A l _ _ a4.2, hn.1, hn.2, a5⟩, fun x hx => a6 x (by rw [ct_br, if_pos h3]; omega), fun x => ?_⟩
  have := a7 x
  rw [ct_br, if_pos h3] at this
  omega
theorem pos_msg {A : Nat → Int → Int} {k : Nat} {l q : Tr} {n p : Int} {L : List Int} (h3 : ¬ k < 3) (h : pos A (.branch k l q) n p L) : posB A l n 0 L ∧ (ct A l).2 n n = 0 := by
  have hn := pos_n h
  obtain ⟨a1, a2, a3, a4, a5, a6, a7⟩ := h
  rw [tR_br, if_neg h3] at a1
  rw [wfT_br, if_neg h3] at a2
  rw [lkT_br, if_neg h3] at a3
  rw [tH_br, if_neg h3] at a4
  refine ⟨⟨a1.2.1, a2.2.1, a3.2, a4.2, ⟨a5, hn⟩, fun x hx => a6 x (by rw [ct_br, if_neg h3]; omega), fun x => ?_⟩, ?_⟩
  · have := a7 x
    rw [ct_br, if_neg h3] at this
    omega
  · have := a7 n
    rw [ct_br, if_neg h3, if_pos rfl] at this
    omega
theorem posB_hd {A : Nat → Int → Int} {k : Nat} {l q : Tr} {x i : Int} {L : List Int} (h : posB A (.branch k l q) x i L) : pos A l (A 110 (6 * x + (k / 3 : Nat))) x (x :: L) ∧ ∀ y, (ct A l).1 (A 110 (6 * x + (k / 3 : Nat))) y = 0 ∨ (ct A q).2 x y = 0 := by
  obtain ⟨a1, a2, a3, a4, a5, a6, a7⟩ := h
  rw [tR_brB] at a1
  rw [wfB_br] at a2
  rw [lkB_br] at a3
  rw [tH_brB] at a4
  refine ⟨⟨a1.2.2.1, a2.2.2.1, a3.1, a4.1, ⟨tH_p A l _ _ a4.1, a5.2.1, a5.2.2, a5.1⟩, fun y hy => a6 y (by rw [ct_brB]; omega), fun y => ?_⟩, fun y => ?_⟩
  · have := a7 y
    rw [ct_brB] at this
    omega
  · have := a7 y
    rw [ct_brB] at this
    omega
theorem posB_tl {A : Nat → Int → Int} {k : Nat} {l q : Tr} {x i : Int} {L : List Int} (h : posB A (.branch k l q) x i L) : posB A q x (i + 1) L := by
  obtain ⟨a1, a2, a3, a4, a5, a6, a7⟩ := h
  rw [tR_brB] at a1
  rw [wfB_br] at a2
  rw [lkB_br] at a3
  rw [tH_brB] at a4
  refine ⟨a1.2.2.2, a2.2.2.2, a3.2, a4.2, a5, fun y hy => a6 y (by rw [ct_brB]; omega), fun y => ?_⟩
  have := a7 y
  rw [ct_brB] at this
  omega
/-- where the loose variables begin -/
def hvS (A : Nat → Int → Int) (ls : Nat → Bool) (L : List Int) (hb : Nat → Int) : Prop := ∀ v, v < 3 → ls v = true → 0 ≤ bnd A v L ∧ (0 ≤ hb v ∧ hb v < 300) ∧ ∃ f, f ≤ 30 ∧ bg A f (bnd A v L) (hb v)
theorem hvS_eqT {A A' : Nat → Int → Int} (e : eqT A A') {ls : Nat → Bool} {L : List Int} {hb : Nat → Int} (h : hvS A ls L hb) : hvS A' ls L hb := fun v hv hl => by
  obtain ⟨a, b, f, c1, c2⟩ := h v hv hl
  rw [eqT_bnd e]
  exact ⟨a, b, f, c1, eqT_bg e _ _ _ c2⟩
theorem hvS_hd {A : Nat → Int → Int} {k : Nat} {l q : Tr} {L : List Int} {hb : Nat → Int} (h : hvS A (lsP (.branch k l q)).2 L hb) : hvS A (lsP l).1 L hb ∧ hvS A (lsP q).2 L hb :=
  ⟨fun v hv hl => h v hv (by rw [lsB_br, hl]; rfl), fun v hv hl => h v hv (by rw [lsB_br, hl, Bool.or_true])⟩
theorem hvS_msg {A : Nat → Int → Int} {k : Nat} {l q : Tr} {n p : Int} {L : List Int} {hb : Nat → Int} (h3 : ¬ k < 3) (hP : pos A (.branch k l q) n p L) (h : hvS A (lsP (.branch k l q)).1 L hb) : hvS A (lsP l).2 (n :: L) hb := fun v hv hl => by
  obtain ⟨a, b, f, c1, c2⟩ := h v hv (by rw [lsT_br, if_neg h3]; exact hl)
  have a1 := hP.1
  rw [tR_br, if_neg h3] at a1
  have eb : bnd A v (n :: L) = bnd A v L := by
    show (if A 105 n = 2 ∧ A 106 n = v then n else bnd A v L) = _
    rw [if_neg (fun h => by have := h.1; have := a1.1.1; omega)]
  rw [eb]
  exact ⟨a, b, f, c1, c2⟩
theorem hd_msg {k : Nat} {l q : Tr} {bs : Nat → Bool} (h3 : k < 3) (hw : (wfP (.branch k l q)).1) (hg : (gdd (.branch k l q)).1 bs) (hl : (lsP l).1 k = true) : hdv l = 0 ∨ hdv l = 100 := by
  rw [wfT_br, if_pos h3] at hw
  rw [gdd_br, if_pos h3] at hg
  rcases hdv_rg l hw with h | h
  · by_cases e : hdv l = 0
    · exact Or.inl e
    · have := hd_ls l (hdv l - 1) k (by omega) (by omega) hl
      exact absurd (by omega) hg.1
  · exact Or.inr h
theorem hvS_loop {A : Nat → Int → Int} {k : Nat} {l q : Tr} {n p : Int} {L : List Int} {hb : Nat → Int} {bs : Nat → Bool} (h3 : k < 3) (hP : pos A (.branch k l q) n p L) (hg : (gdd (.branch k l q)).1 bs) (hS : szT (.branch k l q) ≤ 30) (h : hvS A (lsP (.branch k l q)).1 L hb) : hvS A (lsP l).1 (n :: L) (ue hb k (hn A l (A 110 (6 * n)) hb)) := fun v hv hl => by
  have hnn := pos_n hP
  have hP' := hP
  obtain ⟨a1, a2, a3, a4, a5, a6, a7⟩ := hP
  have a1' := a1
  rw [tR_br, if_pos h3] at a1'
  by_cases e : v = k
  · subst e
    have hh := hd_msg h3 a2 hg hl
    have hi := pos_loop h3 hP'
    have hr := hi.2.2.2.2.2.1 _ (hn_in A l (A 110 (6 * n)) hb hh hi.2.1)
    obtain ⟨f, b1, b2, b3⟩ := bg_T A (.branch v l q) n p L hb bs a1 a2 a3 a4 a5 a6 hg (fun w e1 e2 => by rw [hdv_br, if_pos h3] at e1; omega)
    have b4 := b3 (by rw [hdv_br, if_pos h3]; exact hh)
    have b5 := dl_lt (.branch v l q)
    rw [hn_br, if_pos h3] at b2
    have eb : bnd A v (n :: L) = n := by
      show (if A 105 n = 2 ∧ A 106 n = v then n else bnd A v L) = _
      rw [if_pos ⟨a1'.1, a1'.2.1⟩]
    have eu : ue hb v (hn A l (A 110 (6 * n)) hb) v = hn A l (A 110 (6 * n)) hb := if_pos rfl
    rw [eb, eu]
    exact ⟨hnn.1, hr, f, by omega, b2⟩
  · obtain ⟨c1, c2, f, c3, c4⟩ := h v hv (by rw [lsT_br, if_pos h3, hl, decide_eq_false e]; rfl)
    have eb : bnd A v (n :: L) = bnd A v L := by
      show (if A 105 n = 2 ∧ A 106 n = v then n else bnd A v L) = _
      rw [if_neg (fun h => e (by have := h.2; rw [a1'.2.1] at this; omega))]
    have eu : ue hb k (hn A l (A 110 (6 * n)) hb) v = hb v := if_neg e
    rw [eb, eu]
    exact ⟨c1, c2, f, c3, c4⟩
theorem hd_lo : ∀ (τ : Tr) (v : Nat) (bs : Nat → Bool), (gdd τ).1 bs → hdv τ = v + 1 → v < 3 → (lsP τ).1 v = true
  | .leaf k, v, bs, _, e, _ => by
    replace e : k = v + 1 := e
    show decide (k = v + 1) = true
    rw [decide_eq_true_eq]; exact e
  | .branch k l q, v, bs, hg, e, hv => by
    rw [hdv_br] at e
    rw [gdd_br] at hg
    rw [lsT_br]
    by_cases h3 : k < 3
    · rw [if_pos h3] at e hg ⊢
      have hk : v ≠ k := fun h => hg.1 (by omega)
      rw [hd_lo l v _ hg.2 e hv, decide_eq_false hk]; rfl
    · rw [if_neg h3] at e; omega
theorem bg_P {A : Nat → Int → Int} {τ : Tr} {n p : Int} {L : List Int} {hb : Nat → Int} {bs : Nat → Bool} (hP : pos A τ n p L) (hg : (gdd τ).1 bs) (hS : szT τ ≤ 30) (h : hvS A (lsP τ).1 L hb) : (∃ f, f < 64 ∧ bg A f n (hn A τ n hb)) ∧ 0 ≤ hn A τ n hb ∧ hn A τ n hb < 300 := by
  have hls : ∀ v, hdv τ = v + 1 → v < 3 → (lsP τ).1 v = true := fun v e hv => hd_lo τ v bs hg e hv
  obtain ⟨a1, a2, a3, a4, a5, a6, a7⟩ := hP
  obtain ⟨f, b1, b2, b3⟩ := bg_T A τ n p L hb bs a1 a2 a3 a4 a5 a6 hg (fun v e hv => by
    obtain ⟨c1, -, c2⟩ := h v hv (hls v e hv)
    exact ⟨c1, c2⟩)
  have := dl_lt τ
  refine ⟨⟨f, by omega, b2⟩, ?_⟩
  rcases hdv_rg τ a2 with e | e
  · by_cases e0 : hdv τ = 0
    · exact a6 _ (hn_in A τ n hb (Or.inl e0) a2)
    · rw [hn_var A τ n hb (hdv τ - 1) (by omega) (by omega)]
      exact (h _ (by omega) (hls _ (by omega) (by omega))).2.1
  · exact a6 _ (hn_in A τ n hb (Or.inr e) a2)
theorem lenB_sz : ∀ l : Tr, lenB l ≤ szB l
  | .leaf _ => Nat.zero_le _
  | .branch k l q => by
    have := lenB_sz q
    have := dl_lt l
    rw [lenB_br, szB_br]; omega

/-! the twin's reading against the reader's law: types -/
theorem fr_sc_m {A A' : Nat → Int → Int} (h : fr A A') {j : Nat} (i : Int) (hj : j < 105 ∧ j ≠ 100 ∨ 116 < j ∨ 110 < j ∧ j < 115) : A' j i = A j i := h j i (by omega) (by omega) (by omega) (by omega)
theorem bgL_eq {A : Nat → Int → Int} {n : Int} (hn : A 100 4 = n) : bgL A = opn (muF (au (onA (bg1 A 2 0) 88 3) 106 n (onF (bg1 A 2 0) 88 3)) 46) n := by unfold bgL; rw [hn]
theorem bgC_eq {A : Nat → Int → Int} {n c : Int} (hn : A 100 4 = n) : bgC A c = opn (muF (muF (au (au (bg1 A 5 0) 106 n (c - 97)) 105 n (if tHere (au (bg1 A 5 0) 106 n (c - 97)) = 33 then 3 else 4)) (if tHere (au (au (bg1 A 5 0) 106 n (c - 97)) 105 n (if tHere (au (bg1 A 5 0) 106 n (c - 97)) = 33 then 3 else 4)) = 33 then 33 else 63)) 123) n := by unfold bgC bgc1; rw [hn]
theorem bgG_eq {A : Nat → Int → Int} {n c : Int} (hn : A 100 4 = n) : bgG A c = opn (muF (au (bgg3 A c) 106 n (c - 97 + 4 * bgg2 A c)) 123) n := by unfold bgG; rw [hn]
theorem kpS_m {A B C : Nat → Int → Int} {o o' : Nat} (h1 : kpS A B o) (h2 : kpS B C o') (h : o ≤ o') : kpS A C o := fun i hi => ⟨(h2 i (by omega)).1.trans (h1 i hi).1, (h2 i (by omega)).2.trans (h1 i hi).2⟩
theorem th_Y {A Y : Nat → Int → Int} {cx : Int → Int} {len p : Int} (hT : txR A cx len) (hx : ∀ i, len ≤ i → cx i = -1) (hf : fr A Y) (h2 : Y 100 2 = p) (p0 : 0 ≤ p) : tHere Y = cx p := by
  rw [th_cx (hT.to hf) hx (by omega), h2]
theorem okT_s {cx : Int → Int} {md : Bool} {base len : Int} {RB RC : (Nat → Int → Int) → Prop} {f : Nat} (hx : ∀ i, len ≤ i → cx i = -1) (b0 : 0 ≤ base) (b1 : base ≤ 200) (hBs : stB base md RB RC) (hC : stC RB RC) (ihT : okT cx md base len RB RC f) (ihB : okB cx md base len RB RC f) : okT cx md base len RB RC (f + 1) := by
  intro env p k bef A hf hP
  obtain ⟨s1, s2, s3, s4, s5, s6, s7, s8, s9⟩ := id hP
  have p0 : 0 ≤ p := by have := s1.2.1; omega
  have hl100 : len ≤ 100 := by have := s1.2.2.1; have := s2.1; omega
  have hpl : p ≤ len := by have := s1.2.1; have := s2.1; omega
  have hcx : ∀ i, 0 ≤ cx i → i < len := fun i hi => by
    apply Decidable.byContradiction
    intro hc
    have := hx i (by omega)
    omega
  have eH : tHere A = cx p := by rw [th_cx s2 hx (by omega), s3]
  have hO : ∀ i, 0 ≤ i → i < A 100 14 → (0 ≤ A 115 i ∧ A 115 i < 300) ∧ (0 ≤ A 116 i ∧ A 116 i < 6) := fun i i0 i1 => by
    have := s9.in i i0 (by rw [← s6]; exact i1)
    omega
  have htop : 0 < A 100 14 → tTop A < base + k ∧ 0 ≤ A 116 (A 100 14 - 1) ∧ A 116 (A 100 14 - 1) < 6 := fun h => by
    have := s9.in (A 100 14 - 1) (by omega) (by rw [← s6]; omega)
    unfold tTop
    omega
  have step := hBs A s1 (by omega) (by omega) (by omega) (by omega) hO (by omega)
  rw [eH, s5, s3] at step
  have e14 : (A 100 14).toNat = env.length := by omega
  rw [e14] at step
  have prT := pr_T cx md f env p k bef
  -- at thirty
  by_cases k30 : k = 30
  · rw [if_pos k30] at prT
    refine ⟨fun e h k0 => ?_, fun τ p' k' h => by rw [prT] at h; cases h⟩
    rw [prT] at h
    cases h
    have : RB (tWr A p) := (k0 _ (fr_wr (fr.rf A)) (tB_wr s1 ⟨by omega, by omega⟩) (by rw [wr_fst _ (by omega), au_same])).1
    exact step (fun _ => this) (fun h => absurd (by omega) h) (fun h => absurd (by omega) h) (fun h => absurd (by omega) h) (fun h => absurd (by omega) h) (fun h => absurd (by omega) h) (fun h => absurd (by omega) h)
  rw [if_neg k30] at prT
  have nk : base + k - base ≠ 30 := by omega
  have leafP : ∀ (kk ww : Int), 0 ≤ cx p → rg kk → rg ww → pS (bg1 A kk ww) cx len base env (p + 1) (k + 1) ∧ fr A (bg1 A kk ww) ∧ kpT A (bg1 A kk ww) (base + k) ∧ kpS A (bg1 A kk ww) env.length ∧ fh A (bg1 A kk ww) (base + k) kk ww := by
    intro kk ww hc hk hw
    have hh := fh_bg1 (A := A) (n := base + k) s1 (tHere_lt (by rw [eH]; exact hc)) hk hw s5 (by omega) (by omega) htop
    obtain ⟨a1, a2, a3, a4, a5, a6, a7⟩ := id hh
    refine ⟨⟨a2, s2.to a1, by rw [bg1_2, s3], by rw [bg1_sc _ _ _ (by decide) (by decide), s4], by omega, by rw [a4, s6], by omega, by omega, s9.to (by omega) (fun i _ => a5 i) (fun x _ hx => ⟨(a7 x hx).1, (a7 x hx).2.1⟩)⟩, a1, a7, fun i _ => a5 i, hh⟩
  by_cases ce : cx p = 101
  · rw [if_pos ce] at prT
    refine ⟨fun e h => (by rw [prT] at h; cases h), fun τ p' k' h k0 => ?_⟩
    rw [prT] at h
    cases h
    obtain ⟨l1, l2, l3, l4, l5⟩ := leafP 0 0 (by omega) rg_0 rg_0
    have : RC (bg1 A 0 0) := k0 _ l2 l1 l3 l4 ⟨l5.2.2.2.2.2.1.2.2, fun _ => l5.2.2.2.2.2.1.1, fun h => absurd rfl h⟩
    exact step (fun h => absurd h nk) (fun _ h => absurd ce h) (fun _ _ => this) (fun _ h1 h2 => by omega) (fun _ h => by omega) (fun _ h1 h2 => by omega) (fun _ h1 h2 => by omega)
  rw [if_neg ce] at prT
  by_cases cm : cx p = 109
  · rw [if_pos cm] at prT
    have go : RB (bgL A) → RB A := fun this => step (fun h => absurd h nk) (fun _ _ h => absurd cm h) (fun _ h => absurd h ce) (fun _ h1 h2 => by omega) (fun _ h => this) (fun _ h1 h2 => by omega) (fun _ h1 h2 => by omega)
    obtain ⟨l1, l2, l3, l4, l5⟩ := leafP 2 0 (by omega) ⟨by decide, by decide⟩ rg_0
    have q2 : bg1 A 2 0 100 2 = p + 1 := l1.2.2.1
    have q3 : bg1 A 2 0 100 3 = -1 := l1.2.2.2.1
    have t1 : tHere (bg1 A 2 0) = cx (p + 1) := th_Y s2 hx l2 q2 (by omega)
    have hof := onF_rg l1.1 (low := 88) (many := 3) ⟨by decide, by decide⟩ ⟨by decide, by decide⟩
    have fh2 : fh A (au (onA (bg1 A 2 0) 88 3) 106 (base + k) (onF (bg1 A 2 0) 88 3)) (base + k) 2 (onF (bg1 A 2 0) 88 3) := fh_106 (fh_on l5 (by decide)) ⟨by omega, by omega⟩
    have fh3 := fh_mu (c := 46) fh2 (by decide)
    have hBo : tB (bgL A) := by rw [bgL_eq s5]; exact tB_opn fh3.2.1 ⟨by omega, by omega⟩ (by rw [fh3.2.2.2.1]; omega)
    have hfo : fr A (bgL A) := by rw [bgL_eq s5]; exact fr_opn fh3.1
    have o3 : bgL A 100 3 = muF (au (onA (bg1 A 2 0) 88 3) 106 (base + k) (onF (bg1 A 2 0) 88 3)) 46 100 3 := by rw [bgL_eq s5, opn_sc _ _ (by decide)]
    by_cases hv : cx (p + 1) < 88 ∨ 90 < cx (p + 1)
    · rw [if_pos hv] at prT
      refine ⟨fun e h k0 => ?_, fun τ p' k' h => by rw [prT] at h; cases h⟩
      rw [prT] at h
      cases h
      have on1 : onA (bg1 A 2 0) 88 3 = au (bg1 A 2 0) 100 3 (p + 1) := by rw [on_n (by rw [t1]; omega) (by omega), q2]
      refine go (k0 _ hfo hBo ?_).1
      rw [o3, on1, mu_fl _ (by rw [au_ne _ _ _ _ (by decide), au_same]; omega), au_ne _ _ _ _ (by decide), au_same]
    rw [if_neg hv] at prT
    obtain ⟨on1, on2⟩ := on_y (A := bg1 A 2 0) (l := 88) (m := 3) (by rw [t1]; omega) (by omega)
    rw [q2, show p + 1 + 1 = p + 2 by omega] at on1
    rw [t1] at on2
    rw [on1, on2] at o3 fh2 fh3
    have t2 : tHere (au (au (bg1 A 2 0) 100 2 (p + 2)) 106 (base + k) (cx (p + 1) - 88)) = cx (p + 2) := th_Y s2 hx fh2.1 (by rw [au_ne _ _ _ _ (by decide), au_same]) (by omega)
    have z3 : au (au (bg1 A 2 0) 100 2 (p + 2)) 106 (base + k) (cx (p + 1) - 88) 100 3 = -1 := by rw [au_ne _ _ _ _ (by decide), au_ni _ _ _ (by decide), q3]
    have z2 : au (au (bg1 A 2 0) 100 2 (p + 2)) 106 (base + k) (cx (p + 1) - 88) 100 2 = p + 2 := by rw [au_ne _ _ _ _ (by decide), au_same]
    by_cases hd : cx (p + 2) = 46
    case neg =>
      rw [if_pos hd] at prT
      refine ⟨fun e h k0 => ?_, fun τ p' k' h => by rw [prT] at h; cases h⟩
      rw [prT] at h
      cases h
      refine go (k0 _ hfo hBo ?_).1
      rw [o3, mu_n (by rw [t2]; exact hd) (by omega), au_same, z2]
    rw [if_neg (fun h => h hd)] at prT
    have m1 := mu_y (c := 46) (by rw [t2]; exact hd) (show _ < 0 by rw [z3]; decide)
    rw [z2, show p + 2 + 1 = p + 3 by omega] at m1
    have eL : bgL A = opn (muF (au (au (bg1 A 2 0) 100 2 (p + 2)) 106 (base + k) (cx (p + 1) - 88)) 46) (base + k) := by rw [bgL_eq s5, on1, on2]
    have hF := fh_opn (e := cx (p + 1) - 88) (p' := p + 3) hP k30 b0 b1 fh3 (by rw [m1, au_same]) (by rw [m1, au_ni _ _ _ (by decide), z3]) (by rw [if_neg (by omega)]; exact ⟨rfl, rfl⟩)
    rw [← eL] at hF
    obtain ⟨f1, f2, f3, f4, f5, f6, f7, f8, f9, f10⟩ := hF
    have h3l : p + 2 < len := hcx _ (by omega)
    obtain ⟨T1, T2⟩ := ihT ((cx (p + 1) - 88) :: env) (p + 3) (k + 1) (fun _ => false) (bgL A) (by omega) f1
    cases hr : pr cx md f false ((cx (p + 1) - 88) :: env) (p + 3) (k + 1) (fun _ => false) with
    | inl e1 =>
      rw [hr] at prT
      exact ⟨fun e h k0 => go (T1 e1 hr (fun A' a b c => k0 A' (f2.tr a) b (by rw [prT] at h; cases h; exact c))), fun bs p' k' h => by rw [prT] at h; cases h⟩
    | inr q =>
      obtain ⟨τ, p1, k1⟩ := q
      rw [hr] at prT
      obtain ⟨o1, o2, o3, o4⟩ := (pr_ok cx md f ((cx (p + 1) - 88) :: env) (p + 3) (k + 1) (fun _ => false) (by omega) (by omega)).1 _ _ _ hr
      refine ⟨fun e h => (by rw [prT] at h; cases h), fun τ' p' k' h k0 => go (T2 _ _ _ hr (fun A' a b c e1 e2 => ?_))⟩
      rw [prT] at h
      cases h
      obtain ⟨w1, w2, w3, w4, w5⟩ := pS_top b
      obtain ⟨v1, v2, v3, v4, v5, v6, v7, v8, v9⟩ := id b
      rw [if_neg (by omega)] at w5
      have hj : ∀ j i, j ≠ 100 → au A' 100 14 (A' 100 14 - 1) j i = A' j i := fun j i h => au_ne _ _ _ _ h
      have hfr : fr A' (au A' 100 14 (A' 100 14 - 1)) := fr_au (fr.rf A') (by omega)
      have hBB : tB (au A' 100 14 (A' 100 14 - 1)) := tB_sc v1 ⟨by omega, by omega⟩ (by decide) (by decide)
      have hkp : kpT A A' (base + k) := fun x hxn => by
        obtain ⟨c1, c2, c3, c4⟩ := c x (by omega)
        obtain ⟨d1, d2, d3, d4⟩ := f3 x hxn
        refine ⟨c1.trans d1, c2.trans d2, c3.trans d3, fun l l0 l1 => ⟨(c4 l l0 l1).1.trans (d4 l l0 l1).1, (c4 l l0 l1).2.1.trans (d4 l l0 l1).2.1, ?_⟩⟩
        rw [(c4 l l0 l1).2.2, if_neg (by rw [f5, f6]; omega), (d4 l l0 l1).2.2]
      refine hC A' v1 (by omega) (by omega) (by omega) (by omega) (by omega) (fun _ => ?_) (fun h => absurd w5.1 h) (fun h => absurd w5.1 h)
      refine k0 _ (f2.tr (a.tr hfr)) (pS_pop b hBB hfr hj (by rw [au_ni _ _ _ (by decide), v3]) (by rw [au_ni _ _ _ (by decide), v4]) (au_ni _ _ _ (by decide)) (au_same _ _ _ _)) (kpT_sc hkp hj) (fun i hi => ?_) ?_
      · rw [hj _ _ (by decide), hj _ _ (by decide)]
        exact kpS_m f4 e1 (by simp) i hi
      · obtain ⟨c1, c2, c3, c4⟩ := c (base + k) (by omega)
        have c5 := (c4 0 (by omega) (by omega)).2.2
        rw [if_pos ⟨by rw [f1.2.2.2.2.2.1]; simp only [List.length_cons]; omega, by rw [f5, f6]⟩, Int.add_zero] at c5
        simp only [tG]
        rw [if_pos (by omega), hj _ _ (by decide), hj _ _ (by decide), hj _ _ (by decide), c1, f7, c2, f8, c5]
        refine ⟨rfl, by omega, by omega, ?_⟩
        rw [show base + k + 1 = base + (k + 1) by omega]
        exact (tG_frame A' _ md τ).1 _ o3 (fun x h1 h2 => ⟨hj _ _ (by decide), hj _ _ (by decide), hj _ _ (by decide), fun l l0 l1 => ⟨hj _ _ (by decide), hj _ _ (by decide), hj _ _ (by decide)⟩⟩) e2
  rw [if_neg cm] at prT
  by_cases cv : 88 ≤ cx p ∧ cx p ≤ 90
  · rw [if_pos cv] at prT
    have hgd := gd_std (v := cx p - 88) (by omega) env false s9
    by_cases hst : std env (cx p - 88) false = true
    · rw [if_pos hst] at prT hgd
      refine ⟨fun e h => (by rw [prT] at h; cases h), fun τ p' k' h k0 => ?_⟩
      rw [prT] at h
      cases h
      obtain ⟨l1, l2, l3, l4, l5⟩ := leafP 1 (cx p - 88) (by omega) ⟨by decide, by decide⟩ ⟨by omega, by omega⟩
      have : RC (bg1 A 1 (cx p - 88)) := k0 _ l2 l1 l3 l4 ⟨l5.2.2.2.2.2.1.2.2, fun h => by omega, fun h => ⟨l5.2.2.2.2.2.1.1, l5.2.2.2.2.2.1.2.1.trans (by omega)⟩⟩
      exact step (fun h => absurd h nk) (fun _ _ _ h => by have h2 : gdG A (cx p - 88) env.length 0 = 1 := hgd; omega) (fun _ h => absurd h ce) (fun _ h1 h2 _ => this) (fun _ h => by omega) (fun _ h1 h2 => by omega) (fun _ h1 h2 => by omega)
    · rw [if_neg hst] at prT hgd
      refine ⟨fun e h k0 => ?_, fun τ p' k' h => by rw [prT] at h; cases h⟩
      rw [prT] at h
      cases h
      have : RB (tWr A p) := (k0 _ (fr_wr (fr.rf A)) (tB_wr s1 ⟨by omega, by omega⟩) (by rw [wr_fst _ (by omega), au_same])).1
      exact step (fun _ => this) (fun _ _ _ _ _ => this) (fun _ h => absurd h ce) (fun _ h1 h2 h => absurd hgd h) (fun _ h => by omega) (fun _ h1 h2 => by omega) (fun _ h1 h2 => by omega)
  rw [if_neg cv] at prT
  by_cases ca : 97 ≤ cx p ∧ cx p ≤ 100
  case neg =>
    rw [if_neg ca] at prT
    refine ⟨fun e h k0 => ?_, fun τ p' k' h => by rw [prT] at h; cases h⟩
    rw [prT] at h
    cases h
    have : RB (tWr A p) := (k0 _ (fr_wr (fr.rf A)) (tB_wr s1 ⟨by omega, by omega⟩) (by rw [wr_fst _ (by omega), au_same])).1
    exact step (fun _ => this) (fun _ _ _ _ _ => this) (fun _ h => absurd h ce) (fun _ h1 h2 _ => by omega) (fun _ h => by omega) (fun _ h1 h2 => by omega) (fun _ h1 h2 => by omega)
  rw [if_pos ca] at prT
  obtain ⟨l1, l2, l3, l4, l5⟩ := leafP 5 0 (by omega) ⟨by decide, by decide⟩ rg_0
  have q2 : bg1 A 5 0 100 2 = p + 1 := l1.2.2.1
  have q3 : bg1 A 5 0 100 3 = -1 := l1.2.2.2.1
  have t1 : tHere (bg1 A 5 0) = cx (p + 1) := th_Y s2 hx l2 q2 (by omega)
  -- from the opened message on
  have fin : ∀ (X : Nat → Int → Int) (p1 : Int) (kk : Nat) (kd wd : Int), 3 ≤ kk → p < p1 → pS X cx len base (3 :: env) p1 (k + 1) → fr A X → kpT A X (base + k) → kpS A X env.length → tTop X = base + k → X 105 (base + k) = kd → X 106 (base + k) = wd → X 107 (base + k) = 0 → (∀ l, 0 ≤ l → l < 6 → X 108 (6 * (base + k) + l) = 0) →
      (if md = true then kd = 3 + ((kk - 3) / 4 : Nat) ∧ wd = ((kk - 3) % 4 : Nat) else kd = 5 ∧ wd = ((kk - 3 : Nat) : Int)) → (RB (brF X) → RB A) → (pr cx md (f + 1) false env p k bef = match pr cx md f true (3 :: env) p1 (k + 1) (fun _ => false) with
          | .inl e => .inl e
          | .inr (bs, p', k') => .inr (.branch kk bs (.leaf 0), p', k')) →
      (∀ e, pr cx md (f + 1) false env p k bef = .inl e → (∀ A', fr A A' → tB A' → A' 100 3 = e → RB A' ∧ RC A') → RB A) ∧
      (∀ τ p' k', pr cx md (f + 1) false env p k bef = .inr (τ, p', k') → (∀ A', fr A A' → pS A' cx len base env p' k' → kpT A A' (base + k) → kpS A A' env.length → (tG A' md τ).1 (base + k) → RC A') → RB A) := by
    intro X p1 kk kd wd hkk hpp f1 f2 f3 f4 f5 f7 f8 f9 f10 hkd go hpr
    have hp1l : p1 ≤ len := by have := f1.1.2.1; have := f1.2.1.1; have := f1.2.2.1; omega
    obtain ⟨B1, B2⟩ := ihB env p1 (k + 1) (base + k) (fun _ => false) X (by omega) f1 f5 (by omega) (by omega) (fun x x0 x1 => by rw [f10 x x0 x1]; simp)
    rw [hpr]
    cases hr : pr cx md f true (3 :: env) p1 (k + 1) (fun _ => false) with
    | inl e1 =>
      exact ⟨fun e h k0 => go (B1 e1 hr (fun A' a b c => k0 A' (f2.tr a) b (by cases h; exact c))), fun bs p' k' h => by cases h⟩
    | inr q =>
      obtain ⟨bs, p2, k2⟩ := q
      refine ⟨fun e h => (by cases h), fun τ' p' k' h k0 => go (B2 _ _ _ hr (fun A' a b c e1 e2 => ?_))⟩
      cases h
      obtain ⟨c1, c2, c3, c4⟩ := c
      refine k0 A' (f2.tr a) b (fun x hxn => ?_) (kpS_m f4 e1 (Nat.le_refl _)) ?_
      · obtain ⟨z1, z2, z3, z4⟩ := c1 x (by omega) (by omega)
        obtain ⟨d1, d2, d3, d4⟩ := f3 x hxn
        exact ⟨z1.trans d1, z2.trans d2, z3.trans d3, fun l l0 l1 => ⟨(z4 l l0 l1).1.trans (d4 l l0 l1).1, (z4 l l0 l1).2.1.trans (d4 l l0 l1).2.1, (z4 l l0 l1).2.2.trans (d4 l l0 l1).2.2⟩⟩
      · rw [f9, show base + (k + 1) = base + k + 1 by omega] at e2
        simp only [tG]
        rw [if_neg (by omega), c2, c3, f7, f8]
        exact ⟨hkd, e2, fun x x0 x1 h => ((c4 x x0 x1 h).1).trans (f10 x x0 x1)⟩
  have brI_fl : ∀ X : Nat → Int → Int, 0 ≤ X 100 3 → brI X = X := fun X h => by unfold brI; rw [if_neg (by omega)]
  have brI_ok : ∀ X : Nat → Int → Int, X 100 3 = -1 → brI X = brF X := fun X h => by unfold brI; rw [if_pos (by omega)]
  by_cases hmd : md = true
  · rw [if_pos hmd] at prT
    have go : RB (brI (bgC A (cx p))) → RB A := fun this => step (fun h => absurd h nk) (fun _ _ _ _ h => by omega) (fun _ h => absurd h ce) (fun _ h1 h2 _ => by omega) (fun _ h => by omega) (fun _ h1 h2 _ => this) (fun _ h1 h2 h => by rw [hmd] at h; cases h)
    have fa := fh_106 (w := cx p - 97) l5 ⟨by omega, by omega⟩
    have ta : tHere (au (bg1 A 5 0) 106 (base + k) (cx p - 97)) = cx (p + 1) := th_Y s2 hx fa.1 (by rw [au_ne _ _ _ _ (by decide), q2]) (by omega)
    have fb := fh_105 (w := if cx (p + 1) = 33 then 3 else 4) fa (by split <;> exact ⟨by decide, by decide⟩)
    have b2 : au (au (bg1 A 5 0) 106 (base + k) (cx p - 97)) 105 (base + k) (if cx (p + 1) = 33 then 3 else 4) 100 2 = p + 1 := by rw [au_ne _ _ _ _ (by decide), au_ne _ _ _ _ (by decide), q2]
    have b3 : au (au (bg1 A 5 0) 106 (base + k) (cx p - 97)) 105 (base + k) (if cx (p + 1) = 33 then 3 else 4) 100 3 = -1 := by rw [au_ne _ _ _ _ (by decide), au_ne _ _ _ _ (by decide), q3]
    have tb : tHere (au (au (bg1 A 5 0) 106 (base + k) (cx p - 97)) 105 (base + k) (if cx (p + 1) = 33 then 3 else 4)) = cx (p + 1) := th_Y s2 hx fb.1 b2 (by omega)
    have eC : bgC A (cx p) = opn (muF (muF (au (au (bg1 A 5 0) 106 (base + k) (cx p - 97)) 105 (base + k) (if cx (p + 1) = 33 then 3 else 4)) (if cx (p + 1) = 33 then 33 else 63)) 123) (base + k) := by rw [bgC_eq s5, ta, tb]
    generalize hY : au (au (bg1 A 5 0) 106 (base + k) (cx p - 97)) 105 (base + k) (if cx (p + 1) = 33 then 3 else 4) = Y at *
    have fc := fh_mu (c := if cx (p + 1) = 33 then 33 else 63) fb (by split <;> decide)
    have fd := fh_mu (c := 123) fc (by decide)
    have hBo : tB (bgC A (cx p)) := by rw [eC]; exact tB_opn fd.2.1 ⟨by omega, by omega⟩ (by rw [fd.2.2.2.1]; omega)
    have hfo : fr A (bgC A (cx p)) := by rw [eC]; exact fr_opn fd.1
    by_cases h1 : cx (p + 1) ≠ 33 ∧ cx (p + 1) ≠ 63
    · rw [if_pos h1] at prT
      refine ⟨fun e h k0 => ?_, fun τ p' k' h => by rw [prT] at h; cases h⟩
      rw [prT] at h
      cases h
      have e3 : bgC A (cx p) 100 3 = p + 1 := by rw [eC, opn_sc _ _ (by decide), mu_n (A := Y) (by rw [tb, if_neg h1.1]; exact h1.2) (by omega), mu_fl _ (by rw [au_same]; omega), au_same, b2]
      refine go ?_
      rw [brI_fl _ (by omega)]
      exact (k0 _ hfo hBo e3).1
    rw [if_neg h1] at prT
    have m1 : muF Y (if cx (p + 1) = 33 then 33 else 63) = au Y 100 2 (p + 2) := by
      rw [mu_y (A := Y) (by rw [tb]; split <;> omega) (by omega), b2, show p + 1 + 1 = p + 2 by omega]
    rw [m1] at fc fd eC
    have tc : tHere (au Y 100 2 (p + 2)) = cx (p + 2) := th_Y s2 hx fc.1 (au_same _ _ _ _) (by omega)
    have c3 : au Y 100 2 (p + 2) 100 3 = -1 := by rw [au_ni _ _ _ (by decide), b3]
    by_cases h2 : cx (p + 2) = 123
    case neg =>
      rw [if_pos h2] at prT
      refine ⟨fun e h k0 => ?_, fun τ p' k' h => by rw [prT] at h; cases h⟩
      rw [prT] at h
      cases h
      have e3 : bgC A (cx p) 100 3 = p + 2 := by rw [eC, opn_sc _ _ (by decide), mu_n (by rw [tc]; exact h2) (by omega), au_same, au_same]
      refine go ?_
      rw [brI_fl _ (by omega)]
      exact (k0 _ hfo hBo e3).1
    rw [if_neg (fun h => h h2)] at prT
    have m2 := mu_y (c := 123) (by rw [tc]; exact h2) (show _ < 0 by rw [c3]; decide)
    rw [au_same, show p + 2 + 1 = p + 3 by omega] at m2
    have hF := fh_opn (e := 3) (p' := p + 3) hP k30 b0 b1 fd (by rw [m2, au_same]) (by rw [m2, au_ni _ _ _ (by decide), c3]) (by rw [if_pos rfl]; split <;> decide)
    rw [← eC] at hF
    obtain ⟨f1, f2, f3, f4, f5, f6, f7, f8, f9, f10⟩ := hF
    refine fin _ (p + 3) _ _ _ ?_ (by omega) f1 f2 f3 f4 f5 f7 f8 f9 f10 ?_ (fun h => go (by rw [brI_ok _ f1.2.2.2.1]; exact h)) prT
    · split <;> omega
    · rw [if_pos hmd]
      split <;> omega
  · have hmf : md = false := by cases md; rfl; exact absurd rfl hmd
    rw [if_neg hmd] at prT
    have go : RB (brI (bgG A (cx p))) → RB A := fun this => step (fun h => absurd h nk) (fun _ _ _ _ h => by omega) (fun _ h => absurd h ce) (fun _ h1 h2 _ => by omega) (fun _ h => by omega) (fun _ h1 h2 h => absurd h hmd) (fun _ h1 h2 _ => this)
    have fa : fh A (bgg1 A) (base + k) 5 0 := fh_mu (c := 62) l5 (by decide)
    have hof := onF_rg fa.2.1 (low := 97) (many := 4) ⟨by decide, by decide⟩ ⟨by decide, by decide⟩
    have hg2 : -1 ≤ bgg2 A (cx p) ∧ bgg2 A (cx p) < 4 := by unfold bgg2; split <;> omega
    have fb : fh A (bgg3 A (cx p)) (base + k) 5 0 := by
      unfold bgg3
      split
      · exact fh_wr fa (fa.2.1.1 _ _)
      · exact fh_on fa (by decide)
    have fc := fh_106 (w := cx p - 97 + 4 * bgg2 A (cx p)) fb ⟨by omega, by omega⟩
    have fd := fh_mu (c := 123) fc (by decide)
    have eG : bgG A (cx p) = opn (muF (au (bgg3 A (cx p)) 106 (base + k) (cx p - 97 + 4 * bgg2 A (cx p))) 123) (base + k) := bgG_eq s5
    have hBo : tB (bgG A (cx p)) := by rw [eG]; exact tB_opn fd.2.1 ⟨by omega, by omega⟩ (by rw [fd.2.2.2.1]; omega)
    have hfo : fr A (bgG A (cx p)) := by rw [eG]; exact fr_opn fd.1
    have fault : ∀ x, 0 ≤ x → bgg3 A (cx p) 100 3 = x → bgG A (cx p) 100 3 = x := fun x x0 h => by
      rw [eG, opn_sc _ _ (by decide), mu_fl _ (by rw [au_ne _ _ _ _ (by decide), h]; exact x0), au_ne _ _ _ _ (by decide), h]
    by_cases h1 : cx (p + 1) = 62
    case neg =>
      rw [if_pos h1] at prT
      refine ⟨fun e h k0 => ?_, fun τ p' k' h => by rw [prT] at h; cases h⟩
      rw [prT] at h
      cases h
      have g1 : bgg1 A = au (bg1 A 5 0) 100 3 (p + 1) := by unfold bgg1; rw [mu_n (by rw [t1]; exact h1) (by omega), q2]
      have g3 : bgg3 A (cx p) = bgg1 A := by
        have : 0 ≤ bgg1 A 100 3 := by rw [g1, au_same]; omega
        unfold bgg3
        split
        · exact wr_fl _ this
        · exact on_fl _ _ this
      have e3 : bgG A (cx p) 100 3 = p + 1 := fault _ (by omega) (by rw [g3, g1, au_same])
      refine go ?_
      rw [brI_fl _ (by omega)]
      exact (k0 _ hfo hBo e3).1
    rw [if_neg (fun h => h h1)] at prT
    have g1 : bgg1 A = au (bg1 A 5 0) 100 2 (p + 2) := by unfold bgg1; rw [mu_y (by rw [t1]; exact h1) (by omega), q2, show p + 1 + 1 = p + 2 by omega]
    have y2 : bgg1 A 100 2 = p + 2 := by rw [g1, au_same]
    have y3 : bgg1 A 100 3 = -1 := by rw [g1, au_ni _ _ _ (by decide), q3]
    have ty : tHere (bgg1 A) = cx (p + 2) := th_Y s2 hx fa.1 y2 (by omega)
    by_cases h2 : cx (p + 2) = cx p ∨ cx (p + 2) < 97 ∨ 100 < cx (p + 2)
    · rw [if_pos h2] at prT
      refine ⟨fun e h k0 => ?_, fun τ p' k' h => by rw [prT] at h; cases h⟩
      rw [prT] at h
      cases h
      have e3 : bgG A (cx p) 100 3 = p + 2 := by
        refine fault _ (by omega) ?_
        unfold bgg3
        rw [ty]
        split
        · rw [wr_fst _ (by omega), au_same, y2]
        · rw [on_n (by rw [ty]; omega) (by omega), au_same, y2]
      refine go ?_
      rw [brI_fl _ (by omega)]
      exact (k0 _ hfo hBo e3).1
    rw [if_neg h2] at prT
    obtain ⟨on1, on2⟩ := on_y (A := bgg1 A) (l := 97) (m := 4) (by rw [ty]; omega) (by omega)
    have g3 : bgg3 A (cx p) = au (bgg1 A) 100 2 (p + 3) := by unfold bgg3; rw [if_neg (by rw [ty]; omega), on1, y2, show p + 2 + 1 = p + 3 by omega]
    have g2 : bgg2 A (cx p) = cx (p + 2) - 97 := by unfold bgg2; rw [if_neg (by rw [ty]; omega), on2, ty]
    rw [g3, g2] at fc fd eG
    have z2 : au (au (bgg1 A) 100 2 (p + 3)) 106 (base + k) (cx p - 97 + 4 * (cx (p + 2) - 97)) 100 2 = p + 3 := by rw [au_ne _ _ _ _ (by decide), au_same]
    have z3 : au (au (bgg1 A) 100 2 (p + 3)) 106 (base + k) (cx p - 97 + 4 * (cx (p + 2) - 97)) 100 3 = -1 := by rw [au_ne _ _ _ _ (by decide), au_ni _ _ _ (by decide), y3]
    have tz : tHere (au (au (bgg1 A) 100 2 (p + 3)) 106 (base + k) (cx p - 97 + 4 * (cx (p + 2) - 97))) = cx (p + 3) := th_Y s2 hx fc.1 z2 (by omega)
    by_cases h3 : cx (p + 3) = 123
    case neg =>
      rw [if_pos h3] at prT
      refine ⟨fun e h k0 => ?_, fun τ p' k' h => by rw [prT] at h; cases h⟩
      rw [prT] at h
      cases h
      have e3 : bgG A (cx p) 100 3 = p + 3 := by rw [eG, opn_sc _ _ (by decide), mu_n (by rw [tz]; exact h3) (by omega), au_same, z2]
      refine go ?_
      rw [brI_fl _ (by omega)]
      exact (k0 _ hfo hBo e3).1
    rw [if_neg (fun h => h h3)] at prT
    have m2 := mu_y (c := 123) (by rw [tz]; exact h3) (show _ < 0 by rw [z3]; decide)
    rw [z2, show p + 3 + 1 = p + 4 by omega] at m2
    have hF := fh_opn (e := 3) (p' := p + 4) hP k30 b0 b1 fd (by rw [m2, au_same]) (by rw [m2, au_ni _ _ _ (by decide), z3]) (by rw [if_pos rfl]; decide)
    rw [← eG] at hF
    obtain ⟨f1, f2, f3, f4, f5, f6, f7, f8, f9, f10⟩ := hF
    refine fin _ (p + 4) _ _ _ ?_ (by omega) f1 f2 f3 f4 f5 f7 f8 f9 f10 ?_ (fun h => go (by rw [brI_ok _ f1.2.2.2.1]; exact h)) prT
    · omega
    · rw [if_neg hmd]
      omega
theorem ok_all {cx : Int → Int} {md : Bool} {base len : Int} {RB RC : (Nat → Int → Int) → Prop} (hx : ∀ i, len ≤ i → cx i = -1) (b0 : 0 ≤ base) (b1 : base ≤ 200) (hBs : stB base md RB RC) (hC : stC RB RC) : ∀ f, okT cx md base len RB RC f ∧ okB cx md base len RB RC f := by
  intro f
  induction f with
  | zero =>
    refine ⟨fun env p k bef A hf hP => ?_, fun env p k m bef A hf hP => ?_⟩
    · have := hP.1.2.1; have := hP.2.1.1; have := hP.2.2.1; omega
    · have := hP.1.2.1; have := hP.2.1.1; have := hP.2.2.1; omega
  | succ f ih => exact ⟨okT_s hx b0 b1 hBs hC ih.1 ih.2, okB_s hx b0 b1 hC ih.1 ih.2⟩

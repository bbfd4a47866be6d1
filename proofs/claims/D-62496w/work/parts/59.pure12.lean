/-! the rows of a machine against its type -/
def gs (A : Nat → Int → Int) (s : Int) : Prop := (0 ≤ A 119 s ∧ A 119 s < 300) ∧ (0 ≤ A 107 (A 119 s) ∧ A 107 (A 119 s) ≤ 6) ∧ ∀ k, 1 ≤ k → k ≤ A 107 (A 119 s) → ∃ y, 0 ≤ y ∧ y < 6 ∧ A 108 (6 * A 119 s + y) = k ∧ (∀ j, 0 ≤ j → j < 6 → A 108 (6 * A 119 s + j) = k → j = y) ∧ ∃ f x, f < 64 ∧ bg A f (A 110 (6 * A 119 s + y)) x ∧ 0 ≤ x ∧ x < 300
def rd (A A' : Nat → Int → Int) (m s k : Int) : Prop := ∀ y, 0 ≤ y → y < 6 → A 108 (6 * A 119 s + y) = k → A' 126 (6 * (31 * m + s) + k - 1) = y ∧ A' 127 (6 * (31 * m + s) + k - 1) = A 109 (6 * A 119 s + y) ∧ ∃ f x, bg A f (A 110 (6 * A 119 s + y)) x ∧ A' 128 (6 * (31 * m + s) + k - 1) = A 129 x
theorem lab_u (A : Nat → Int → Int) : ∀ (l : Tr) (m i : Int), (tR A l).2 m i → ∀ y y', hasL l y = true → hasL l y' = true → A 108 (6 * m + y) = A 108 (6 * m + y') → y = y'
  | .leaf _, m, i, _, y, y', h, _, _ => by cases h
  | .branch k l q, m, i, h, y, y', h1, h2, e => by
    rw [tR_brB] at h
    rw [hasL_br] at h1 h2
    obtain ⟨a, -, -, b⟩ := h
    by_cases e1 : ((k / 3 : Nat) : Int) = y
    · by_cases e2 : ((k / 3 : Nat) : Int) = y'
      · omega
      · rw [decide_eq_false e2, Bool.false_or] at h2
        have := lab_o A q m (i + 1) b y' h2
        rw [← e1, a] at e
        omega
    · rw [decide_eq_false e1, Bool.false_or] at h1
      by_cases e2 : ((k / 3 : Nat) : Int) = y'
      · have := lab_o A q m (i + 1) b y h1
        rw [← e2, a] at e
        omega
      · rw [decide_eq_false e2, Bool.false_or] at h2
        exact lab_u A q m (i + 1) b y y' h1 h2 e
theorem mm_gs (A : Nat → Int → Int) (m : Int) (τ : Tr) :
    (∀ (n p s : Int) (L : List Int) (hb : Nat → Int) (bs : Nat → Bool), pos A τ n p L → szT τ ≤ 30 → (gdd τ).1 bs → hvS A (lsP τ).1 L hb → (nR A m τ).1 n s → ∀ i, s ≤ i → i < s + (nS τ).1 → gs A i) ∧
    (∀ (x i0 s : Int) (L : List Int) (hb : Nat → Int) (bs : Nat → Bool), posB A τ x i0 L → szB τ ≤ 30 → (gdd τ).2 bs → hvS A (lsP τ).2 (x :: L) hb → (nR A m τ).2 x s → (∀ i, s ≤ i → i < s + (nS τ).2 → gs A i) ∧ ∀ k, i0 < k → k ≤ i0 + lenB τ → ∃ y, 0 ≤ y ∧ y < 6 ∧ A 108 (6 * x + y) = k ∧ hasL τ y = true ∧ ∃ f x', f < 64 ∧ bg A f (A 110 (6 * x + y)) x' ∧ 0 ≤ x' ∧ x' < 300) := by
  induction τ with
  | leaf k =>
    refine ⟨fun n p s L hb bs hP hS hg hv hN i i0 i1 => ?_, fun x i0 s L hb bs hP hS hg hv hN => ⟨fun i a b => ?_, fun k a b => ?_⟩⟩
    · have hr := pos_n hP
      have hR := hP.1
      rw [tR_lf] at hR
      by_cases e : k = 0
      · have e1 : ((nS (.leaf k)).1 : Int) = 1 := by show (((if k = 0 then 1 else 0 : Nat)) : Int) = 1; rw [if_pos e]; rfl
        have hD := hN e
        have ei : i = s := by omega
        unfold gs
        rw [ei, hD.2.1, hR.1]
        exact ⟨hr, ⟨by omega, by omega⟩, fun k a b => by omega⟩
      · have e1 : ((nS (.leaf k)).1 : Int) = 0 := by show (((if k = 0 then 1 else 0 : Nat)) : Int) = 0; rw [if_neg e]; rfl
        omega
    · have e1 : ((nS (.leaf k)).2 : Int) = 0 := rfl
      omega
    · rename_i k0
      have e2 : ((lenB (.leaf k0) : Nat) : Int) = 0 := rfl
      omega
  | branch k l q ihl ihq =>
    refine ⟨fun n p s L hb bs hP hS hg hv hN i i0 i1 => ?_, fun x i0 s L hb bs hP hS hg hv hN => ?_⟩
    · have hr := pos_n hP
      have hR := hP.1
      rw [tR_br] at hR
      have hsz := szT_br k l q
      by_cases h3 : k < 3
      · have hv' := hvS_loop h3 hP hg hS hv
        rw [gdd_br, if_pos h3] at hg
        rw [nR_br, if_pos h3] at hN
        rw [nS_br, if_pos h3] at i1
        rw [if_pos h3] at hsz
        exact ihl.1 _ n s _ _ _ (pos_loop h3 hP) (by omega) hg.2 hv' hN i i0 i1
      · have hvB := hvS_msg h3 hP hv
        obtain ⟨hPB, hnn⟩ := pos_msg h3 hP
        rw [gdd_br, if_neg h3] at hg
        rw [nR_br, if_neg h3] at hN
        rw [nS_br, if_neg h3] at i1
        rw [if_neg h3] at hsz hR
        obtain ⟨g1, g2⟩ := ihl.2 n 0 (s + 1) L hb bs hPB (by omega) hg hvB hN.2
        by_cases ei : i = s
        · have h7 := lab_n A l n 0 hR.2.1
          have hle := lenB_le l hPB.2.1
          unfold gs
          rw [ei, hN.1.2.1]
          refine ⟨hr, ⟨by omega, by omega⟩, fun k' a b => ?_⟩
          obtain ⟨y, y0, y1, y2, y3, y4⟩ := g2 k' (by omega) (by omega)
          refine ⟨y, y0, y1, y2, fun j j0 j1 j2 => ?_, y4⟩
          cases hj : hasL l j with
          | false => rw [hR.2.2 j j0 j1 hj] at j2; omega
          | true => exact lab_u A l n 0 hR.2.1 j y hj y3 (by rw [j2, y2])
        · exact g1 i (by omega) (by omega)
    · obtain ⟨hPh, hdis⟩ := posB_hd hP
      have hPt := posB_tl hP
      obtain ⟨hvh, hvt⟩ := hvS_hd hv
      have hR := hP.1
      rw [tR_brB] at hR
      have hw := hP.2.1
      rw [wfB_br] at hw
      rw [gdd_brB] at hg
      rw [nR_brB] at hN
      have hsz := szB_br k l q
      have hlen := lenB_br k l q
      rw [nS_brB]
      obtain ⟨j1, j2⟩ := ihq.2 x (i0 + 1) (s + (nS l).1) L hb bs hPt (by omega) hg.2 hvt hN.2
      have j3 := ihl.1 _ x s (x :: L) hb bs hPh (by omega) hg.1 hvh hN.1
      refine ⟨fun i a b => ?_, fun k' a b => ?_⟩
      · by_cases h : i < s + (nS l).1
        · exact j3 i a h
        · exact j1 i (by omega) (by omega)
      · by_cases h : k' = i0 + 1
        · obtain ⟨⟨f, hf, hbg⟩, hh⟩ := bg_P hPh hg.1 (by omega) hvh
          refine ⟨((k / 3 : Nat) : Int), by omega, by omega, by rw [hR.1, h], by rw [hasL_br, decide_eq_true rfl]; rfl, f, _, hf, hbg, hh⟩
        · obtain ⟨y, y0, y1, y2, y3, y4⟩ := j2 k' (by omega) (by omega)
          exact ⟨y, y0, y1, y2, by rw [hasL_br, y3, Bool.or_true], y4⟩
theorem st_hd : ∀ (τ : Tr) (env : Nat → Int) (s : Int), hdv τ = 0 ∨ hdv τ = 100 → (wfP τ).1 → st τ env s = s
  | .leaf k, env, s, h, hw => by
    replace h : k = 0 ∨ k = 100 := h
    rw [wfT_leaf] at hw
    show (if k = 0 then s else env (k - 1)) = s
    rw [if_pos (by omega)]
  | .branch k l q, env, s, h, hw => by
    rw [hdv_br] at h
    rw [wfT_br] at hw
    rw [st_br]
    by_cases h3 : k < 3
    · rw [if_pos h3] at h hw ⊢
      exact st_hd l _ s h hw
    · rw [if_neg h3]
theorem nR_st (A : Nat → Int → Int) (m : Int) : ∀ (τ : Tr) (n s : Int) (hb : Nat → Int) (env : Nat → Int) (bs : Nat → Bool), (nR A m τ).1 n s → (gdd τ).1 bs → (wfP τ).1 → (∀ v, hdv τ = v + 1 → v < 3 → env v = A 129 (hb v)) → A 129 (hn A τ n hb) = st τ env s
  | .leaf k, n, s, hb, env, bs, hN, hg, hw, he => by
    show A 129 (if k = 0 then n else hb (k - 1)) = if k = 0 then s else env (k - 1)
    rw [wfT_leaf] at hw
    by_cases e : k = 0
    · rw [if_pos e, if_pos e]; exact (hN e).1
    · rw [if_neg e, if_neg e]; exact (he (k - 1) (by show k = k - 1 + 1; omega) (by omega)).symm
  | .branch k l q, n, s, hb, env, bs, hN, hg, hw, he => by
    rw [hn_br, st_br]
    rw [nR_br] at hN
    rw [gdd_br] at hg
    rw [wfT_br] at hw
    rw [hdv_br] at he
    by_cases h3 : k < 3
    · rw [if_pos h3] at hN hg hw he
      rw [if_pos h3, if_pos h3]
      refine nR_st A m l _ s hb _ _ hN hg.2 hw (fun v e hv => ?_)
      have hk : v ≠ k := fun h => hg.1 (by omega)
      have eu : ue env k s v = env v := if_neg hk
      rw [eu]; exact he v e hv
    · rw [if_neg h3] at hN
      rw [if_neg h3, if_neg h3]
      exact hN.1.1
def tM (A : Nat → Int → Int) (m : Int) : Nat → Int → Int → Int := fun f s j => if f < 3 then A (123 + f) (31 * m + s) else A (123 + f) (6 * (31 * m + s) + j)
theorem mm_mR (A A' : Nat → Int → Int) (m : Int) (h3' : ∀ j i, 123 ≤ j → j ≤ 125 → A' j i = A j i) (τ : Tr) :
    (∀ (n p s : Int) (L : List Int) (hb : Nat → Int) (bs : Nat → Bool) (env : Nat → Int), pos A τ n p L → szT τ ≤ 30 → (gdd τ).1 bs → hvS A (lsP τ).1 L hb → (nR A m τ).1 n s → (∀ i, s ≤ i → i < s + (nS τ).1 → ∀ k, 1 ≤ k → k ≤ A 107 (A 119 i) → rd A A' m i k) → (∀ v, v < 3 → (lsP τ).1 v = true → env v = A 129 (hb v)) → (mR (tM A' m) τ).1 env s) ∧
    (∀ (x i0 s ms : Int) (L : List Int) (hb : Nat → Int) (bs : Nat → Bool) (env : Nat → Int), posB A τ x i0 L → szB τ ≤ 30 → (gdd τ).2 bs → hvS A (lsP τ).2 (x :: L) hb → (nR A m τ).2 x s → 0 ≤ i0 → A 119 ms = x → (∀ k, 1 ≤ k → k ≤ A 107 x → rd A A' m ms k) → (∀ i, s ≤ i → i < s + (nS τ).2 → ∀ k, 1 ≤ k → k ≤ A 107 (A 119 i) → rd A A' m i k) → (∀ v, v < 3 → (lsP τ).2 v = true → env v = A 129 (hb v)) → (mR (tM A' m) τ).2 env ms i0 s) := by
  have row : ∀ {n s kd pr ct : Int}, nD A m n s kd pr ct → tM A' m 0 s 0 = kd ∧ tM A' m 1 s 0 = pr ∧ tM A' m 2 s 0 = ct := fun h => ⟨(h3' 123 _ (by decide) (by decide)).trans h.2.2.1, (h3' 124 _ (by decide) (by decide)).trans h.2.2.2.1, (h3' 125 _ (by decide) (by decide)).trans h.2.2.2.2⟩
  induction τ with
  | leaf k => exact ⟨fun n p s L hb bs env hP hS hg hv hN hrd he hk => row (hN hk), fun x i0 s ms L hb bs env hP hS hg hv hN i00 h119 hrd hr2 he => trivial⟩
  | branch k l q ihl ihq =>
    refine ⟨fun n p s L hb bs env hP hS hg hv hN hrd he => ?_, fun x i0 s ms L hb bs env hP hS hg hv hN i00 h119 hrd hr2 he => ?_⟩
    · have hr := pos_n hP
      have hsz := szT_br k l q
      rw [mR_br]
      by_cases h3 : k < 3
      · have hv' := hvS_loop h3 hP hg hS hv
        have hg' := hg
        rw [gdd_br, if_pos h3] at hg
        rw [nR_br, if_pos h3] at hN
        rw [nS_br, if_pos h3] at hrd
        rw [if_pos h3] at hsz ⊢
        refine ihl.1 _ n s _ _ _ _ (pos_loop h3 hP) (by omega) hg.2 hv' hN hrd (fun v hv3 hl => ?_)
        by_cases e : v = k
        · subst e
          have hh := hd_msg h3 hP.2.1 hg' hl
          have e1 : ue env v s v = s := if_pos rfl
          have e2 : ue hb v (hn A l (A 110 (6 * n)) hb) v = hn A l (A 110 (6 * n)) hb := if_pos rfl
          rw [e1, e2, nR_st A m l _ s hb (fun v => A 129 (hb v)) _ hN hg.2 (pos_loop h3 hP).2.1 (fun _ _ _ => rfl)]
          exact (st_hd l _ s hh (pos_loop h3 hP).2.1).symm
        · have e1 : ue env k s v = env v := if_neg e
          have e2 : ue hb k (hn A l (A 110 (6 * n)) hb) v = hb v := if_neg e
          rw [e1, e2]
          exact he v hv3 (by rw [lsT_br, if_pos h3, hl, decide_eq_false e]; rfl)
      · have hvB := hvS_msg h3 hP hv
        obtain ⟨hPB, hnn⟩ := pos_msg h3 hP
        have hR := hP.1
        rw [tR_br, if_neg h3] at hR
        rw [gdd_br, if_neg h3] at hg
        rw [nR_br, if_neg h3] at hN
        have e1 : ((nS (.branch k l q)).1 : Int) = 1 + (nS l).2 := by rw [nS_br, if_neg h3]; omega
        rw [if_neg h3] at hsz ⊢
        refine ⟨row hN.1, ihl.2 n 0 (s + 1) s L hb bs env hPB (by omega) hg hvB hN.2 (by omega) hN.1.2.1 (fun k a b => hrd s (by omega) (by omega) k a (by rw [hN.1.2.1]; exact b)) (fun i a b => hrd i (by omega) (by omega)) (fun v hv3 hl => he v hv3 (by rw [lsT_br, if_neg h3]; exact hl))⟩
    · obtain ⟨hPh, hdis⟩ := posB_hd hP
      have hPt := posB_tl hP
      obtain ⟨hvh, hvt⟩ := hvS_hd hv
      have hR := hP.1
      have h7 := lab_n A _ _ _ hR
      rw [tR_brB] at hR
      have hw := hP.2.1
      rw [wfB_br] at hw
      rw [gdd_brB] at hg
      rw [nR_brB] at hN
      have hsz := szB_br k l q
      have hlen := lenB_br k l q
      have hns : ((nS (.branch k l q)).2 : Int) = (nS l).1 + (nS q).2 := by rw [nS_brB]; omega
      rw [mR_brB]
      refine ⟨?_, ihl.1 _ x s (x :: L) hb bs env hPh (by omega) hg.1 hvh hN.1 (fun i a b => hr2 i (by omega) (by omega)) (fun v hv3 hl => he v hv3 (by rw [lsB_br, hl]; rfl)), ihq.2 x (i0 + 1) (s + (nS l).1) ms L hb bs env hPt (by omega) hg.2 hvt hN.2 (by omega) h119 hrd (fun i a b => hr2 i (by omega) (by omega)) (fun v hv3 hl => he v hv3 (by rw [lsB_br, hl, Bool.or_true]))⟩
      have h1 := hrd (i0 + 1) (by omega) (by omega) ((k / 3 : Nat) : Int) (by omega) (by omega) (by rw [h119]; exact hR.1)
      rw [h119] at h1
      obtain ⟨r1, r2, f', x', r3, r4⟩ := h1
      obtain ⟨⟨f, hf, hbg⟩, hh⟩ := bg_P hPh hg.1 (by omega) hvh
      have ei : 6 * (31 * m + ms) + (i0 + 1) - 1 = 6 * (31 * m + ms) + i0 := by omega
      rw [ei] at r1 r2 r4
      refine ⟨r1, r2.trans hR.2.1, ?_⟩
      rw [bg_u A _ _ _ _ _ r3 hbg] at r4
      exact r4.trans (nR_st A m l _ s hb env bs hN.1 hg.1 hw.2.2.1 (fun v e hv3 => he v hv3 (by rw [lsB_br, hd_lo l v bs hg.1 e hv3]; rfl)))
/-- a closed type has nothing loose -/
theorem gd_ls (τ : Tr) : (∀ bs v, (gdd τ).1 bs → (lsP τ).1 v = true → bs v = true) ∧ ∀ bs v, (gdd τ).2 bs → (lsP τ).2 v = true → bs v = true := by
  induction τ with
  | leaf k =>
    refine ⟨fun bs v h hl => ?_, fun bs v h hl => by cases hl⟩
    replace hl : decide (k = v + 1) = true := hl
    rw [decide_eq_true_eq] at hl
    have := h (by omega)
    rw [show k - 1 = v by omega] at this
    exact this
  | branch k l q ihl ihq =>
    refine ⟨fun bs v h hl => ?_, fun bs v h hl => ?_⟩
    · rw [gdd_br] at h
      rw [lsT_br] at hl
      by_cases h3 : k < 3
      · rw [if_pos h3] at h hl
        rw [Bool.and_eq_true] at hl
        have := ihl.1 _ v h.2 hl.2
        unfold ub at this
        rw [Bool.or_eq_true] at this
        rcases this with e | e
        · rw [decide_eq_true_eq] at e
          rw [decide_eq_true e] at hl
          cases hl.1
        · exact e
      · rw [if_neg h3] at h hl
        exact ihl.2 bs v h hl
    · rw [gdd_brB] at h
      rw [lsB_br, Bool.or_eq_true] at hl
      rcases hl with e | e
      · exact ihl.1 bs v h.1 e
      · exact ihq.2 bs v h.2 e

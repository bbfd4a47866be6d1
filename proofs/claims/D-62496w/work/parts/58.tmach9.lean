/-! the twin: makeMachine, the first loop -/
section TW58
variable {K : xk} {M : xm} {d : Nat} {Q : Outcome → xh → Prop} {R : Nat → Int → Value} {g : Nat → Nat × List Value} {t u : Nat}
/-- the head of the first loop -/
def MM (K : xk) (d : Nat) (Q : Outcome → xh → Prop) (R : Nat → Int → Value) (g : Nat → Nat × List Value) (t u : Nat) (m s0 top : Int) (A : Nat → Int → Int) : Prop := wx K M_T_makeMachine (d + 2) Q 24 [some (.ref (xa K.n 32)), some (iv m), some (iv s0), some (iv top), some (iv 1), none, none, none, none, none] [] (hp K.n A R g t u)
theorem mm_ex {m s0 top x s8 : Int} {A : Nat → Int → Int} (hq : MM K d Q R g t u m s0 top A) : wx K M_T_makeMachine (d + 2) Q 211 [some (.ref (xa K.n 32)), some (iv m), some (iv s0), some (iv top), some (iv 1), some (iv x), some (iv s8), some (iv 0), none, none] [] (hp K.n A R g t u) := by
  have hnx : wx K M_T_makeMachine (d + 2) Q 24 [some (.ref (xa K.n 32)), some (iv m), some (iv s0), some (iv top), some (iv 1), some (iv x), some (iv s8), some (iv 0), none, none] [] (hp K.n A R g t u) := wx_t (pre := [some (.ref (xa K.n 32)), some (iv m), some (iv s0), some (iv top), some (iv 1)]) (tl := [some (iv x), some (iv s8), some (iv 0), none, none]) hq
  refine r_iload 122 rfl rfl ?_
  refine r_iconst 123 rfl ?_
  refine r_icmp_lt (t := 251) 124 rfl (by decide) (by first | exact hA _ _ | exact ⟨by decide, by decide⟩ | assumption | exact ⟨by omega, by omega⟩) (by first | exact hA _ _ | exact ⟨by decide, by decide⟩ | assumption | exact ⟨by omega, by omega⟩) (fun c_214 => ?_) (fun c_214 => by omega)
  refine r_goto (t := 24) 143 rfl (by decide) ?_
  exact hnx
/-- what the first loop keeps -/
def fM (A A' : Nat → Int → Int) (m s s' top : Int) : Prop := (∀ j i, j ≠ 119 → (j = 122 → i ≠ m) → (j = 123 ∨ j = 124 ∨ j = 125 → i < 31 * m ∨ 31 * m + 31 ≤ i) → j ≠ 129 → j ≠ 130 → A' j i = A j i) ∧ rga A' ∧ (∀ i, i < top → A' 130 i = A 130 i) ∧ (∀ i, i < s → sameS A A' m i) ∧ A' 122 m = s'
theorem fM.e {A A' : Nat → Int → Int} {m s s' top : Int} (h : fM A A' m s s' top) : eqT A A' := fun j i h1 h2 => h.1 j i (by omega) (by omega) (by omega) (by omega) (by omega)
theorem fM.rf {A : Nat → Int → Int} {m s top : Int} (hA : rga A) (hs : A 122 m = s) : fM A A m s s top := ⟨fun _ _ _ _ _ _ _ => rfl, hA, fun _ _ => rfl, fun _ _ => ⟨rfl, rfl, rfl, rfl⟩, hs⟩
theorem fM.tr {A B C : Nat → Int → Int} {m s s1 s2 top top' : Int} (h1 : fM A B m s s1 top') (h2 : fM B C m s1 s2 top) (hs : s ≤ s1) (ht : top ≤ top') : fM A C m s s2 top := by
  obtain ⟨a1, a2, a3, a4, a5⟩ := h1
  obtain ⟨b1, b2, b3, b4, b5⟩ := h2
  refine ⟨fun j i c1 c2 c3 c4 c5 => (b1 j i c1 c2 c3 c4 c5).trans (a1 j i c1 c2 c3 c4 c5), b2, fun i hi => (b3 i hi).trans (a3 i (by omega)), fun i hi => ?_, b5⟩
  obtain ⟨c1, c2, c3, c4⟩ := a4 i hi
  obtain ⟨e1, e2, e3, e4⟩ := b4 i (by omega)
  exact ⟨e1.trans c1, e2.trans c2, e3.trans c3, e4.trans c4⟩
theorem skq_fr {A A' : Nat → Int → Int} {x top : Int} (h10 : ∀ i, A' 110 i = A 110 i) : ∀ q : Tr, (∀ i, i < top + lenB q → A' 130 i = A 130 i) → skq A x q top → skq A' x q top
  | .leaf _, _, _ => trivial
  | .branch k τ q, h, hs => by
    have e := lenB_br k τ q
    refine ⟨?_, skq_fr h10 q (fun i hi => h i (by omega)) hs.2⟩
    rw [h _ (by omega), h10]
    exact hs.1
/-- a place gets its number -/
theorem mm_fM {A : Nat → Int → Int} {m x s kd pr top : Int} (hA : rga A) (m0 : 0 ≤ m) (m1 : m < 9) (hx : 0 ≤ x ∧ x < 300) (s0 : 0 ≤ s) (s1 : s < 31) (hk : rg kd) (hpr : rg pr) : fM A (mmA A m x s kd pr) m s (s + 1) top ∧ (∀ y, y ≠ x → mmA A m x s kd pr 129 y = A 129 y) ∧ nD (mmA A m x s kd pr) m x s kd pr (A 107 x) := by
  have hsr : rg s := ⟨by omega, by omega⟩
  have hxr : rg x := ⟨by omega, by omega⟩
  have hs1r : rg (s + 1) := ⟨by omega, by omega⟩
  refine ⟨⟨fun j i c1 c2 c3 c4 c5 => ?_, ?_, fun i hi => ?_, fun i hi => ⟨?_, ?_, ?_, ?_⟩, ?_⟩, fun y hy => ?_, ?_, ?_, ?_, ?_, ?_⟩
  · rw [mm_row, if_neg (by omega), if_neg (by omega), if_neg (by omega), if_neg (by omega), if_neg (by omega), if_neg (by omega)]
  · unfold mmA
    exact rga_au (rga_au (rga_au (rga_au (rga_au (rga_au hA hsr) hs1r) hk) hpr) (hA _ _)) hxr
  · rw [mm_row, if_neg (by omega), if_neg (by omega), if_neg (by omega), if_neg (by omega), if_neg (by omega), if_neg (by omega)]
  · rw [mm_row, if_neg (by omega), if_neg (by omega), if_neg (by omega), if_neg (by omega), if_neg (by omega), if_neg (by omega)]
  · rw [mm_row, if_neg (by omega), if_neg (by omega), if_neg (by omega), if_neg (by omega), if_neg (by omega), if_neg (by omega)]
  · rw [mm_row, if_neg (by omega), if_neg (by omega), if_neg (by omega), if_neg (by omega), if_neg (by omega), if_neg (by omega)]
  · rw [mm_row, if_neg (by omega), if_neg (by omega), if_neg (by omega), if_neg (by omega), if_neg (by omega), if_neg (by omega)]
  · rw [mm_row, if_neg (by omega), if_neg (by omega), if_neg (by omega), if_neg (by omega), if_pos ⟨rfl, rfl⟩]
  · rw [mm_row, if_neg (by omega), if_neg (by omega), if_neg (by omega), if_neg (by omega), if_neg (by omega), if_neg (by omega)]
  · rw [mm_row, if_neg (by omega), if_neg (by omega), if_neg (by omega), if_neg (by omega), if_neg (by omega), if_pos ⟨rfl, rfl⟩]
  · rw [mm_row, if_pos ⟨rfl, rfl⟩]
  · rw [mm_row, if_neg (by omega), if_neg (by omega), if_neg (by omega), if_pos ⟨rfl, rfl⟩]
  · rw [mm_row, if_neg (by omega), if_neg (by omega), if_pos ⟨rfl, rfl⟩]
  · rw [mm_row, if_neg (by omega), if_pos ⟨rfl, rfl⟩]
theorem mm_T {m s0 : Int} (m0 : 0 ≤ m) (m1 : m < 9) (τ : Tr) :
    (∀ (n p n0 s top : Int) (f : Nat) (L : List Int) (hb : Nat → Int) (bs : Nat → Bool) (A : Nat → Int → Int), rga A → pos A τ n p L → szT τ ≤ 30 → (gdd τ).1 bs → hvS A (lsP τ).1 L hb →
      (∀ v, hdv τ = v + 1 → v < 3 → 0 ≤ A 129 (hb v)) → (∀ v, v < 3 → (lsP τ).1 v = true → 0 ≤ A 129 (hb v) ∨ hb v = hn A τ n hb) →
      (∀ x, (ct A τ).1 n x ≠ 0 → A 129 x = -1) → bg A f n0 (hn A τ n hb) → f < 64 → A 130 top = n0 → 0 ≤ top → top + szT τ ≤ 200 → A 122 m = s → 0 ≤ s → s + (nS τ).1 ≤ 30 →
      (∀ A', fM A A' m s (s + (nS τ).1) top → (∀ x, (ct A τ).1 n x = 0 → A' 129 x = A 129 x) → (nR A' m τ).1 n s → MM K d Q R g t u m s0 top A') → MM K d Q R g t u m s0 (top + 1) A) ∧
    (∀ (x i s top : Int) (L : List Int) (hb : Nat → Int) (bs : Nat → Bool) (A : Nat → Int → Int), rga A → posB A τ x i L → szB τ ≤ 30 → (gdd τ).2 bs → hvS A (lsP τ).2 (x :: L) hb →
      (∀ v, v < 3 → (lsP τ).2 v = true → 0 ≤ A 129 (hb v)) →
      (∀ y, (ct A τ).2 x y ≠ 0 → A 129 y = -1) → skq A x τ top → 0 ≤ top → top + szB τ ≤ 200 → A 122 m = s → 0 ≤ s → s + (nS τ).2 ≤ 30 →
      (∀ A', fM A A' m s (s + (nS τ).2) top → (∀ y, (ct A τ).2 x y = 0 → A' 129 y = A 129 y) → (nR A' m τ).2 x s → MM K d Q R g t u m s0 top A') → MM K d Q R g t u m s0 (top + lenB τ) A) := by
  induction τ with
  | leaf k =>
    refine ⟨fun n p n0 s top f L hb bs A hA hP hS hg hv hN1 hN2 hfr hbg hf h130 t0 t1 h122 s00 s1 hq => ?_, fun x i s top L hb bs A hA hP hS hg hv hN hfr hsk t0 t1 h122 s00 s1 hq => ?_⟩
    · have hr := pos_n hP
      have hR := hP.1
      rw [tR_lf] at hR
      by_cases e : k = 0
      · have e1 : ((nS (.leaf k)).1 : Int) = 1 := by show (((if k = 0 then 1 else 0 : Nat)) : Int) = 1; rw [if_pos e]; rfl
        have e2 : hn A (.leaf k) n hb = n := if_pos e
        rw [e1] at s1 hq
        rw [e2] at hbg
        have h9 := hfr n (by rw [ct_lf, if_pos rfl]; decide)
        obtain ⟨c1, c2, c3⟩ := mm_fM (pr := -1) (kd := 0) (top := top) hA m0 m1 hr s00 (by omega) ⟨by decide, by decide⟩ ⟨by decide, by decide⟩
        refine mm_node (m := m) (s0 := s0) (kd := 0) (pr := -1) hA hbg hf hr.1 hr.2 (by omega) t0 (by omega) h130 m0 m1 h122 s00 (by omega) (Or.inl ⟨hR.2.1 e, rfl, rfl⟩) ?_
        rw [hR.1]
        refine mm_ex (hq _ c1 (fun x hx => c2 x (fun h => ?_)) (fun _ => ?_))
        · rw [ct_lf, if_pos h] at hx; cases hx
        · rw [hR.1] at c3; exact c3
      · have e1 : ((nS (.leaf k)).1 : Int) = 0 := by show (((if k = 0 then 1 else 0 : Nat)) : Int) = 0; rw [if_neg e]; rfl
        have e2 : hn A (.leaf k) n hb = hb (k - 1) := if_neg e
        rw [e1, Int.add_zero] at hq
        rw [e2] at hbg
        have hw := hP.2.1
        rw [wfT_leaf] at hw
        obtain ⟨-, b, -⟩ := hv (k - 1) (by omega) (by show decide (k = k - 1 + 1) = true; rw [decide_eq_true_eq]; omega)
        refine mm_skip hA hbg hf b.1 b.2 (hN1 (k - 1) (by show k = k - 1 + 1; omega) (by omega)) t0 (by omega) h130 (hq A (fM.rf hA h122) (fun _ _ => rfl) (fun h => absurd h e))
    · have e1 : ((nS (.leaf k)).2 : Int) = 0 := rfl
      have e2 : ((lenB (.leaf k) : Nat) : Int) = 0 := rfl
      rw [e1, Int.add_zero] at hq
      rw [e2, Int.add_zero]
      exact hq A (fM.rf hA h122) (fun _ _ => rfl) trivial
  | branch k l q ihl ihq =>
    refine ⟨fun n p n0 s top f L hb bs A hA hP hS hg hv hN1 hN2 hfr hbg hf h130 t0 t1 h122 s00 s1 hq => ?_, fun x i s top L hb bs A hA hP hS hg hv hN hfr hsk t0 t1 h122 s00 s1 hq => ?_⟩
    · have hr := pos_n hP
      have hR := hP.1
      rw [tR_br] at hR
      have hsz := szT_br k l q
      by_cases h3 : k < 3
      · have hv' := hvS_loop h3 hP hg hS hv
        have hgl := hg
        rw [gdd_br, if_pos h3] at hgl
        rw [if_pos h3] at hR hsz
        have e1 : (nS (.branch k l q)).1 = (nS l).1 := by rw [nS_br, if_pos h3]
        have e2 : hn A (.branch k l q) n hb = hn A l (A 110 (6 * n)) hb := by rw [hn_br, if_pos h3]
        have e3 := hn_ue A k (hn A l (A 110 (6 * n)) hb) l (A 110 (6 * n)) hb hgl.1
        rw [e2] at hbg
        rw [e1] at s1 hq
        refine ihl.1 (A 110 (6 * n)) n n0 s top f (n :: L) (ue hb k (hn A l (A 110 (6 * n)) hb)) (ub bs k) A hA (pos_loop h3 hP) (by omega) hgl.2 hv' (fun v e hv3 => ?_) (fun v hv3 hl => ?_) (fun x hx => hfr x (by rw [ct_br, if_pos h3]; omega)) (by rw [e3]; exact hbg) hf h130 t0 (by omega) h122 s00 s1 (fun A' c1 c2 c3 => hq A' c1 (fun x hx => c2 x (by rw [ct_br, if_pos h3] at hx; omega)) ?_)
        · have hk : v ≠ k := fun h => hgl.1 (by omega)
          have eu : ue hb k (hn A l (A 110 (6 * n)) hb) v = hb v := if_neg hk
          rw [eu]
          exact hN1 v (by rw [hdv_br, if_pos h3]; exact e) hv3
        · rw [e3]
          by_cases hk : v = k
          · right
            show (if v = k then _ else _) = _
            rw [if_pos hk]
          · have eu : ue hb k (hn A l (A 110 (6 * n)) hb) v = hb v := if_neg hk
            rw [eu, ← e2]
            exact hN2 v hv3 (by rw [lsT_br, if_pos h3, hl, decide_eq_false hk]; rfl)
        · rw [nR_br, if_pos h3, c1.e 110 _ (by decide) (by decide)]
          exact c3
      · have hvB := hvS_msg h3 hP hv
        obtain ⟨hPB, hnn⟩ := pos_msg h3 hP
        have hgl := hg
        rw [gdd_br, if_neg h3] at hgl
        rw [if_neg h3] at hR hsz
        have hwl := hP.2.1
        rw [wfT_br, if_neg h3] at hwl
        have hlk := hP.2.2.1
        rw [lkT_br, if_neg h3] at hlk
        have e1 : ((nS (.branch k l q)).1 : Int) = 1 + (nS l).2 := by rw [nS_br, if_neg h3]; omega
        have e2 : hn A (.branch k l q) n hb = n := by rw [hn_br, if_neg h3]
        rw [e2] at hbg hN2
        rw [e1] at s1 hq
        have h9 := hfr n (by have := ct_self A (.branch k l q) n; omega)
        have h7 := lab_n A l n 0 hR.2.1
        have hle := lenB_le l hwl.2.1
        have hls := lenB_sz l
        obtain ⟨kd, hkd⟩ : ∃ kd : Int, kd = if k < 7 then 1 else 2 := ⟨_, rfl⟩
        have hpr : rg (A 106 n) := hA _ _
        have hkr : rg kd := by rw [hkd]; split <;> exact ⟨by decide, by decide⟩
        obtain ⟨c1, c2, c3⟩ := mm_fM (pr := A 106 n) (kd := kd) (top := top) hA m0 m1 hr s00 (by omega) hkr hpr
        refine mm_node (m := m) (s0 := s0) (kd := kd) (pr := A 106 n) hA hbg hf hr.1 hr.2 (by omega) t0 (by omega) h130 m0 m1 h122 s00 (by omega) (Or.inr ?_) ?_
        · by_cases h7 : k < 7
          · rw [if_pos h7] at hkd
            exact Or.inl ⟨by rw [hR.1.1]; omega, hkd, rfl⟩
          · rw [if_neg h7] at hkd
            exact Or.inr ⟨by rw [hR.1.1]; omega, hkd, rfl⟩
        generalize mmA A m n s kd (A 106 n) = A1 at c1 c2 c3 ⊢
        have hPB1 := posB_eqT c1.e hPB
        rw [h7]
        refine mm_push (m := m) (s0 := s0) hr.1 hr.2 l 0 top A1 c1.2.1 hPB1.1 hwl.2.1 (by omega) (by omega) (fun y y0 y1 y2 => by rw [c1.e 108 _ (by decide) (by decide), hR.2.2 y y0 y1 y2]; omega) t0 (by omega) (fun A2 f1 f2 f3 => mm_ex ?_)
        have e12 : eqT A1 A2 := fun j i _ _ => f1.1 j i (by omega)
        have g2 : fM A1 A2 m (s + 1) (s + 1) top := ⟨fun j i _ _ _ _ h => f1.1 j i h, f2, f1.2, fun i _ => ⟨f1.1 _ _ (by decide), f1.1 _ _ (by decide), f1.1 _ _ (by decide), f1.1 _ _ (by decide)⟩, by rw [f1.1 _ _ (by decide)]; exact c1.2.2.2.2⟩
        have g3 : fM A A2 m s (s + 1) top := c1.tr g2 (by omega) (by omega)
        have hc2 := eqT_ct g3.e l
        have a9 : A2 129 n = s := by rw [f1.1 _ _ (by decide)]; exact c3.1
        refine ihl.2 n 0 (s + 1) top L hb bs A2 f2 (posB_eqT g3.e hPB) (by omega) hgl (hvS_eqT g3.e hvB) (fun v hv3 hl => ?_) (fun y hy => ?_) f3 t0 (by omega) g3.2.2.2.2 (by omega) (by omega) (fun A' b1 b2 b3 => hq A' ?_ (fun x hx => ?_) ?_)
        · rcases hN2 v hv3 (by rw [lsT_br, if_neg h3]; exact hl) with h | h
          · by_cases hh : hb v = n
            · rw [hh, a9]; exact s00
            · rw [f1.1 _ _ (by decide), c2 _ hh]; exact h
          · rw [h, a9]; exact s00
        · rw [hc2.2] at hy
          rw [f1.1 _ _ (by decide), c2 _ (fun h => by rw [h] at hy; exact hy hnn)]
          exact hfr y (by rw [ct_br, if_neg h3]; omega)
        · have := g3.tr b1 (by omega) (by omega)
          rw [show s + (1 + ((nS l).2 : Int)) = s + 1 + (nS l).2 by omega]
          exact this
        · rw [ct_br, if_neg h3] at hx
          rw [b2 x (by rw [hc2.2]; omega), f1.1 _ _ (by decide), c2 x (fun h => by rw [if_pos h] at hx; omega)]
        · rw [nR_br, if_neg h3]
          refine ⟨?_, b3⟩
          have d2 : nD A2 m n s kd (A 106 n) (A 107 n) := nD_fr (f1.1 _ _ (by decide)) ⟨f1.1 _ _ (by decide), f1.1 _ _ (by decide), f1.1 _ _ (by decide), f1.1 _ _ (by decide)⟩ c3
          have d3 : nD A' m n s kd (A 106 n) (A 107 n) := nD_fr (b2 n (by rw [hc2.2]; exact hnn)) (b1.2.2.2.1 s (by omega)) d2
          rw [hkd, hR.1.2, h7, Int.zero_add] at d3
          exact d3
    · obtain ⟨hPh, hdis⟩ := posB_hd hP
      have hPt := posB_tl hP
      obtain ⟨hvh, hvt⟩ := hvS_hd hv
      rw [gdd_brB] at hg
      have hsz := szB_br k l q
      have hlen := lenB_br k l q
      have hls := lenB_sz q
      have hns : ((nS (.branch k l q)).2 : Int) = (nS l).1 + (nS q).2 := by rw [nS_brB]; omega
      rw [hns] at s1 hq
      obtain ⟨⟨f, hf, hbg⟩, -⟩ := bg_P hPh hg.1 (by omega) hvh
      rw [show top + ((lenB (.branch k l q) : Nat) : Int) = top + lenB q + 1 by omega]
      refine ihl.1 (A 110 (6 * x + (k / 3 : Nat))) x (A 110 (6 * x + (k / 3 : Nat))) s (top + lenB q) f (x :: L) hb bs A hA hPh (by omega) hg.1 hvh (fun v e hv3 => hN v hv3 (by rw [lsB_br, hd_lo l v bs hg.1 e hv3]; rfl)) (fun v hv3 hl => Or.inl (hN v hv3 (by rw [lsB_br, hl]; rfl))) (fun y hy => hfr y (by rw [ct_brB]; omega)) hbg hf hsk.1 (by omega) (by omega) h122 s00 (by omega) (fun A1 c1 c2 c3 => ?_)
      have hc1 := eqT_ct c1.e q
      refine ihq.2 x (i + 1) (s + (nS l).1) top L hb bs A1 c1.2.1 (posB_eqT c1.e hPt) (by omega) hg.2 (hvS_eqT c1.e hvt) (fun v hv3 hl => ?_) (fun y hy => ?_) (skq_fr (fun i => c1.e 110 i (by decide) (by decide)) q c1.2.2.1 hsk.2) t0 (by omega) c1.2.2.2.2 (by omega) (by omega) (fun A' b1 b2 b3 => hq A' ?_ (fun y hy => ?_) ?_)
      · have h0 := hN v hv3 (by rw [lsB_br, hl, Bool.or_true])
        rw [c2 (hb v) (Decidable.byContradiction fun h => by have := hfr (hb v) (by rw [ct_brB]; omega); omega)]
        exact h0
      · rw [hc1.2] at hy
        rw [c2 y (by have := hdis y; omega)]
        exact hfr y (by rw [ct_brB]; omega)
      · rw [show s + (((nS l).1 : Int) + (nS q).2) = s + (nS l).1 + (nS q).2 by omega]
        exact c1.tr b1 (by omega) (by omega)
      · rw [ct_brB] at hy
        rw [b2 y (by rw [hc1.2]; omega), c2 y (by omega)]
      · rw [nR_brB, (c1.tr b1 (by omega) (by omega : top ≤ top + lenB q)).e 110 _ (by decide) (by decide)]
        refine ⟨?_, b3⟩
        have e10 : ∀ i, A' 110 i = A1 110 i := fun i => b1.e 110 i (by decide) (by decide)
        refine (nR_fr A1 A' m e10 l).1 _ s (fun y hy => b2 y ?_) (fun i i0 i1 => b1.2.2.2.1 i (by omega)) c3
        rw [(eqT_ct c1.e l).1] at hy
        rw [hc1.2]
        have := hdis y
        omega
end TW58


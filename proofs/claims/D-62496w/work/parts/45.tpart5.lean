/-! the twin: makePart, all places -/
section TW45
variable {K : xk} {M : xm} {d : Nat} {Q : Outcome → xh → Prop} {R : Nat → Int → Value} {g : Nat → Nat × List Value} {t u : Nat}
def swB : Tr → Nat
  | .leaf _ => 0
  | .branch _ τ q => (wP τ).1 + swB q
theorem swB_br (k : Nat) (τ q : Tr) : swB (.branch k τ q) = (wP τ).1 + swB q := rfl
theorem wP_R : ∀ l : Tr, (wP l).2.2 = swB l + mcR l
  | .leaf _ => rfl
  | .branch k τ q => by rw [wP_br, swB_br, mcR_br]; dsimp only; rw [wP_R q]; omega
theorem wP_F (l : Tr) : (wP l).2.1 = swB l + mcF l := by
  cases l with
  | leaf k => rfl
  | branch k τ q => rw [wP_br, swB_br]; show (wP τ).1 + (wP q).2.2 = _ + mcR q; rw [wP_R q]; omega
def cb (A : Nat → Int → Int) (m n e : Int) (L : List Int) : Prop := (0 ≤ m ∧ m < n ∧ e ≤ A 100 12 ∧ A 100 12 ≤ 30 ∧ A 100 12 ≤ A 100 4) ∧ anc A m L ∧ (∀ a ∈ L, 0 ≤ a ∧ a < m) ∧ (∀ a, 0 < a → a < A 100 12 → -1 ≤ A 111 a ∧ A 111 a < a) ∧ ∀ a, e ≤ a → a < A 100 12 → A 111 a < n ∨ e ≤ A 111 a
theorem cb_fr {A A' : Nat → Int → Int} {m n e U e' : Int} {L : List Int} (h : fp A A' U e') (h4 : A 100 4 ≤ A' 100 4) (hc : cb A m n e L) : cb A' m n e L := by
  have e11 : ∀ i, A' 111 i = A 111 i := fun i => h.1 111 i (by omega) (by decide) (by decide) (by decide) (by decide) (fun h => absurd h (by decide))
  have e12 : A' 100 12 = A 100 12 := h.1 100 12 (by omega) (by decide) (by decide) (by decide) (by decide) (fun _ => by omega)
  obtain ⟨c1, c2, c3, c4, c5⟩ := hc
  refine ⟨by rw [e12]; omega, anc_fr e11 L m c2, c3, fun a a0 a1 => by rw [e11]; exact c4 a a0 (by omega), fun a a0 a1 => by rw [e11]; exact c5 a a0 (by omega)⟩
theorem e111 {A A' : Nat → Int → Int} {U e : Int} (h : fp A A' U e) : ∀ i, A' 111 i = A 111 i := fun i => h.1 111 i (by omega) (by decide) (by decide) (by decide) (by decide) (fun h => absurd h (by decide))
theorem mp_all {r : Int} (hr : rg r) (τ : Tr) : (∀ (n p : Int) (L : List Int) (A : Nat → Int → Int), rga A → (tG A false τ).1 n → (wfP τ).1 → (abv A τ).1 n p → ctx A n (n + szT τ) L → A 100 4 + (wP τ).1 ≤ 300 →
      (∀ A', fp A A' (A 100 4) (n + szT τ) → A 100 4 ≤ A' 100 4 → A' 100 4 ≤ A 100 4 + (wP τ).1 → P1 A' r τ (A' 117 n) (A 100 4) (A' 100 4) → wx K M_T_makePart (d + 5) Q 15 [some (.ref (xa K.n 32)), some (iv r), some (iv (n - 1)), none] [] (hp K.n A' R g t u)) →
      wx K M_T_makePart (d + 5) Q 15 [some (.ref (xa K.n 32)), some (iv r), some (iv (n + szT τ - 1)), none] [] (hp K.n A R g t u)) ∧
    (∀ (m i n : Int) (L : List Int) (A : Nat → Int → Int), rga A → (tG A false τ).2 m i n → (wfP τ).2 → (abv A τ).2 m n → cb A m n (n + szB τ) L → A 100 4 + swB τ ≤ 300 →
      (∀ A', fp A A' (A 100 4) (n + szB τ) → A 100 4 ≤ A' 100 4 → A' 100 4 ≤ A 100 4 + swB τ → PL A' r τ n (A 100 4) (A' 100 4) → wx K M_T_makePart (d + 5) Q 15 [some (.ref (xa K.n 32)), some (iv r), some (iv (n - 1)), none] [] (hp K.n A' R g t u)) →
      wx K M_T_makePart (d + 5) Q 15 [some (.ref (xa K.n 32)), some (iv r), some (iv (n + szB τ - 1)), none] [] (hp K.n A R g t u)) := by
  induction τ with
  | leaf k =>
    refine ⟨fun n p L A hA hT hw hab hc hlim hq => ?_, fun m i n L A hA hT hw hab hc hlim hq => ?_⟩
    · rw [szT_leaf] at hq hc ⊢
      rw [show n + ((1 : Nat) : Int) - 1 = n by omega]
      refine mp_node (lo := A 100 4) hA hr hT hw hab (by rw [szT_leaf]; exact hc) (by have := hc.1; omega) (by omega) trivial hlim (fun A' h1 h2 h3 h4 => hq A' h1 h2 h3 h4)
    · rw [szB_leaf] at hq ⊢
      rw [show n + ((0 : Nat) : Int) - 1 = n - 1 by omega]
      exact hq A (fp_rf hA _ _) (by omega) (by omega) (show A 100 4 ≤ A 100 4 by omega)
  | branch k l q ihl ihq =>
    refine ⟨fun n p L A hA hT hw hab hc hlim hq => ?_, fun m i n L A hA hT hw hab hc hlim hq => ?_⟩
    · obtain ⟨⟨c1, c2, c3, c4⟩, c5, c6, c7, c8⟩ := id hc
      have hT0 := hT
      have hw0 := hw
      have hab0 := hab
      rw [tG_brT] at hT
      rw [wfT_br] at hw
      rw [abv_brT] at hab
      have hwP : (wP (.branch k l q)).1 = 1 + (if k < 3 then (wP l).1 else (wP l).2.1) := rfl
      have hsz := szT_br k l q
      -- the place itself, its children done
      have fin : ∀ A1, fp A A1 (A 100 4) (n + szT (.branch k l q)) → A 100 4 ≤ A1 100 4 → A1 100 4 + own (.branch k l q) ≤ A 100 4 + (wP (.branch k l q)).1 → kids A1 r (.branch k l q) n (A 100 4) (A1 100 4) → wx K M_T_makePart (d + 5) Q 15 [some (.ref (xa K.n 32)), some (iv r), some (iv n), none] [] (hp K.n A1 R g t u) := by
        intro A1 h1 h2 h3 h4
        have hT1 : (tG A1 false (.branch k l q)).1 n := (tG_frame A A1 false _).1 n hw0 (fun x x0 x1 => h1.2.2.1 x (by omega)) hT0
        refine mp_node (lo := A 100 4) h1.2.1 hr hT1 hw0 ((abv_fr (e111 h1) _).1 n p hab0) (ctx_fr h1 h2 hc) (by omega) h2 h4 (by omega) (fun A2 g1 g2 g3 g4 => hq A2 (fp_tr h1 g1 h2 (by have := szT_pos (.branch k l q); omega)) (by omega) (by omega) g4)
      by_cases h3 : k < 3
      · rw [if_pos h3] at hT hw hab hsz hwP
        have ho : own (.branch k l q) = 1 := if_pos h3
        have e := ihl.1 (n + 1) n (n :: L) A hA hT.2.2.2 hw hab.2 ⟨by omega, ⟨abv_p A l _ _ hab.2, c1, by omega, c5⟩, fun a ha => by rcases List.mem_cons.mp ha with e | e; omega; (have := c6 a e; omega), c7, fun a a0 a1 => by have := c8 a (by omega) a1; omega⟩ (by omega) (fun A1 h1 h2 h3' h4 => by
          rw [show n + 1 - 1 = n by omega]
          refine fin A1 (by rw [hsz, show n + ((1 + szT l : Nat) : Int) = n + 1 + szT l by omega]; exact h1) h2 (by omega) ?_
          show (if k < 3 then _ else _)
          rw [if_pos h3]; exact h4)
        rw [hsz, show n + ((1 + szT l : Nat) : Int) - 1 = n + 1 + szT l - 1 by omega]
        exact e
      · rw [if_neg h3] at hT hw hab hsz hwP
        rw [if_neg (by decide)] at hT
        have ho : own (.branch k l q) = 1 + mcF l := if_neg h3
        have hF := wP_F l
        have e := ihl.2 n 0 (n + 1) L A hA hT.2.1 hw.2.1 hab.2 ⟨by omega, c5, c6, c7, fun a a0 a1 => by have := c8 a (by omega) a1; omega⟩ (by omega) (fun A1 h1 h2 h3' h4 => by
          rw [show n + 1 - 1 = n by omega]
          refine fin A1 (by rw [hsz, show n + ((1 + szB l : Nat) : Int) = n + 1 + szB l by omega]; exact h1) h2 (by omega) ?_
          show (if k < 3 then _ else _)
          rw [if_neg h3]; exact h4)
        rw [hsz, show n + ((1 + szB l : Nat) : Int) - 1 = n + 1 + szB l - 1 by omega]
        exact e
    · obtain ⟨⟨c1, c1', c2, c3, c4⟩, c5, c6, c7, c8⟩ := id hc
      rw [tG_brB] at hT
      rw [wfB_br] at hw
      rw [abv_brB] at hab
      have hsz := szB_br k l q
      rw [swB_br] at hlim
      have szp := szT_pos l
      have hin := (abv_in A q).2 m (n + szT l) hab.2 (by omega)
      have e := ihq.2 m (i + 1) (n + szT l) L A hA hT.2.2.2.2 hw.2.2.2 hab.2 ⟨by omega, c5, c6, c7, fun a a0 a1 => by have := c8 a (by omega) a1; omega⟩ (by omega) (fun A1 h1 h2 h3 h4 => by
        have hT1 : (tG A1 false l).1 n := (tG_frame A A1 false l).1 n hw.2.2.1 (fun x x0 x1 => h1.2.2.1 x (by omega)) hT.2.2.2.1
        have e12 : A1 100 12 = A 100 12 := h1.1 100 12 (by omega) (by decide) (by decide) (by decide) (by decide) (fun _ => by omega)
        have e11 := e111 h1
        refine ihl.1 n m (m :: L) A1 h1.2.1 hT1 hw.2.2.1 ((abv_fr e11 l).1 n m hab.1) ⟨by omega, ⟨by rw [e11]; exact abv_p A l _ _ hab.1, c1, by omega, anc_fr e11 L m c5⟩, fun a ha => by rcases List.mem_cons.mp ha with e | e; omega; (have := c6 a e; omega), fun a a0 a1 => by rw [e11]; exact c7 a a0 (by omega), fun a a0 a1 => ?_⟩ (by omega) (fun A2 g1 g2 g3 g4 => ?_)
        · rw [e11]
          by_cases ha : a < n + szT l + szB q
          · have := hin a a0 ha; omega
          · have := c8 a (by omega) (by omega); omega
        · refine hq A2 (by rw [hsz, show n + ((szT l + szB q : Nat) : Int) = n + szT l + szB q by omega]; exact fp_tr h1 g1 h2 (by omega)) (by omega) (by rw [swB_br]; omega) ?_
          exact ⟨A1 100 4, h2, g2, g4, PL_fr q _ _ _ hw.2.2.2 (fun x hx => g1.2.2.1 x hx) (fun i hi => g1.2.2.2 i hi) h4⟩)
      rw [hsz, show n + ((szT l + szB q : Nat) : Int) - 1 = n + szT l + szB q - 1 by omega]
      exact e
end TW45


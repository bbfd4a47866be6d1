/-! the twin: makeMachine, pushing what is below a message -/
section TW54
variable {K : xk} {M : xm} {d : Nat} {Q : Outcome → xh → Prop} {A : Nat → Int → Int} {R : Nat → Int → Value} {g : Nat → Nat × List Value} {t u : Nat}
/-- the children of a list on the stack, from top on, the first uppermost -/
def skq (A : Nat → Int → Int) (x : Int) : Tr → Int → Prop
  | .leaf _, _ => True
  | .branch k _ q, top => A 130 (top + lenB q) = A 110 (6 * x + (k / 3 : Nat)) ∧ skq A x q top
def frK (A A' : Nat → Int → Int) (top : Int) : Prop := (∀ j i, j ≠ 130 → A' j i = A j i) ∧ ∀ i, i < top → A' 130 i = A 130 i
theorem mm_push {m s0 x s8 gd : Int} (hx0 : 0 ≤ x) (hx1 : x < 300) :
    ∀ (q : Tr) (i top : Int) (A : Nat → Int → Int), rga A → (tR A q).2 x i → (wfP q).2 → 0 ≤ i → i + lenB q ≤ 6 → (∀ y, 0 ≤ y → y < 6 → hasL q y = false → A 108 (6 * x + y) ≤ i) → 0 ≤ top → top + lenB q ≤ 250 →
      (∀ A', frK A A' top → rga A' → skq A' x q top → wx K M_T_makeMachine (d + 2) Q 211 [some (.ref (xa K.n 32)), some (iv m), some (iv s0), some (iv (top + lenB q)), some (iv gd), some (iv x), some (iv s8), some (iv i), none, none] [] (hp K.n A' R g t u)) →
      wx K M_T_makeMachine (d + 2) Q 211 [some (.ref (xa K.n 32)), some (iv m), some (iv s0), some (iv top), some (iv gd), some (iv x), some (iv s8), some (iv (i + lenB q)), none, none] [] (hp K.n A R g t u) := by
  intro q
  induction q with
  | leaf k =>
    intro i top A hA hT hw i0 i6 hu t0 t1 hq
    have := hq A ⟨fun _ _ _ => rfl, fun _ _ => rfl⟩ hA trivial
    have l7 : ((lenB (.leaf k) : Nat) : Int) = 0 := rfl
    rw [l7] at this ⊢
    rw [Int.add_zero] at this ⊢
    exact this
  | branch k τ q ihτ ih =>
    intro i top A hA hT hw i0 i6 hu t0 t1 hq
    clear ihτ
    rw [tR_brB] at hT
    rw [wfB_br] at hw
    obtain ⟨r1, r2, r3, r4⟩ := hT
    obtain ⟨w1, w2, w3, w4⟩ := hw
    have hl7 : ((lenB (.branch k τ q) : Nat) : Int) = lenB q + 1 := by rw [lenB_br]; omega
    obtain ⟨y, hy⟩ : ∃ y : Int, y = ((k / 3 : Nat) : Int) := ⟨_, rfl⟩
    rw [← hy] at r1 r2 r3
    have y0 : 0 ≤ y := by omega
    have y6 : y < 6 := by omega
    have hu' : ∀ j, 0 ≤ j → j < 6 → hasL q j = false → A 108 (6 * x + j) ≤ i + 1 := by
      intro j j0 j1 j2
      by_cases e : j = y
      · rw [e, r1]; omega
      · have := hu j j0 j1 (by rw [hasL_br, ← hy, decide_eq_false (by omega), Bool.false_or, j2]); omega
    rw [hl7] at t1 hq ⊢
    rw [show i + ((lenB q : Int) + 1) = i + 1 + lenB q by omega]
    refine ih (i + 1) top A hA r4 w4 (by omega) (by omega) hu' t0 (by omega) (fun B hf hB hs => ?_)
    have b8 : ∀ j, B 108 j = A 108 j := fun j => hf.1 108 j (by decide)
    have b10 : ∀ j, B 110 j = A 110 j := fun j => hf.1 110 j (by decide)
    have huq : ∀ j, 0 ≤ j → j < y → B 108 (6 * x + j) ≠ i + 1 := by
      intro j j0 j1
      rw [b8]
      by_cases e : hasL q j = true
      · have := lab_o A q x (i + 1) r4 j e; omega
      · have := hu j j0 (by omega) (by rw [hasL_br, ← hy, decide_eq_false (by omega), Bool.false_or]; cases hh : hasL q j; rfl; exact absurd hh e)
        omega
    have hA := hB
    have nx := hq (au B 130 (top + lenB q) (B 110 (6 * x + y))) ⟨fun j i' h => by rw [au_ne _ _ _ _ h]; exact hf.1 j i' h, fun i' hi' => by rw [au_ni _ _ _ (by omega)]; exact hf.2 i' hi'⟩ (rga_au hA (hA _ _)) (by
      refine ⟨by rw [au_same, au_ne _ _ _ _ (by decide), hy], ?_⟩
      have key : ∀ (z : Tr) (t2 : Int), t2 + lenB z ≤ top + lenB q → skq B x z t2 → skq (au B 130 (top + lenB q) (B 110 (6 * x + y))) x z t2 := by
        intro z
        induction z with
        | leaf _ => intros; trivial
        | branch kz τz z _ ihz =>
          intro t2 h2 h
          rw [lenB_br] at h2
          refine ⟨?_, ihz t2 (by omega) h.2⟩
          rw [au_ni _ _ _ (by omega), au_ne _ _ _ _ (by decide)]
          exact h.1
      exact key q top (by omega) hs)
    rw [show top + ((lenB q : Int) + 1) = top + lenB q + 1 by omega] at nx
    refine r_iload 122 rfl rfl ?_
    refine r_iconst 123 rfl ?_
    refine r_icmp_lt (t := 251) 124 rfl (by decide) (by first | exact hA _ _ | exact ⟨by decide, by decide⟩ | assumption | exact ⟨by omega, by omega⟩) (by first | exact hA _ _ | exact ⟨by decide, by decide⟩ | assumption | exact ⟨by omega, by omega⟩) (fun c_214 => by omega) (fun c_214 => ?_)
    refine r_aload_n 125 rfl rfl ?_
    refine r_get 126 rfl f_T_77 (hp_at rfl) rfl ?_
    refine r_iload_n 127 rfl rfl ?_
    refine r_aload_n 128 rfl rfl ?_
    refine r_get 129 rfl f_T_29 (hp_at rfl) rfl ?_
    refine r_bipush 130 rfl rfl ?_
    refine r_iload 131 rfl rfl ?_
    refine r_imul 132 rfl ?_
    refine r_aload_n 133 rfl rfl ?_
    refine r_iload 134 rfl rfl ?_
    refine r_iload 135 rfl rfl ?_
    refine r_callv2 136 rfl l_T_176 (hp_at rfl) (Nat.le_of_ble_eq_true rfl) ?_
    refine c_T_labelAt hA ⟨by omega, by omega⟩ hx0 hx1 y0 y6 (by rw [b8, r1]) huq (cp1 ?_)
    refine r_iadd 137 rfl ?_
    refine r_iaload 138 rfl (hp_at rfl) (by decide) (by omega) (by omega) ?_
    refine r_iastore 139 rfl (hp_at rfl) (by decide) (by omega) (by omega) ?_
    rw [ws_130]
    refine r_iinc 140 rfl rfl ?_
    refine r_iinc 141 rfl rfl ?_
    refine r_goto (t := 211) 142 rfl (by decide) ?_
    (rw [show i + 1 + -1 = i by omega]; exact nx)
end TW54


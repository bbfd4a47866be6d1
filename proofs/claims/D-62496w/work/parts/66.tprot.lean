/-! the twin: protocol -/
section TW66
variable {K : xk} {M : xm} {d : Nat} {Q : Outcome → xh → Prop} {R : Nat → Int → Value} {g : Nat → Nat × List Value} {t u : Nat}
def nrm (z : Int) : Int := (Int32.ofInt z).toInt
theorem iv_nrm (z : Int) : iv (nrm z) = iv z := (iv_of _).symm
theorem rg_nrm (z : Int) : rg (nrm z) := rg_of _
theorem nrm_id {z : Int} (h : rg z) : nrm z = z := rg_t h
/-- a places and b rows of labels copied to the front -/
def cpG (A : Nat → Int → Int) (a b : Int) : Nat → Int → Int := fun j i => if (j = 105 ∨ j = 106 ∨ j = 107) ∧ 0 ≤ i ∧ i < a then A j (30 + i) else if (j = 108 ∨ j = 109) ∧ 0 ≤ i ∧ i < b then A j (180 + i) else if j = 110 ∧ 0 ≤ i ∧ i < b then nrm (A 110 (180 + i) - 30) else A j i
theorem cpG_r (A : Nat → Int → Int) (a b : Int) (j : Nat) (i : Int) : cpG A a b j i = if (j = 105 ∨ j = 106 ∨ j = 107) ∧ 0 ≤ i ∧ i < a then A j (30 + i) else if (j = 108 ∨ j = 109) ∧ 0 ≤ i ∧ i < b then A j (180 + i) else if j = 110 ∧ 0 ≤ i ∧ i < b then nrm (A 110 (180 + i) - 30) else A j i := rfl
theorem cpG_0 (A : Nat → Int → Int) : cpG A 0 0 = A := by
  funext j i
  rw [cpG_r, if_neg (by omega), if_neg (by omega), if_neg (by omega)]
theorem cpG_n (A : Nat → Int → Int) {a b : Int} (a0 : 0 ≤ a) (j : Nat) (i : Int) : au (au (au (cpG A a b) 105 a (A 105 (30 + a))) 106 a (A 106 (30 + a))) 107 a (A 107 (30 + a)) j i = cpG A (a + 1) b j i := by
  rw [au_ite, au_ite, au_ite, cpG_r, cpG_r]
  by_cases e : (j = 105 ∨ j = 106 ∨ j = 107) ∧ i = a
  · rw [if_pos (show (j = 105 ∨ j = 106 ∨ j = 107) ∧ 0 ≤ i ∧ i < a + 1 by omega)]
    obtain ⟨e1, e2⟩ := e
    subst e2
    rcases e1 with e1 | e1 | e1 <;> subst e1 <;> simp
  · rw [if_neg (by omega), if_neg (by omega), if_neg (by omega)]
    by_cases e2 : (j = 105 ∨ j = 106 ∨ j = 107) ∧ 0 ≤ i ∧ i < a
    · rw [if_pos e2, if_pos (by omega)]
    · rw [if_neg e2, if_neg (show ¬ ((j = 105 ∨ j = 106 ∨ j = 107) ∧ 0 ≤ i ∧ i < a + 1) by omega)]
theorem cpG_l (A : Nat → Int → Int) {a b : Int} (b0 : 0 ≤ b) (j : Nat) (i : Int) : au (au (au (cpG A a b) 108 b (A 108 (180 + b))) 109 b (A 109 (180 + b))) 110 b (nrm (A 110 (180 + b) - 30)) j i = cpG A a (b + 1) j i := by
  rw [au_ite, au_ite, au_ite, cpG_r, cpG_r]
  by_cases e : (j = 108 ∨ j = 109 ∨ j = 110) ∧ i = b
  · rw [if_neg (show ¬ ((j = 105 ∨ j = 106 ∨ j = 107) ∧ 0 ≤ i ∧ i < a) by omega)]
    obtain ⟨e1, e2⟩ := e
    subst e2
    rcases e1 with e1 | e1 | e1 <;> subst e1 <;> simp <;> omega
  · rw [if_neg (by omega), if_neg (by omega), if_neg (by omega)]
    by_cases e2 : (j = 105 ∨ j = 106 ∨ j = 107) ∧ 0 ≤ i ∧ i < a
    · rw [if_pos e2, if_pos e2]
    · rw [if_neg e2, if_neg e2]
      by_cases e3 : (j = 108 ∨ j = 109) ∧ 0 ≤ i ∧ i < b
      · rw [if_pos e3, if_pos (by omega)]
      · rw [if_neg e3, if_neg (show ¬ ((j = 108 ∨ j = 109) ∧ 0 ≤ i ∧ i < b + 1) by omega)]
        by_cases e4 : j = 110 ∧ 0 ≤ i ∧ i < b
        · rw [if_pos e4, if_pos (by omega)]
        · rw [if_neg e4, if_neg (show ¬ (j = 110 ∧ 0 ≤ i ∧ i < b + 1) by omega)]
theorem rga_cpG {A : Nat → Int → Int} (hA : rga A) {a b : Int} : rga (cpG A a b) := fun j i => by
  rw [cpG_r]
  by_cases e : (j = 105 ∨ j = 106 ∨ j = 107) ∧ 0 ≤ i ∧ i < a
  · rw [if_pos e]; exact hA _ _
  · rw [if_neg e]
    by_cases e3 : (j = 108 ∨ j = 109) ∧ 0 ≤ i ∧ i < b
    · rw [if_pos e3]; exact hA _ _
    · rw [if_neg e3]
      by_cases e4 : j = 110 ∧ 0 ≤ i ∧ i < b
      · rw [if_pos e4]; exact rg_nrm _
      · rw [if_neg e4]; exact hA _ _
/-- moved by 30 -/
def shN (A A' : Nat → Int → Int) (x : Int) : Prop := A' 105 (x - 30) = A 105 x ∧ A' 106 (x - 30) = A 106 x ∧ A' 107 (x - 30) = A 107 x ∧ ∀ l, 0 ≤ l → l < 6 → A' 108 (6 * (x - 30) + l) = A 108 (6 * x + l) ∧ A' 109 (6 * (x - 30) + l) = A 109 (6 * x + l) ∧ A' 110 (6 * (x - 30) + l) = nrm (A 110 (6 * x + l) - 30)
theorem tG_sh (A A' : Nat → Int → Int) (τ : Tr) : (∀ n : Int, (wfP τ).1 → 0 ≤ n → n + szT τ ≤ 1000 → (∀ x, n ≤ x → x < n + szT τ → shN A A' x) → (tG A false τ).1 n → (tG A' false τ).1 (n - 30)) ∧
    (∀ m i n : Int, (wfP τ).2 → 0 ≤ n → n + szB τ ≤ 1000 → (∀ x, n ≤ x → x < n + szB τ → shN A A' x) → shN A A' m → (tG A false τ).2 m i n → (tG A' false τ).2 (m - 30) i (n - 30)) := by
  induction τ with
  | leaf k =>
    refine ⟨fun n _ n0 n1 hs h => ?_, fun m i n _ n0 n1 _ hm h => ?_⟩
    · obtain ⟨e1, e2, e3, e4⟩ := hs n (by omega) (by rw [szT_leaf]; omega)
      replace h : (A 107 n = 0 ∧ ∀ x, 0 ≤ x → x < 6 → A 108 (6 * n + x) = 0) ∧ (k = 0 → A 105 n = 0) ∧ (k ≠ 0 → A 105 n = 1 ∧ A 106 n = (k : Int) - 1) := h
      show (A' 107 (n - 30) = 0 ∧ ∀ x, 0 ≤ x → x < 6 → A' 108 (6 * (n - 30) + x) = 0) ∧ (k = 0 → A' 105 (n - 30) = 0) ∧ (k ≠ 0 → A' 105 (n - 30) = 1 ∧ A' 106 (n - 30) = (k : Int) - 1)
      rw [e1, e2, e3]
      exact ⟨⟨h.1.1, fun x x0 x1 => ((e4 x x0 x1).1).trans (h.1.2 x x0 x1)⟩, h.2⟩
    · show A' 107 (m - 30) = i
      rw [hm.2.2.1]; exact h
  | branch k l q ihl ihq =>
    refine ⟨fun n hw n0 n1 hs h => ?_, fun m i n hw n0 n1 hs hm h => ?_⟩
    · have hsz := szT_br k l q
      obtain ⟨e1, e2, e3, e4⟩ := hs n (by omega) (by rw [hsz]; omega)
      rw [wfT_br] at hw
      rw [tG_brT] at h ⊢
      by_cases h3 : k < 3
      · rw [if_pos h3] at h hw hsz ⊢
        have e5 := (e4 0 (by omega) (by omega)).2.2
        rw [Int.add_zero, Int.add_zero] at e5
        rw [e1, e2, e5]
        refine ⟨h.1, h.2.1, by rw [h.2.2.1, nrm_id ⟨by omega, by omega⟩]; omega, ?_⟩
        have := ihl.1 (n + 1) hw (by omega) (by omega) (fun x h1 h2 => hs x (by omega) (by omega)) h.2.2.2
        rw [show n + 1 - 30 = n - 30 + 1 by omega] at this
        exact this
      · rw [if_neg h3] at h hw hsz ⊢
        rw [if_neg (by decide)] at h ⊢
        rw [e1, e2]
        refine ⟨h.1, ?_, fun x x0 x1 hx => ((e4 x x0 x1).1).trans (h.2.2 x x0 x1 hx)⟩
        have := ihl.2 n 0 (n + 1) hw.2.1 (by omega) (by omega) (fun x h1 h2 => hs x (by omega) (by omega)) ⟨e1, e2, e3, e4⟩ h.2.1
        rw [show n + 1 - 30 = n - 30 + 1 by omega] at this
        exact this
    · have hsz := szB_br k l q
      rw [wfB_br] at hw
      rw [tG_brB] at h ⊢
      obtain ⟨f1, f2, f3⟩ := hm.2.2.2 (k / 3 : Nat) (by omega) (by omega)
      obtain ⟨g1, g2, g3, g4, g5⟩ := h
      rw [f1, f2, f3]
      have hlp := szT_pos l
      refine ⟨g1, g2, by rw [g3, nrm_id ⟨by omega, by omega⟩], ihl.1 n hw.2.2.1 n0 (by omega) (fun x h1 h2 => hs x h1 (by omega)) g4, ?_⟩
      have := ihq.2 m (i + 1) (n + szT l) hw.2.2.2 (by omega) (by omega) (fun x h1 h2 => hs x (by omega) (by omega)) hm g5
      rw [show n + (szT l : Int) - 30 = n - 30 + szT l by omega] at this
      exact this
/-- what protocol keeps -/
def fPo (A B : Nat → Int → Int) : Prop := (∀ j i, j ≠ 100 → (j < 105 ∨ 131 < j) → B j i = A j i) ∧ B 100 33 = A 100 33 ∧ rga B
def poI (A B : Nat → Int → Int) (τ : Tr) (r : Int) : Prop := fPo A B ∧ B 100 0 = 0 ∧ B 100 12 = szT τ ∧ B 100 13 = 1 ∧ B 100 32 = 0 ∧ (tG B false τ).1 0 ∧ ∀ q, 0 ≤ q → q < r → mch B q (pt q τ).1 ∧ B 122 (4 + q) = 0
theorem poI_next {A B C D : Nat → Int → Int} {τ : Tr} {r : Int} (hw : (wfP τ).1) (r0 : 0 ≤ r) (r1 : r < 4) (hI : poI A B τ r) (c1 : ∀ j i, j ≠ 111 → C j i = au (au B 122 (4 + r) 0) 111 0 (-1) j i) (d1 : fPt C D r (szT τ)) (d2 : mch D r (pt r τ).1) : poI A D τ (r + 1) := by
  obtain ⟨⟨f1, f2, f3⟩, g1, g2, g3, g4, g5, g6⟩ := hI
  have Cr : ∀ (j : Nat) (i : Int), j ≠ 111 → C j i = if j = 122 ∧ i = 4 + r then 0 else B j i := fun j i h => by rw [c1 j i h, au_ite, if_neg (fun h2 => h h2.1), au_ite]
  have sc : ∀ i, i ≠ 4 → i ≠ 18 → D 100 i = B 100 i := fun i h4 h18 => by
    rw [d1.1 100 i (by omega) (by decide) (by decide) (by decide) (by decide) (fun _ => ⟨h4, h18⟩) (by omega) (by omega) (by omega) (by decide) (by decide), Cr _ _ (by decide), if_neg (by omega)]
  have st : ∀ m, m ≠ r → D 122 m = if m = 4 + r then 0 else B 122 m := fun m hm => by
    rw [d1.1 122 m (by omega) (by decide) (by decide) (by decide) (by decide) (by omega) (fun _ => hm) (by omega) (by omega) (by decide) (by decide), Cr _ _ (by decide)]
    by_cases e : m = 4 + r
    · rw [if_pos ⟨rfl, e⟩, if_pos e]
    · rw [if_neg (fun h => e h.2), if_neg e]
  refine ⟨⟨fun j i h1 h2 => ?_, (sc 33 (by decide) (by decide)).trans f2, d1.2.1⟩, (sc 0 (by decide) (by decide)).trans g1, (sc 12 (by decide) (by decide)).trans g2, (sc 13 (by decide) (by decide)).trans g3, (sc 32 (by decide) (by decide)).trans g4, ?_, fun q q0 q1 => ?_⟩
  · rw [d1.1 j i (by omega) (by omega) (by omega) (by omega) (by omega) (by omega) (by omega) (by omega) (by omega) (by omega) (by omega), Cr _ _ (by omega), if_neg (by omega)]
    exact f1 j i h1 h2
  · have sB : ∀ x, sameN B C x := fun x => ⟨by rw [Cr _ _ (by decide), if_neg (by omega)], by rw [Cr _ _ (by decide), if_neg (by omega)], by rw [Cr _ _ (by decide), if_neg (by omega)], fun l _ _ => ⟨by rw [Cr _ _ (by decide), if_neg (by omega)], by rw [Cr _ _ (by decide), if_neg (by omega)], by rw [Cr _ _ (by decide), if_neg (by omega)]⟩⟩
    exact (tG_frame B D false τ).1 0 hw (fun x _ hx => (sB x).tr (d1.2.2 x (by omega))) g5
  · by_cases e : q = r
    · subst e
      exact ⟨d2, by rw [st _ (by omega), if_pos rfl]⟩
    · obtain ⟨a, b⟩ := g6 q q0 (by omega)
      refine ⟨mch_fr ⟨by rw [st _ e, if_neg (by omega)], fun f s j hf s0 s1 j0 j1 => ?_⟩ a, by rw [st _ (by omega), if_neg (by omega)]; exact b⟩
      unfold tM
      split
      · rw [d1.1 (123 + f) _ (by omega) (by omega) (by omega) (by omega) (by omega) (by omega) (by omega) (by omega) (by omega) (by omega) (by omega), Cr _ _ (by omega), if_neg (by omega)]
      · rw [d1.1 (123 + f) _ (by omega) (by omega) (by omega) (by omega) (by omega) (by omega) (by omega) (by omega) (by omega) (by omega) (by omega), Cr _ _ (by omega), if_neg (by omega)]
theorem po_roles {A : Nat → Int → Int} {τ : Tr} (hw : (wfP τ).1) (h30 : szT τ ≤ 30) (hcl : ∀ v, v < 3 → (lsP τ).1 v = false) (hch : chT false τ ≤ 65) (hq : ∀ B, poI A B τ 4 → Q (.returned (some (iv (szT τ)))) (hp K.n B R g t u)) :
    ∀ (c : Nat) (r : Int) (B : Nat → Int → Int), 0 ≤ r → r + c = 4 → poI A B τ r → wx K M_T_protocol (d + 6) Q 191 [some (.ref (xa K.n 32)), some (iv (szT τ)), some (iv r), none] [] (hp K.n B R g t u) := by
  intro c
  induction c with
  | zero =>
    intro r B r0 hr hI
    have er : r = 4 := by omega
    subst er
    have hA := hI.1.2.2
    have fin := hq B hI
    refine r_iload_n 125 rfl rfl ?_
    refine r_iconst 126 rfl ?_
    refine r_icmp_ge (t := 232) 127 rfl (by decide) (by first | exact hA _ _ | exact ⟨by decide, by decide⟩ | assumption | exact ⟨by omega, by omega⟩) (by first | exact hA _ _ | exact ⟨by decide, by decide⟩ | assumption | exact ⟨by omega, by omega⟩) (fun c_193 => ?_) (fun c_193 => by omega)
    refine r_iload_n 150 rfl rfl ?_
    refine r_iret 151 rfl rfl rfl ?_
    exact fin
  | succ c ih =>
    intro r B r0 hr hI
    have hA := hI.1.2.2
    have szp := szT_pos τ
    generalize hC : au (au B 122 (4 + r) 0) 111 0 (-1) = C
    have Cr : ∀ (j : Nat) (i : Int), C j i = if j = 111 ∧ i = 0 then -1 else if j = 122 ∧ i = 4 + r then 0 else B j i := fun j i => by rw [← hC, au_ite, au_ite]
    have hCA : rga C := by rw [← hC]; exact rga_au (rga_au hA rg_0) ⟨by decide, by decide⟩
    have c12 : C 100 12 = szT τ := by rw [Cr, if_neg (by omega), if_neg (by omega)]; exact hI.2.2.1
    have sB : ∀ x, sameN B C x := fun x => ⟨by rw [Cr, if_neg (by omega), if_neg (by omega)], by rw [Cr, if_neg (by omega), if_neg (by omega)], by rw [Cr, if_neg (by omega), if_neg (by omega)], fun l _ _ => ⟨by rw [Cr, if_neg (by omega), if_neg (by omega)], by rw [Cr, if_neg (by omega), if_neg (by omega)], by rw [Cr, if_neg (by omega), if_neg (by omega)]⟩⟩
    have hGC : (tG C false τ).1 0 := (tG_frame B C false τ).1 0 hw (fun x _ _ => sB x) hI.2.2.2.2.2.1
    obtain ⟨s1, s2⟩ := (sa_G C τ).1 0 hGC hw
    rw [Int.zero_add] at s1 s2
    have nx : ∀ D E, (∀ j i, j ≠ 111 → D j i = C j i) → fPt D E r (szT τ) → mch E r (pt r τ).1 → wx K M_T_protocol (d + 6) Q 191 [some (.ref (xa K.n 32)), some (iv (szT τ)), some (iv (r + 1)), none] [] (hp K.n E R g t u) := fun D E e1 e2 e3 => ih (r + 1) E (by omega) (by omega) (poI_next hw r0 (by omega) hI (fun j i h => by rw [hC]; exact e1 j i h) e2 e3)
    refine r_iload_n 125 rfl rfl ?_
    refine r_iconst 126 rfl ?_
    refine r_icmp_ge (t := 232) 127 rfl (by decide) (by first | exact hA _ _ | exact ⟨by decide, by decide⟩ | assumption | exact ⟨by omega, by omega⟩) (by first | exact hA _ _ | exact ⟨by decide, by decide⟩ | assumption | exact ⟨by omega, by omega⟩) (fun c_193 => by omega) (fun c_193 => ?_)
    refine r_aload_n 128 rfl rfl ?_
    refine r_get 129 rfl f_T_53 (hp_at rfl) rfl ?_
    refine r_iconst 130 rfl ?_
    refine r_iload_n 131 rfl rfl ?_
    refine r_iadd 132 rfl ?_
    refine r_iconst 133 rfl ?_
    refine r_iastore 134 rfl (hp_at rfl) (by decide) (by omega) (by omega) ?_
    rw [ws_122]
    refine r_aload_n 135 rfl rfl ?_
    refine r_get 136 rfl f_T_32 (hp_at rfl) rfl ?_
    refine r_iconst 137 rfl ?_
    refine r_iconst 138 rfl ?_
    refine r_iastore 139 rfl (hp_at rfl) (by decide) (by omega) (by omega) ?_
    rw [ws_111]
    rw [hC]
    refine r_aload_n 140 rfl rfl ?_
    refine r_iconst 141 rfl ?_
    refine r_aload_n 142 rfl rfl ?_
    refine r_get 143 rfl f_T_156 (hp_at rfl) rfl ?_
    rw [c12]
    refine r_callv2 144 rfl l_T_210 (hp_at rfl) (Nat.le_of_ble_eq_true rfl) ?_
    refine c_T_setAbove hCA (by omega) (by omega) s1 s2 (fun D e1 e2 e3 e4 => cp0 ?_)
    refine r_aload_n 145 rfl rfl ?_
    refine r_iload_n 146 rfl rfl ?_
    refine r_callv1 147 rfl l_T_213 (hp_at rfl) (Nat.le_of_ble_eq_true rfl) ?_
    refine c_T_makePart e2 r0 (by omega) ((tG_frame C D false τ).1 0 hw (fun x _ _ => ⟨e1 _ _ (by decide), e1 _ _ (by decide), e1 _ _ (by decide), fun l _ _ => ⟨e1 _ _ (by decide), e1 _ _ (by decide), e1 _ _ (by decide)⟩⟩) hGC) hw ((sa_abv C D τ).1 0 (-1) (by omega) hGC hw (by rw [e4, Cr, if_pos ⟨rfl, rfl⟩]) (by rw [Int.zero_add]; exact e3)) (by rw [e1 _ _ (by decide)]; exact c12) h30 hcl hch (fun E k1 k2 => cp0 ?_)
    refine r_iinc 148 rfl rfl ?_
    refine r_goto (t := 191) 149 rfl (by decide) ?_
    exact nx D E e1 k1 k2
theorem po_copy {A1 : Nat → Int → Int} {n : Int} (hA1 : rga A1) (n30 : n ≤ 30) (hq : wx K M_T_protocol (d + 6) Q 174 [some (.ref (xa K.n 32)), some (iv n), some (iv n), none] [] (hp K.n (cpG A1 n (6 * n)) R g t u)) :
    ∀ (c : Nat) (k : Int), 0 ≤ k → k + c = n → wx K M_T_protocol (d + 6) Q 26 [some (.ref (xa K.n 32)), some (iv n), some (iv k), none] [] (hp K.n (cpG A1 k (6 * k)) R g t u) := by
  have inner : ∀ (c : Nat) (k l : Int), 0 ≤ k → k < n → 0 ≤ l → l + c = 6 → wx K M_T_protocol (d + 6) Q 26 [some (.ref (xa K.n 32)), some (iv n), some (iv (k + 1)), none] [] (hp K.n (cpG A1 (k + 1) (6 * (k + 1))) R g t u) → wx K M_T_protocol (d + 6) Q 78 [some (.ref (xa K.n 32)), some (iv n), some (iv k), some (iv l)] [] (hp K.n (cpG A1 (k + 1) (6 * k + l)) R g t u) := by
    intro c
    induction c with
    | zero =>
      intro k l k0 k1 l0 hl nx
      have el : l = 6 := by omega
      subst el
      have hA : rga (cpG A1 (k + 1) (6 * k + 6)) := rga_cpG hA1
      rw [show 6 * (k + 1) = 6 * k + 6 by omega] at nx
      have hnx : wx K M_T_protocol (d + 6) Q 26 [some (.ref (xa K.n 32)), some (iv n), some (iv (k + 1)), some (iv 6)] [] (hp K.n (cpG A1 (k + 1) (6 * k + 6)) R g t u) := wx_t (pre := [some (.ref (xa K.n 32)), some (iv n), some (iv (k + 1))]) (tl := [some (iv 6)]) nx
      refine r_iload_n 51 rfl rfl ?_
      refine r_bipush 52 rfl rfl ?_
      refine r_icmp_ge (t := 168) 53 rfl (by decide) (by first | exact hA _ _ | exact ⟨by decide, by decide⟩ | assumption | exact ⟨by omega, by omega⟩) (by first | exact hA _ _ | exact ⟨by decide, by decide⟩ | assumption | exact ⟨by omega, by omega⟩) (fun c_81 => ?_) (fun c_81 => by omega)
      refine r_iinc 112 rfl rfl ?_
      refine r_goto (t := 26) 113 rfl (by decide) ?_
      exact hnx
    | succ c ih =>
      intro k l k0 k1 l0 hl nx
      have n1 := ih k (l + 1) k0 k1 (by omega) (by omega) nx
      rw [show 6 * k + (l + 1) = 6 * k + l + 1 by omega] at n1
      have hA : rga (cpG A1 (k + 1) (6 * k + l)) := rga_cpG hA1
      have hst : au (au (au (cpG A1 (k + 1) (6 * k + l)) 108 (6 * k + l) (A1 108 (180 + (6 * k + l)))) 109 (6 * k + l) (A1 109 (180 + (6 * k + l)))) 110 (6 * k + l) (nrm (A1 110 (180 + (6 * k + l)) - 30)) = cpG A1 (k + 1) (6 * k + l + 1) := funext fun j => funext fun i => cpG_l A1 (by omega) j i
      generalize hC : cpG A1 (k + 1) (6 * k + l) = C at hA hst ⊢
      have Cr : ∀ j, j = 108 ∨ j = 109 ∨ j = 110 → C j (6 * (30 + k) + l) = A1 j (180 + (6 * k + l)) := fun j hj => by
        rw [← hC, cpG_r, if_neg (by omega), if_neg (by omega), if_neg (by omega), show 6 * (30 + k) + l = 180 + (6 * k + l) by omega]
      have q8 := Cr 108 (by omega)
      have q9 := Cr 109 (by omega)
      have q10 := Cr 110 (by omega)
      refine r_iload_n 51 rfl rfl ?_
      refine r_bipush 52 rfl rfl ?_
      refine r_icmp_ge (t := 168) 53 rfl (by decide) (by first | exact hA _ _ | exact ⟨by decide, by decide⟩ | assumption | exact ⟨by omega, by omega⟩) (by first | exact hA _ _ | exact ⟨by decide, by decide⟩ | assumption | exact ⟨by omega, by omega⟩) (fun c_81 => by omega) (fun c_81 => ?_)
      refine r_aload_n 54 rfl rfl ?_
      refine r_get 55 rfl f_T_23 (hp_at rfl) rfl ?_
      refine r_bipush 56 rfl rfl ?_
      refine r_iload_n 57 rfl rfl ?_
      refine r_imul 58 rfl ?_
      refine r_iload_n 59 rfl rfl ?_
      refine r_iadd 60 rfl ?_
      refine r_aload_n 61 rfl rfl ?_
      refine r_get 62 rfl f_T_23 (hp_at rfl) rfl ?_
      refine r_bipush 63 rfl rfl ?_
      refine r_bipush 64 rfl rfl ?_
      refine r_iload_n 65 rfl rfl ?_
      refine r_iadd 66 rfl ?_
      refine r_imul 67 rfl ?_
      refine r_iload_n 68 rfl rfl ?_
      refine r_iadd 69 rfl ?_
      refine r_iaload 70 rfl (hp_at rfl) (by decide) (by omega) (by omega) ?_
      try simp +decide only [au_ne, au_same, au_ni, fil_ne]
      rw [q8]
      refine r_iastore 71 rfl (hp_at rfl) (by decide) (by omega) (by omega) ?_
      rw [ws_108]
      refine r_aload_n 72 rfl rfl ?_
      refine r_get 73 rfl f_T_26 (hp_at rfl) rfl ?_
      refine r_bipush 74 rfl rfl ?_
      refine r_iload_n 75 rfl rfl ?_
      refine r_imul 76 rfl ?_
      refine r_iload_n 77 rfl rfl ?_
      refine r_iadd 78 rfl ?_
      refine r_aload_n 79 rfl rfl ?_
      refine r_get 80 rfl f_T_26 (hp_at rfl) rfl ?_
      refine r_bipush 81 rfl rfl ?_
      refine r_bipush 82 rfl rfl ?_
      refine r_iload_n 83 rfl rfl ?_
      refine r_iadd 84 rfl ?_
      refine r_imul 85 rfl ?_
      refine r_iload_n 86 rfl rfl ?_
      refine r_iadd 87 rfl ?_
      refine r_iaload 88 rfl (hp_at rfl) (by decide) (by omega) (by omega) ?_
      try simp +decide only [au_ne, au_same, au_ni, fil_ne]
      rw [q9]
      refine r_iastore 89 rfl (hp_at rfl) (by decide) (by omega) (by omega) ?_
      rw [ws_109]
      refine r_aload_n 90 rfl rfl ?_
      refine r_get 91 rfl f_T_29 (hp_at rfl) rfl ?_
      refine r_bipush 92 rfl rfl ?_
      refine r_iload_n 93 rfl rfl ?_
      refine r_imul 94 rfl ?_
      refine r_iload_n 95 rfl rfl ?_
      refine r_iadd 96 rfl ?_
      refine r_aload_n 97 rfl rfl ?_
      refine r_get 98 rfl f_T_29 (hp_at rfl) rfl ?_
      refine r_bipush 99 rfl rfl ?_
      refine r_bipush 100 rfl rfl ?_
      refine r_iload_n 101 rfl rfl ?_
      refine r_iadd 102 rfl ?_
      refine r_imul 103 rfl ?_
      refine r_iload_n 104 rfl rfl ?_
      refine r_iadd 105 rfl ?_
      refine r_iaload 106 rfl (hp_at rfl) (by decide) (by omega) (by omega) ?_
      try simp +decide only [au_ne, au_same, au_ni, fil_ne]
      refine r_bipush 107 rfl rfl ?_
      refine r_isub 108 rfl ?_
      rw [q10, ← iv_nrm (A1 110 (180 + (6 * k + l)) - 30)]
      refine r_iastore 109 rfl (hp_at rfl) (by decide) (by omega) (by omega) ?_
      rw [ws_110]
      rw [hst]
      refine r_iinc 110 rfl rfl ?_
      refine r_goto (t := 78) 111 rfl (by decide) ?_
      exact n1
  intro c
  induction c with
  | zero =>
    intro k k0 hk
    have ek : k = n := by omega
    subst ek
    have hA : rga (cpG A1 k (6 * k)) := rga_cpG hA1
    refine r_iload_n 16 rfl rfl ?_
    refine r_iload_n 17 rfl rfl ?_
    refine r_icmp_ge (t := 174) 18 rfl (by decide) (by first | exact hA _ _ | exact ⟨by decide, by decide⟩ | assumption | exact ⟨by omega, by omega⟩) (by first | exact hA _ _ | exact ⟨by decide, by decide⟩ | assumption | exact ⟨by omega, by omega⟩) (fun c_28 => ?_) (fun c_28 => by omega)
    exact hq
  | succ c ih =>
    intro k k0 hk
    have n1 := inner 6 k 0 k0 (by omega) (by omega) (by omega) (ih (k + 1) (by omega) (by omega))
    rw [Int.add_zero] at n1
    have hA : rga (cpG A1 k (6 * k)) := rga_cpG hA1
    have hst : au (au (au (cpG A1 k (6 * k)) 105 k (A1 105 (30 + k))) 106 k (A1 106 (30 + k))) 107 k (A1 107 (30 + k)) = cpG A1 (k + 1) (6 * k) := funext fun j => funext fun i => cpG_n A1 k0 j i
    generalize hC : cpG A1 k (6 * k) = C at hA hst ⊢
    have Cr : ∀ j, j = 105 ∨ j = 106 ∨ j = 107 → C j (30 + k) = A1 j (30 + k) := fun j hj => by rw [← hC, cpG_r, if_neg (by omega), if_neg (by omega), if_neg (by omega)]
    have q5 := Cr 105 (by omega)
    have q6 := Cr 106 (by omega)
    have q7 := Cr 107 (by omega)
    refine r_iload_n 16 rfl rfl ?_
    refine r_iload_n 17 rfl rfl ?_
    refine r_icmp_ge (t := 174) 18 rfl (by decide) (by first | exact hA _ _ | exact ⟨by decide, by decide⟩ | assumption | exact ⟨by omega, by omega⟩) (by first | exact hA _ _ | exact ⟨by decide, by decide⟩ | assumption | exact ⟨by omega, by omega⟩) (fun c_28 => by omega) (fun c_28 => ?_)
    refine r_aload_n 19 rfl rfl ?_
    refine r_get 20 rfl f_T_13 (hp_at rfl) rfl ?_
    refine r_iload_n 21 rfl rfl ?_
    refine r_aload_n 22 rfl rfl ?_
    refine r_get 23 rfl f_T_13 (hp_at rfl) rfl ?_
    refine r_bipush 24 rfl rfl ?_
    refine r_iload_n 25 rfl rfl ?_
    refine r_iadd 26 rfl ?_
    refine r_iaload 27 rfl (hp_at rfl) (by decide) (by omega) (by omega) ?_
    try simp +decide only [au_ne, au_same, au_ni, fil_ne]
    rw [q5]
    refine r_iastore 28 rfl (hp_at rfl) (by decide) (by omega) (by omega) ?_
    rw [ws_105]
    refine r_aload_n 29 rfl rfl ?_
    refine r_get 30 rfl f_T_17 (hp_at rfl) rfl ?_
    refine r_iload_n 31 rfl rfl ?_
    refine r_aload_n 32 rfl rfl ?_
    refine r_get 33 rfl f_T_17 (hp_at rfl) rfl ?_
    refine r_bipush 34 rfl rfl ?_
    refine r_iload_n 35 rfl rfl ?_
    refine r_iadd 36 rfl ?_
    refine r_iaload 37 rfl (hp_at rfl) (by decide) (by omega) (by omega) ?_
    try simp +decide only [au_ne, au_same, au_ni, fil_ne]
    rw [q6]
    refine r_iastore 38 rfl (hp_at rfl) (by decide) (by omega) (by omega) ?_
    rw [ws_106]
    refine r_aload_n 39 rfl rfl ?_
    refine r_get 40 rfl f_T_20 (hp_at rfl) rfl ?_
    refine r_iload_n 41 rfl rfl ?_
    refine r_aload_n 42 rfl rfl ?_
    refine r_get 43 rfl f_T_20 (hp_at rfl) rfl ?_
    refine r_bipush 44 rfl rfl ?_
    refine r_iload_n 45 rfl rfl ?_
    refine r_iadd 46 rfl ?_
    refine r_iaload 47 rfl (hp_at rfl) (by decide) (by omega) (by omega) ?_
    try simp +decide only [au_ne, au_same, au_ni, fil_ne]
    rw [q7]
    refine r_iastore 48 rfl (hp_at rfl) (by decide) (by omega) (by omega) ?_
    rw [ws_107]
    rw [hst]
    refine r_iconst 49 rfl ?_
    refine r_istore_n 50 rfl (Nat.le_of_ble_eq_true rfl) ?_
    exact n1
theorem c_T_protocol {A : Nat → Int → Int} {len : Int} {cx : Int → Int} (hB0 : tB A) (hT : txR A cx len) (hx : ∀ i, len ≤ i → cx i = -1) (hlen : len < 64)
    (h0 : len = 0 → Q (.returned (some (iv (-100)))) (hp K.n A R g t u))
    (herr : ∀ e A', len ≠ 0 → rdR cx false len = .inl e → 0 ≤ e → fr A A' → rga A' → Q (.returned (some (iv (-100 - e)))) (hp K.n (au A' 100 0 0) R g t u))
    (hok : ∀ τ B, len ≠ 0 → rdR cx false len = .inr (τ, (szT τ : Int)) → poI A B τ 4 → Q (.returned (some (iv (szT τ)))) (hp K.n B R g t u)) : mx K M_T_protocol (d + 6) [.ref (xa K.n 32)] (hp K.n A R g t u) Q := by
  have hA := hB0.1
  have hl := hT.1
  have hl0 : 0 ≤ len := by have := hB0.2.1; omega
  refine mx_in ok_T_protocol rfl (Nat.le_of_ble_eq_true rfl) ?_
  by_cases hz : len = 0
  · have fin := h0 hz
    refine r_aload_n 0 rfl rfl ?_
    refine r_get 1 rfl f_T_99 (hp_at rfl) rfl ?_
    refine r_if_ne (t := 10) 2 rfl (by decide) (by first | exact hA _ _ | exact ⟨by decide, by decide⟩ | assumption | exact ⟨by omega, by omega⟩) (fun c_4 => by omega) (fun c_4 => ?_)
    refine r_bipush 3 rfl rfl ?_
    refine r_iret 4 rfl rfl rfl ?_
    exact fin
  refine r_aload_n 0 rfl rfl ?_
  refine r_get 1 rfl f_T_99 (hp_at rfl) rfl ?_
  refine r_if_ne (t := 10) 2 rfl (by decide) (by first | exact hA _ _ | exact ⟨by decide, by decide⟩ | assumption | exact ⟨by omega, by omega⟩) (fun c_4 => ?_) (fun c_4 => by omega)
  refine r_aload_n 5 rfl rfl ?_
  refine r_bipush 6 rfl rfl ?_
  refine r_iconst 7 rfl ?_
  refine r_callv2 8 rfl l_T_199 (hp_at rfl) (Nat.le_of_ble_eq_true rfl) ?_
  refine c_T_read (md := false) hB0 (by omega) (by omega) hT hx (by omega) (fun e A' h1 h2 h3 h4 => cp1 ?_) (fun τ k A' h1 h2 h3 h4 h5 h6 h7 h8 h9 => cp1 ?_)
  · have fin := herr e A' hz h1 h2 h3 h4
    have hA := h4
    have he := rdR_er hx hl0 h1
    refine r_istore_n 9 rfl (Nat.le_of_ble_eq_true rfl) ?_
    refine r_iload_n 10 rfl rfl ?_
    refine r_if_ge (t := 24) 11 rfl (by decide) (by first | exact hA _ _ | exact ⟨by decide, by decide⟩ | assumption | exact ⟨by omega, by omega⟩) (fun c_19 => by omega) (fun c_19 => ?_)
    refine r_iload_n 12 rfl rfl ?_
    refine r_iret 13 rfl rfl rfl ?_
    exact fin
  · obtain ⟨o1, o2, o3, o4, o5, o6, -⟩ := rdR_ok hx h1
    have szp := szT_pos τ
    subst h6
    have hA1 : rga (au A' 100 0 0) := rga_au h3 rg_0
    generalize hD : au A' 100 0 0 = D at hA1 ⊢
    have Dr : ∀ (j : Nat) (i : Int), D j i = if j = 100 ∧ i = 0 then 0 else A' j i := fun j i => by rw [← hD, au_ite]
    have hGD : (tG D false τ).1 30 := (tG_frame A' D false τ).1 30 h5 (fun x _ _ => ⟨by rw [Dr, if_neg (by omega)], by rw [Dr, if_neg (by omega)], by rw [Dr, if_neg (by omega)], fun l _ _ => ⟨by rw [Dr, if_neg (by omega)], by rw [Dr, if_neg (by omega)], by rw [Dr, if_neg (by omega)]⟩⟩) h9
    generalize hE : au (au (au (cpG D (szT τ) (6 * szT τ)) 100 12 (szT τ)) 100 13 1) 100 32 0 = E
    have Er : ∀ (j : Nat) (i : Int), j ≠ 100 → E j i = cpG D (szT τ) (6 * szT τ) j i := fun j i h => by rw [← hE, au_ne _ _ _ _ h, au_ne _ _ _ _ h, au_ne _ _ _ _ h]
    have Es : ∀ i : Int, E 100 i = if i = 32 then 0 else if i = 13 then 1 else if i = 12 then (szT τ : Int) else D 100 i := fun i => by
      rw [← hE, au_ite, au_ite, au_ite, cpG_r, if_neg (show ¬ (((100 : Nat) = 105 ∨ (100 : Nat) = 106 ∨ (100 : Nat) = 107) ∧ 0 ≤ i ∧ i < szT τ) by omega), if_neg (show ¬ (((100 : Nat) = 108 ∨ (100 : Nat) = 109) ∧ 0 ≤ i ∧ i < 6 * szT τ) by omega), if_neg (show ¬ ((100 : Nat) = 110 ∧ 0 ≤ i ∧ i < 6 * szT τ) by omega)]
      simp only [true_and]
    have hEA : rga E := by rw [← hE]; exact rga_au (rga_au (rga_au (rga_cpG hA1) ⟨by omega, by omega⟩) ⟨by decide, by decide⟩) rg_0
    have hI : poI A E τ 0 := by
      refine ⟨⟨fun j i a b => ?_, ?_, hEA⟩, ?_, ?_, ?_, ?_, ?_, fun q q0 q1 => by omega⟩
      · rw [Er j i a, cpG_r, if_neg (by omega), if_neg (by omega), if_neg (by omega), Dr, if_neg (by omega)]
        exact h2 j i (by omega) (by omega) (by omega) (fun h => absurd h a)
      · rw [Es, if_neg (by decide), if_neg (by decide), if_neg (by decide), Dr, if_neg (by omega)]
        exact h2 100 33 (by omega) (by decide) (by decide) (fun _ => ⟨by decide, by decide, by decide, by decide⟩)
      · rw [Es, if_neg (by decide), if_neg (by decide), if_neg (by decide), Dr, if_pos ⟨rfl, rfl⟩]
      · rw [Es, if_neg (by decide), if_neg (by decide), if_pos rfl]
      · rw [Es, if_neg (by decide), if_pos rfl]
      · rw [Es, if_pos rfl]
      · have := (tG_sh D E τ).1 30 h5 (by omega) (by omega) (fun x x0 x1 => ⟨?_, ?_, ?_, fun l l0 l1 => ⟨?_, ?_, ?_⟩⟩) hGD
        · exact this
        · rw [Er _ _ (by decide), cpG_r, if_pos ⟨by omega, by omega, by omega⟩, show 30 + (x - 30) = x by omega]
        · rw [Er _ _ (by decide), cpG_r, if_pos ⟨by omega, by omega, by omega⟩, show 30 + (x - 30) = x by omega]
        · rw [Er _ _ (by decide), cpG_r, if_pos ⟨by omega, by omega, by omega⟩, show 30 + (x - 30) = x by omega]
        · rw [Er _ _ (by decide), cpG_r, if_neg (by omega), if_pos ⟨by omega, by omega, by omega⟩, show 180 + (6 * (x - 30) + l) = 6 * x + l by omega]
        · rw [Er _ _ (by decide), cpG_r, if_neg (by omega), if_pos ⟨by omega, by omega, by omega⟩, show 180 + (6 * (x - 30) + l) = 6 * x + l by omega]
        · rw [Er _ _ (by decide), cpG_r, if_neg (by omega), if_neg (by omega), if_pos ⟨rfl, by omega, by omega⟩, show 180 + (6 * (x - 30) + l) = 6 * x + l by omega]
    have main := po_roles (K := K) (d := d) (Q := Q) (R := R) (g := g) (t := t) (u := u) h5 (by omega) o6 (by omega) (fun B hB => hok τ B hz h1 hB) 4 0 E (by omega) (by omega) hI
    have h174 : wx K M_T_protocol (d + 6) Q 174 [some (.ref (xa K.n 32)), some (iv (szT τ)), some (iv (szT τ)), none] [] (hp K.n (cpG D (szT τ) (6 * szT τ)) R g t u) := by
      have hA : rga (cpG D (szT τ) (6 * szT τ)) := rga_cpG hA1
      refine r_aload_n 114 rfl rfl ?_
      refine r_iload_n 115 rfl rfl ?_
      refine r_put 116 rfl f_T_156 (hp_at rfl) rfl rfl ?_
      rw [wT_12]
      refine r_aload_n 117 rfl rfl ?_
      refine r_iconst 118 rfl ?_
      refine r_put 119 rfl f_T_203 (hp_at rfl) rfl rfl ?_
      rw [wT_13]
      refine r_aload_n 120 rfl rfl ?_
      refine r_iconst 121 rfl ?_
      refine r_put 122 rfl f_T_207 (hp_at rfl) rfl rfl ?_
      rw [wT_32]
      rw [hE]
      refine r_iconst 123 rfl ?_
      refine r_istore_n 124 rfl (Nat.le_of_ble_eq_true rfl) ?_
      exact main
    have copy := po_copy (K := K) (d := d) (Q := Q) (R := R) (g := g) (t := t) (u := u) hA1 (by omega : (szT τ : Int) ≤ 30) h174 (szT τ) 0 (by omega) (by omega)
    rw [Int.mul_zero, cpG_0] at copy
    refine r_istore_n 9 rfl (Nat.le_of_ble_eq_true rfl) ?_
    refine r_iload_n 10 rfl rfl ?_
    refine r_if_ge (t := 24) 11 rfl (by decide) (by first | exact hA _ _ | exact ⟨by decide, by decide⟩ | assumption | exact ⟨by omega, by omega⟩) (fun c_19 => ?_) (fun c_19 => by omega)
    refine r_iconst 14 rfl ?_
    refine r_istore_n 15 rfl (Nat.le_of_ble_eq_true rfl) ?_
    exact copy
end TW66


/-! the class: loose -/
def lz (f : Nat → Bool) : Nat := (if f 0 = true then 1 else 0) + (if f 1 = true then 2 else 0) + (if f 2 = true then 4 else 0)
theorem lz_lt (f : Nat → Bool) : lz f < 8 := by unfold lz; split <;> split <;> split <;> omega
theorem lz_0 (f : Nat → Bool) : lz f = 0 ↔ (f 0 = false ∧ f 1 = false ∧ f 2 = false) := by
  unfold lz
  cases f 0 <;> cases f 1 <;> cases f 2 <;> simp
theorem lz_or3 : ∀ a b c a' b' c' : Bool, ((if a = true then 1 else 0) + (if b = true then 2 else 0) + (if c = true then 4 else 0) : Nat) ||| ((if a' = true then 1 else 0) + (if b' = true then 2 else 0) + (if c' = true then 4 else 0)) = (if (a || a') = true then 1 else 0) + (if (b || b') = true then 2 else 0) + (if (c || c') = true then 4 else 0) := by decide
theorem lz_or (f f' : Nat → Bool) : lz f ||| lz f' = lz (fun v => f v || f' v) := lz_or3 (f 0) (f 1) (f 2) (f' 0) (f' 1) (f' 2)
def bM3 (a b c : Bool) (v : Nat) : Nat := (if (!decide (0 = v) && a) = true then 1 else 0) + (if (!decide (1 = v) && b) = true then 2 else 0) + (if (!decide (2 = v) && c) = true then 4 else 0)
theorem bM3_i : ∀ a b c : Bool, ∀ v : Nat, v < 3 → Int32.ofInt (((if a = true then 1 else 0) + (if b = true then 2 else 0) + (if c = true then 4 else 0) : Nat) : Int) &&& (Int32.ofInt ((2 ^ v : Nat) : Int) ^^^ Int32.ofInt (-1)) = Int32.ofInt ((bM3 a b c v : Nat) : Int) := by decide +kernel
theorem xor_i : ∀ v : Nat, v < 3 → ∃ z : Int, Int32.ofInt ((2 ^ v : Nat) : Int) ^^^ Int32.ofInt (-1) = Int32.ofInt z := fun v _ => ⟨(Int32.ofInt ((2 ^ v : Nat) : Int) ^^^ Int32.ofInt (-1)).toInt, by rw [Int32.ofInt_toInt]⟩
section XN80
variable {K : xk} {A : Nat → Int → Int} {R : Nat → Int → Value} {g : Nat → Nat × List Value} {t u : Nat}
theorem xl_all {lo t1 : Nat} (hlo : K.n + 62 ≤ lo) (τ : Tr) :
    (∀ (D a : Nat) (Q : Outcome → xh → Prop), (wfP τ).1 → szT τ + 1 ≤ D → (gR g lo t1 τ).1 a → Q (.returned (some (iv (lz (lsP τ).1)))) (hp K.n A R g t u) → mx K (sel4 τ M_GlobalEnd_loose M_GlobalVariable_loose M_GlobalLoop_loose M_GlobalMessage_loose) D [.ref a] (hp K.n A R g t u) Q) ∧
    (∀ (D a z : Nat) (v : Value) (Q : Outcome → xh → Prop), (wfP τ).2 → szB τ + 2 ≤ D → z < 8 → (gR g lo t1 τ).2 v → Q (.returned (some (iv ((z ||| lz (lsP τ).2 : Nat) : Int)))) (hp K.n A R g t u) → wx K M_GlobalMessage_loose D Q 7 [some (.ref a), some (iv z), some v] [] (hp K.n A R g t u)) := by
  induction τ with
  | leaf k =>
    refine ⟨fun D a Q hw hD hR hq => ?_, fun D a z v Q hw hD hz hR hq => ?_⟩
    · obtain ⟨d, rfl⟩ : ∃ d, D = d + 1 := ⟨D - 1, by omega⟩
      unfold sel4
      dsimp only
      rw [gR_lf] at hR
      rw [wfT_leaf] at hw
      by_cases e : k = 0
      · rw [if_pos e]
        have e0 : lz (lsP (.leaf k)).1 = 0 := by
          show lz (fun v => decide (k = v + 1)) = 0
          rw [e]; rfl
        rw [e0] at hq
        refine mx_in ok_GlobalEnd_loose rfl (Nat.le_of_ble_eq_true rfl) ?_
        refine r_iconst 0 rfl ?_
        refine r_iret 1 rfl rfl rfl ?_
        exact hq
      · rw [if_neg e] at hR ⊢
        have ha := hR.1.1
        have h1 := hR.2
        rw [show ((k : Int) - 1) = ((k - 1 : Nat) : Int) by omega] at h1
        have e0 : lz (lsP (.leaf k)).1 = 2 ^ (k - 1) := by
          show lz (fun v => decide (k = v + 1)) = _
          have : k = 1 ∨ k = 2 ∨ k = 3 := by omega
          rcases this with rfl | rfl | rfl <;> rfl
        rw [e0] at hq
        refine mx_in ok_GlobalVariable_loose rfl (Nat.le_of_ble_eq_true rfl) ?_
        refine r_iconst 0 rfl ?_
        refine r_aload_n 1 rfl rfl ?_
        refine r_getg 2 rfl f_GlobalVariable_7 (by omega) h1 rfl ?_
        refine r_ishl 3 _ rfl (shl_i (k - 1) (by omega)) ?_
        refine r_iret 4 rfl rfl rfl ?_
        exact hq
    · replace hR : v = .null := hR
      subst hR
      have e0 : lz (lsP (.leaf k)).2 = 0 := rfl
      rw [e0, Nat.or_zero] at hq
      first | refine r_aload_n 5 rfl rfl ?_ | refine r_aload_nN 5 rfl rfl ?_
      refine r_ifnullN (t := 29) 6 rfl (by decide) ?_
      refine r_iload_n 17 rfl rfl ?_
      refine r_iret 18 rfl rfl rfl ?_
      exact hq
  | branch k l q ihl ihq =>
    refine ⟨fun D a Q hw hD hR hq => ?_, fun D a z v Q hw hD hz hR hq => ?_⟩
    · rw [gR_br] at hR
      rw [wfT_br] at hw
      have hsz := szT_br k l q
      unfold sel4
      dsimp only
      obtain ⟨d, rfl⟩ : ∃ d, D = d + 1 := ⟨D - 1, by omega⟩
      have ha := hR.1.1
      by_cases h3 : k < 3
      · rw [if_pos h3] at hR hw hsz ⊢
        obtain ⟨-, b, h1, h2⟩ := hR
        have hbi := gR_in l h2
        obtain ⟨zx, hzx⟩ := xor_i k h3
        have e0 : lz (lsP (.branch k l q)).1 = bM3 ((lsP l).1 0) ((lsP l).1 1) ((lsP l).1 2) k := by
          unfold lz bM3
          rw [lsT_br, lsT_br, lsT_br, if_pos h3, if_pos h3, if_pos h3]
        have hand : Int32.ofInt ((lz (lsP l).1 : Nat) : Int) &&& Int32.ofInt zx = Int32.ofInt ((lz (lsP (.branch k l q)).1 : Nat) : Int) := by
          rw [e0, ← hzx]
          exact bM3_i _ _ _ k h3
        refine mx_in ok_GlobalLoop_loose rfl (Nat.le_of_ble_eq_true rfl) ?_
        refine r_aload_n 0 rfl rfl ?_
        refine r_getg 1 rfl f_GlobalLoop_13 (by omega) h1 rfl ?_
        refine r_callT0 2 rfl ⟨u_GlobalLoop_21_GlobalEnd, u_GlobalLoop_21_GlobalVariable, u_GlobalLoop_21_GlobalLoop, u_GlobalLoop_21_GlobalMessage⟩ (by omega) h2 (Nat.le_of_ble_eq_true rfl) ?_
        refine ihl.1 d b _ hw (by omega) h2 (cp1 ?_)
        refine r_iconst 3 rfl ?_
        refine r_aload_n 4 rfl rfl ?_
        refine r_getg 5 rfl f_GlobalLoop_7 (by omega) h1 rfl ?_
        refine r_ishl 6 _ rfl (shl_i k (by omega)) ?_
        refine r_iconst 7 rfl ?_
        refine r_ixor 8 _ rfl hzx ?_
        refine r_iand 9 _ rfl hand ?_
        refine r_iret 10 rfl rfl rfl ?_
        exact hq
      · rw [if_neg h3] at hR hw hsz ⊢
        obtain ⟨-, v, h1, h2⟩ := hR
        have e0 : lz (lsP (.branch k l q)).1 = 0 ||| lz (lsP l).2 := by
          rw [Nat.zero_or]
          congr 1
          funext v
          rw [lsT_br, if_neg h3]
        rw [e0] at hq
        have n7 := ihl.2 (d + 1) a 0 v Q hw.2.1 (by omega) (by decide) h2 hq
        refine mx_in ok_GlobalMessage_loose rfl (Nat.le_of_ble_eq_true rfl) ?_
        cases l with
        | leaf k' =>
          replace h2 : v = .null := h2
          subst h2
          refine r_iconst 0 rfl ?_
          refine r_istore_n 1 rfl (Nat.le_of_ble_eq_true rfl) ?_
          refine r_aload_n 2 rfl rfl ?_
          refine r_getg 3 rfl f_GlobalMessage_16 (by omega) h1 rfl ?_
          first | refine r_astore_n 4 rfl (Nat.le_of_ble_eq_true rfl) ?_ | refine r_astore_nN 4 rfl (Nat.le_of_ble_eq_true rfl) ?_
          exact n7
        | branch k' l' q' =>
          rw [gR_brB] at h2
          obtain ⟨b, c, w, e1, -⟩ := h2
          subst e1
          refine r_iconst 0 rfl ?_
          refine r_istore_n 1 rfl (Nat.le_of_ble_eq_true rfl) ?_
          refine r_aload_n 2 rfl rfl ?_
          refine r_getg 3 rfl f_GlobalMessage_16 (by omega) h1 rfl ?_
          first | refine r_astore_n 4 rfl (Nat.le_of_ble_eq_true rfl) ?_ | refine r_astore_nN 4 rfl (Nat.le_of_ble_eq_true rfl) ?_
          exact n7
    · rw [gR_brB] at hR
      rw [wfB_br] at hw
      have hsz := szB_br k l q
      have hlp := szT_pos l
      obtain ⟨b, c, w, e1, e2, e3, e4, e5⟩ := hR
      subst e1
      have hci := gR_in l e4
      obtain ⟨d, rfl⟩ : ∃ d, D = d + 1 := ⟨D - 1, by omega⟩
      have hl8 := lz_lt (lsP l).1
      have hz2 : z ||| lz (lsP l).1 < 8 := Nat.or_lt_two_pow (n := 3) hz hl8
      have e0 : z ||| lz (lsP (.branch k l q)).2 = (z ||| lz (lsP l).1) ||| lz (lsP q).2 := by
        rw [Nat.or_assoc, lz_or]
        rfl
      rw [e0] at hq
      have nx := ihq.2 (d + 1) a (z ||| lz (lsP l).1) w Q hw.2.2.2 (by omega) hz2 e5 hq
      cases q with
      | leaf k' =>
        replace e5 : w = .null := e5
        subst e5
        first | refine r_aload_n 5 rfl rfl ?_ | refine r_aload_nN 5 rfl rfl ?_
        refine r_ifnull 6 rfl ?_
        refine r_iload_n 7 rfl rfl ?_
        first | refine r_aload_n 8 rfl rfl ?_ | refine r_aload_nN 8 rfl rfl ?_
        refine r_getg 9 rfl f_GlobalMessage_20 (by omega) e3 rfl ?_
        refine r_callT0 10 rfl ⟨u_GlobalMessage_33_GlobalEnd, u_GlobalMessage_33_GlobalVariable, u_GlobalMessage_33_GlobalLoop, u_GlobalMessage_33_GlobalMessage⟩ (by omega) e4 (Nat.le_of_ble_eq_true rfl) ?_
        refine ihl.1 d c _ hw.2.2.1 (by omega) e4 (cp1 ?_)
        refine r_ior 11 _ rfl (or_i z (by omega) _ (by omega)) ?_
        refine r_istore_n 12 rfl (Nat.le_of_ble_eq_true rfl) ?_
        first | refine r_aload_n 13 rfl rfl ?_ | refine r_aload_nN 13 rfl rfl ?_
        refine r_getg 14 rfl f_GlobalMessage_30 (by omega) e3 rfl ?_
        first | refine r_astore_n 15 rfl (Nat.le_of_ble_eq_true rfl) ?_ | refine r_astore_nN 15 rfl (Nat.le_of_ble_eq_true rfl) ?_
        refine r_goto (t := 7) 16 rfl (by decide) ?_
        exact nx
      | branch k' l' q' =>
        rw [gR_brB] at e5
        obtain ⟨b', c', w', f1, -⟩ := e5
        subst f1
        first | refine r_aload_n 5 rfl rfl ?_ | refine r_aload_nN 5 rfl rfl ?_
        refine r_ifnull 6 rfl ?_
        refine r_iload_n 7 rfl rfl ?_
        first | refine r_aload_n 8 rfl rfl ?_ | refine r_aload_nN 8 rfl rfl ?_
        refine r_getg 9 rfl f_GlobalMessage_20 (by omega) e3 rfl ?_
        refine r_callT0 10 rfl ⟨u_GlobalMessage_33_GlobalEnd, u_GlobalMessage_33_GlobalVariable, u_GlobalMessage_33_GlobalLoop, u_GlobalMessage_33_GlobalMessage⟩ (by omega) e4 (Nat.le_of_ble_eq_true rfl) ?_
        refine ihl.1 d c _ hw.2.2.1 (by omega) e4 (cp1 ?_)
        refine r_ior 11 _ rfl (or_i z (by omega) _ (by omega)) ?_
        refine r_istore_n 12 rfl (Nat.le_of_ble_eq_true rfl) ?_
        first | refine r_aload_n 13 rfl rfl ?_ | refine r_aload_nN 13 rfl rfl ?_
        refine r_getg 14 rfl f_GlobalMessage_30 (by omega) e3 rfl ?_
        first | refine r_astore_n 15 rfl (Nat.le_of_ble_eq_true rfl) ?_ | refine r_astore_nN 15 rfl (Nat.le_of_ble_eq_true rfl) ?_
        refine r_goto (t := 7) 16 rfl (by decide) ?_
        exact nx
end XN80


/-! the twin: branch, begun -/
section TW9
variable {K : xk} {M : xm} {d : Nat} {Q : Outcome → xh → Prop} {A : Nat → Int → Int} {R : Nat → Int → Value} {g : Nat → Nat × List Value} {t u : Nat}
/-- the open place on top, and what stands there -/
def tTop (A : Nat → Int → Int) : Int := A 115 (A 100 14 - 1)
def brA (A : Nat → Int → Int) : Nat → Int → Int := muF (onA (au A 100 2 (A 100 2 + 1)) 48 3) 58
def brF (A : Nat → Int → Int) : Nat → Int → Int :=
  if (tHere A - 102 < 0 ∨ 5 < tHere A - 102) ∨ 0 < A 108 (6 * tTop A + (tHere A - 102)) then tWr A (A 100 2)
  else au (adF (brA A) (tTop A) (tHere A - 102) (onF (au A 100 2 (A 100 2 + 1)) 48 3) (-1)) 116 (A 100 14 - 1) (tHere A - 102)
/-- must, one, wrong change place and fault alone -/
theorem wr_ne (A : Nat → Int → Int) (x : Int) {j : Nat} (i : Int) (h : j ≠ 100) : tWr A x j i = A j i := au_ne _ _ _ _ h
theorem wr_sc (A : Nat → Int → Int) (x : Int) {i : Int} (h : i ≠ 3) : tWr A x 100 i = A 100 i := au_ni _ _ _ h
theorem mu_ne (A : Nat → Int → Int) (c : Int) {j : Nat} (i : Int) (h : j ≠ 100) : muF A c j i = A j i := by
  unfold muF
  split
  · exact au_ne _ _ _ _ h
  · exact wr_ne _ _ _ h
theorem mu_sc (A : Nat → Int → Int) (c : Int) {i : Int} (h2 : i ≠ 2) (h3 : i ≠ 3) : muF A c 100 i = A 100 i := by
  unfold muF
  split
  · exact au_ni _ _ _ h2
  · exact wr_sc _ _ h3
theorem on_ne (A : Nat → Int → Int) (l m : Int) {j : Nat} (i : Int) (h : j ≠ 100) : onA A l m j i = A j i := by
  unfold onA
  split
  · exact wr_ne _ _ _ h
  · exact au_ne _ _ _ _ h
theorem on_sc (A : Nat → Int → Int) (l m : Int) {i : Int} (h2 : i ≠ 2) (h3 : i ≠ 3) : onA A l m 100 i = A 100 i := by
  unfold onA
  split
  · exact wr_sc _ _ h3
  · exact au_ni _ _ _ h2
theorem brA_ne (A : Nat → Int → Int) {j : Nat} (i : Int) (h : j ≠ 100) : brA A j i = A j i := by
  unfold brA
  rw [mu_ne _ _ _ h, on_ne _ _ _ _ h, au_ne _ _ _ _ h]
theorem brA_sc (A : Nat → Int → Int) {i : Int} (h2 : i ≠ 2) (h3 : i ≠ 3) : brA A 100 i = A 100 i := by
  unfold brA
  rw [mu_sc _ _ h2 h3, on_sc _ _ _ h2 h3, au_ni _ _ _ h2]
theorem onF_rg {low many : Int} (hB : tB A) (hl : 0 ≤ low ∧ low < 1000) (hm : 0 < many ∧ many < 1000) : 0 ≤ onF A low many ∧ onF A low many < many := by
  have := tHere_rg hB
  unfold onF
  split <;> omega
theorem c_T_branch (hB : tB A) (o0 : 0 < A 100 14) (o1 : A 100 14 ≤ 32) (n0 : 0 ≤ tTop A) (n1 : tTop A < 300) (hq : Q (.returned none) (hp K.n (brF A) R g t u)) : mx K M_T_branch (d + 2) [.ref (xa K.n 32)] (hp K.n A R g t u) Q := by
  have hth := tHere_rg hB
  obtain ⟨hA, h2, h3, h4⟩ := id hB
  unfold brF at hq
  refine mx_in ok_T_branch rfl (Nat.le_of_ble_eq_true rfl) ?_
  refine r_aload_n 0 rfl rfl ?_
  refine r_get 1 rfl f_T_35 (hp_at rfl) rfl ?_
  refine r_aload_n 2 rfl rfl ?_
  refine r_get 3 rfl f_T_124 (hp_at rfl) rfl ?_
  refine r_iconst 4 rfl ?_
  refine r_isub 5 rfl ?_
  refine r_iaload 6 rfl (hp_at rfl) (by decide) (by omega) (by omega) ?_
  refine r_istore_n 7 rfl (Nat.le_of_ble_eq_true rfl) ?_
  show wx K M_T_branch (d + 2) Q 12 (List.set _ 1 (some (iv (tTop A)))) _ _
  generalize hn : tTop A = n at *
  refine r_aload_n 8 rfl rfl ?_
  refine r_callv0 9 rfl l_T_109 (hp_at rfl) (Nat.le_of_ble_eq_true rfl) ?_
  refine c_T_here hA (by omega) (by omega) (cp1 ?_)
  refine r_bipush 10 rfl rfl ?_
  refine r_isub 11 rfl ?_
  refine r_istore_n 12 rfl (Nat.le_of_ble_eq_true rfl) ?_
  refine r_iload_n 13 rfl rfl ?_
  refine r_iconst 14 rfl ?_
  refine r_out_ne (tt := 54) 15 rfl l_T_117 rfl (by decide) (by first | exact hA _ _ | exact ⟨by decide, by decide⟩ | assumption | exact ⟨by omega, by omega⟩) (by first | exact hA _ _ | exact ⟨by decide, by decide⟩ | assumption | exact ⟨by omega, by omega⟩) (Nat.le_of_ble_eq_true rfl) (fun c_22 => ?_) (fun c_22 => ?_)
  · refine r_aload_n 32 rfl rfl ?_
    refine r_aload_n 33 rfl rfl ?_
    refine r_get 34 rfl f_T_103 (hp_at rfl) rfl ?_
    refine r_callv1 35 rfl l_T_113 (hp_at rfl) (Nat.le_of_ble_eq_true rfl) ?_
    refine c_T_wrong hA (cp0 ?_)
    refine r_ret 36 rfl rfl ?_
    exact q_h hq (by rw [if_pos (by omega)])
  · refine r_aload_n 17 rfl rfl ?_
    refine r_get 18 rfl f_T_23 (hp_at rfl) rfl ?_
    refine r_bipush 19 rfl rfl ?_
    refine r_iload_n 20 rfl rfl ?_
    refine r_imul 21 rfl ?_
    refine r_iload_n 22 rfl rfl ?_
    refine r_iconst 23 rfl ?_
    refine r_out_eq (tt := 48) 24 rfl l_T_117 rfl (by decide) (by first | exact hA _ _ | exact ⟨by decide, by decide⟩ | assumption | exact ⟨by omega, by omega⟩) (by first | exact hA _ _ | exact ⟨by decide, by decide⟩ | assumption | exact ⟨by omega, by omega⟩) (Nat.le_of_ble_eq_true rfl) (fun c_38 => ?_) (fun c_38 => by omega)
    refine r_iload_n 28 rfl rfl ?_
    refine r_iadd 29 rfl ?_
    refine r_iaload 30 rfl (hp_at rfl) (by decide) (by omega) (by omega) ?_
    refine r_if_le (t := 63) 31 rfl (by decide) (by first | exact hA _ _ | exact ⟨by decide, by decide⟩ | assumption | exact ⟨by omega, by omega⟩) (fun c_51 => ?_) (fun c_51 => ?_)
    · refine r_aload_n 37 rfl rfl ?_
      refine r_dup 38 rfl rfl ?_
      refine r_get 39 rfl f_T_103 (hp_at rfl) rfl ?_
      refine r_iconst 40 rfl ?_
      refine r_iadd 41 rfl ?_
      refine r_put 42 rfl f_T_103 (hp_at rfl) rfl rfl ?_
      rw [wT_2]
      have hB1 : tB (au A 100 2 (A 100 2 + 1)) := tB_pl hB (tHere_lt (by omega))
      refine r_aload_n 43 rfl rfl ?_
      refine r_bipush 44 rfl rfl ?_
      refine r_iconst 45 rfl ?_
      refine r_callv2 46 rfl l_T_127 (hp_at rfl) (Nat.le_of_ble_eq_true rfl) ?_
      refine c_T_one hB1 ⟨by decide, by decide⟩ ⟨by decide, by decide⟩ (cp1 ?_)
      have hof := onF_rg hB1 (low := 48) (many := 3) ⟨by decide, by decide⟩ ⟨by decide, by decide⟩
      have hB2 := tB_on hB1 (low := 48) (many := 3) (by decide)
      refine r_istore_n 47 rfl (Nat.le_of_ble_eq_true rfl) ?_
      refine r_aload_n 48 rfl rfl ?_
      refine r_bipush 49 rfl rfl ?_
      refine r_callv1 50 rfl l_T_131 (hp_at rfl) (Nat.le_of_ble_eq_true rfl) ?_
      refine c_T_must hB2 ⟨by decide, by decide⟩ (cp0 ?_)
      have hB3 := tB_mu hB2 (c := 58) (by decide)
      rw [show muF (onA (au A 100 2 (A 100 2 + 1)) 48 3) 58 = brA A from rfl] at hB3 ⊢
      refine r_aload_n 51 rfl rfl ?_
      refine r_iload_n 52 rfl rfl ?_
      refine r_iload_n 53 rfl rfl ?_
      refine r_iload_n 54 rfl rfl ?_
      refine r_iconst 55 rfl ?_
      refine r_callv4 56 rfl l_T_134 (hp_at rfl) (Nat.le_of_ble_eq_true rfl) ?_
      refine c_T_addLabel hB3.1 n0 n1 (by omega) (by omega) (cp0 ?_)
      have e1 : adF (brA A) n (tHere A - 102) (onF (au A 100 2 (A 100 2 + 1)) 48 3) (-1) 100 14 = A 100 14 := by unfold adF; rw [au_ne _ _ _ _ (by decide), au_ne _ _ _ _ (by decide), au_ne _ _ _ _ (by decide), au_ne _ _ _ _ (by decide), brA_sc _ (by decide) (by decide)]
      refine r_aload_n 57 rfl rfl ?_
      refine r_get 58 rfl f_T_38 (hp_at rfl) rfl ?_
      refine r_aload_n 59 rfl rfl ?_
      refine r_get 60 rfl f_T_124 (hp_at rfl) rfl ?_
      rw [e1]
      refine r_iconst 61 rfl ?_
      refine r_isub 62 rfl ?_
      refine r_iload_n 63 rfl rfl ?_
      refine r_iastore 64 rfl (hp_at rfl) (by decide) (by omega) (by omega) ?_
      rw [ws_116]
      refine r_ret 65 rfl rfl ?_
      exact q_h hq (by rw [if_neg (by omega)])
    · refine r_aload_n 32 rfl rfl ?_
      refine r_aload_n 33 rfl rfl ?_
      refine r_get 34 rfl f_T_103 (hp_at rfl) rfl ?_
      refine r_callv1 35 rfl l_T_113 (hp_at rfl) (Nat.le_of_ble_eq_true rfl) ?_
      refine c_T_wrong hA (cp0 ?_)
      refine r_ret 36 rfl rfl ?_
      exact q_h hq (by rw [if_pos (by omega)])
def bg1 (A : Nat → Int → Int) (k w : Int) : Nat → Int → Int := if 0 < A 100 14 then au (frF (au A 100 2 (A 100 2 + 1)) k w) 110 (6 * tTop A + A 116 (A 100 14 - 1)) (A 100 4) else frF (au A 100 2 (A 100 2 + 1)) k w
def opn (A : Nat → Int → Int) (n : Int) : Nat → Int → Int := au (au (au A 115 (A 100 14) n) 116 (A 100 14) 0) 100 14 (A 100 14 + 1)
def bgL (A : Nat → Int → Int) : Nat → Int → Int := opn (muF (au (onA (bg1 A 2 0) 88 3) 106 (A 100 4) (onF (bg1 A 2 0) 88 3)) 46) (A 100 4)
def bgc1 (A : Nat → Int → Int) (c : Int) : Nat → Int → Int := au (au (bg1 A 5 0) 106 (A 100 4) (c - 97)) 105 (A 100 4) (if tHere (au (bg1 A 5 0) 106 (A 100 4) (c - 97)) = 33 then 3 else 4)
def bgC (A : Nat → Int → Int) (c : Int) : Nat → Int → Int := opn (muF (muF (bgc1 A c) (if tHere (bgc1 A c) = 33 then 33 else 63)) 123) (A 100 4)
def bgg1 (A : Nat → Int → Int) : Nat → Int → Int := muF (bg1 A 5 0) 62
def bgg2 (A : Nat → Int → Int) (c : Int) : Int := if tHere (bgg1 A) = c then -1 else onF (bgg1 A) 97 4
def bgg3 (A : Nat → Int → Int) (c : Int) : Nat → Int → Int := if tHere (bgg1 A) = c then tWr (bgg1 A) (bgg1 A 100 2) else onA (bgg1 A) 97 4
def bgG (A : Nat → Int → Int) (c : Int) : Nat → Int → Int := opn (muF (au (bgg3 A c) 106 (A 100 4) (c - 97 + 4 * bgg2 A c)) 123) (A 100 4)
def brI (A : Nat → Int → Int) : Nat → Int → Int := if A 100 3 < 0 then brF A else A
theorem fr_ne (A : Nat → Int → Int) (k w : Int) {j : Nat} (i : Int) (h : j ≠ 100) (h5 : j ≠ 105) (h6 : j ≠ 106) (h7 : j ≠ 107) (h8 : j ≠ 108) : frF A k w j i = A j i := by
  unfold frF
  rw [au_ne _ _ _ _ h, fil_ne _ _ _ _ _ h8, au_ne _ _ _ _ h7, au_ne _ _ _ _ h6, au_ne _ _ _ _ h5]
theorem fr_sc (A : Nat → Int → Int) (k w : Int) {i : Int} (h : i ≠ 4) : frF A k w 100 i = A 100 i := by
  unfold frF
  rw [au_ni _ _ _ h, fil_ne _ _ _ _ _ (by decide), au_ne _ _ _ _ (by decide), au_ne _ _ _ _ (by decide), au_ne _ _ _ _ (by decide)]
theorem bg1_ne (A : Nat → Int → Int) (k w : Int) {j : Nat} (i : Int) (h : j ≠ 100) (h5 : j ≠ 105) (h6 : j ≠ 106) (h7 : j ≠ 107) (h8 : j ≠ 108) (h10 : j ≠ 110) : bg1 A k w j i = A j i := by
  unfold bg1
  split
  · rw [au_ne _ _ _ _ h10, fr_ne _ _ _ _ h h5 h6 h7 h8, au_ne _ _ _ _ h]
  · rw [fr_ne _ _ _ _ h h5 h6 h7 h8, au_ne _ _ _ _ h]
theorem bg1_sc (A : Nat → Int → Int) (k w : Int) {i : Int} (h : i ≠ 4) (h2 : i ≠ 2) : bg1 A k w 100 i = A 100 i := by
  unfold bg1
  split
  · rw [au_ne _ _ _ _ (by decide), fr_sc _ _ _ h, au_ni _ _ _ h2]
  · rw [fr_sc _ _ _ h, au_ni _ _ _ h2]
theorem tB_bg1 {k w : Int} (h : tB A) (hp : A 100 2 < A 100 0) (hk : rg k) (hw : rg w) (u0 : 0 ≤ A 100 4) (u1 : A 100 4 < 300) : tB (bg1 A k w) := by
  have h1 := tB_fr (tB_pl h hp) hk hw (by rw [au_ni _ _ _ (by decide)]; exact u0) (by rw [au_ni _ _ _ (by decide)]; exact u1)
  unfold bg1
  split
  · exact tB_au h1 (h.1 _ _) (by decide) (by decide)
  · exact h1
/-- begun, by what stands at the place -/
theorem gdG_01 (A : Nat → Int → Int) (v : Int) : ∀ (k : Nat) (m : Int), (m = 0 ∨ m = 1) → (gdG A v k m = 0 ∨ gdG A v k m = 1)
  | 0, _, _ => Or.inl rfl
  | k + 1, m, h => by
    rw [gdG_s]
    split
    · exact h
    · exact gdG_01 A v k _ (by split; exact Or.inr rfl; exact Or.inl rfl)
theorem c_T_begun {base loc : Int} (hB : tB A) (b0 : 0 ≤ base) (b1 : base ≤ 200) (hloc : loc = 0 ∨ loc = 1) (u0 : base ≤ A 100 4) (u1 : A 100 4 ≤ base + 30) (o0 : 0 ≤ A 100 14) (o1 : A 100 14 < 32) (hO : ∀ i, 0 ≤ i → i < A 100 14 → (0 ≤ A 115 i ∧ A 115 i < 300) ∧ (0 ≤ A 116 i ∧ A 116 i < 6))
    (h30 : A 100 4 - base = 30 → Q (.returned (some (iv 1))) (hp K.n (tWr A (A 100 2)) R g t u))
    (hbad : A 100 4 - base ≠ 30 → tHere A ≠ 101 → tHere A ≠ 109 → (tHere A < 88 ∨ 90 < tHere A ∨ gdG A (tHere A - 88) (A 100 14).toNat 0 = 0) → (tHere A < 97 ∨ 100 < tHere A) → Q (.returned (some (iv 1))) (hp K.n (tWr A (A 100 2)) R g t u))
    (hend : A 100 4 - base ≠ 30 → tHere A = 101 → Q (.returned (some (iv 1))) (hp K.n (bg1 A 0 0) R g t u))
    (hvar : A 100 4 - base ≠ 30 → 88 ≤ tHere A → tHere A ≤ 90 → gdG A (tHere A - 88) (A 100 14).toNat 0 ≠ 0 → Q (.returned (some (iv 1))) (hp K.n (bg1 A 1 (tHere A - 88)) R g t u))
    (hloop : A 100 4 - base ≠ 30 → tHere A = 109 → Q (.returned (some (iv 0))) (hp K.n (bgL A) R g t u))
    (hmsgL : A 100 4 - base ≠ 30 → 97 ≤ tHere A → tHere A ≤ 100 → loc = 1 → Q (.returned (some (iv 0))) (hp K.n (brI (bgC A (tHere A))) R g t u))
    (hmsgG : A 100 4 - base ≠ 30 → 97 ≤ tHere A → tHere A ≤ 100 → loc = 0 → Q (.returned (some (iv 0))) (hp K.n (brI (bgG A (tHere A))) R g t u)) : mx K M_T_begun (d + 3) [.ref (xa K.n 32), iv base, iv loc] (hp K.n A R g t u) Q := by
  have hth := tHere_rg hB
  obtain ⟨hA, h2, h3, h4⟩ := id hB
  have hlr : rg loc := by rcases hloc with rfl | rfl <;> exact ⟨by decide, by decide⟩
  refine mx_in ok_T_begun rfl (Nat.le_of_ble_eq_true rfl) ?_
  refine r_aload_n 0 rfl rfl ?_
  refine r_callv0 1 rfl l_T_109 (hp_at rfl) (Nat.le_of_ble_eq_true rfl) ?_
  refine c_T_here hA (by omega) (by omega) (cp1 ?_)
  by_cases e30 : A 100 4 - base = 30
  · refine r_istore_n 2 rfl (Nat.le_of_ble_eq_true rfl) ?_
    refine r_aload_n 3 rfl rfl ?_
    refine r_get 4 rfl f_T_121 (hp_at rfl) rfl ?_
    refine r_iload_n 5 rfl rfl ?_
    refine r_isub 6 rfl ?_
    refine r_bipush 7 rfl rfl ?_
    refine r_icmp_ne (t := 26) 8 rfl (by decide) (by first | exact hA _ _ | exact ⟨by decide, by decide⟩ | assumption | exact ⟨by omega, by omega⟩) (by first | exact hA _ _ | exact ⟨by decide, by decide⟩ | assumption | exact ⟨by omega, by omega⟩) (fun c_13 => by omega) (fun c_13 => ?_)
    refine r_aload_n 9 rfl rfl ?_
    refine r_aload_n 10 rfl rfl ?_
    refine r_get 11 rfl f_T_103 (hp_at rfl) rfl ?_
    refine r_callv1 12 rfl l_T_113 (hp_at rfl) (Nat.le_of_ble_eq_true rfl) ?_
    refine c_T_wrong hA (cp0 ?_)
    refine r_iconst 13 rfl ?_
    refine r_iret 14 rfl rfl (by first | rfl | assumption) ?_
    exact h30 e30
  have rgc : rg (tHere A) := ⟨by omega, by omega⟩
  have plt : 0 ≤ tHere A → A 100 2 < A 100 0 := tHere_lt
  have htop : 0 < A 100 14 → (0 ≤ tTop A ∧ tTop A < 300) ∧ (0 ≤ A 116 (A 100 14 - 1) ∧ A 116 (A 100 14 - 1) < 6) := fun h => hO (A 100 14 - 1) (by omega) (by omega)
  -- from 140: the fresh place is hung below what is open
  have hang : ∀ (k w : Int), wx K M_T_begun (d + 3) Q 180 [some (.ref (xa K.n 32)), some (iv base), some (iv loc), some (iv (tHere A)), some (iv k), some (iv (A 100 4)), none] [] (hp K.n (bg1 A k w) R g t u) → wx K M_T_begun (d + 3) Q 140 [some (.ref (xa K.n 32)), some (iv base), some (iv loc), some (iv (tHere A)), some (iv k), some (iv (A 100 4)), none] [] (hp K.n (frF (au A 100 2 (A 100 2 + 1)) k w) R g t u) := by
    intro k w hgo
    have f14 : frF (au A 100 2 (A 100 2 + 1)) k w 100 14 = A 100 14 := by rw [fr_sc _ _ _ (by decide), au_ni _ _ _ (by decide)]
    have f115 : ∀ i, frF (au A 100 2 (A 100 2 + 1)) k w 115 i = A 115 i := fun i => by rw [fr_ne _ _ _ _ (by decide) (by decide) (by decide) (by decide) (by decide), au_ne _ _ _ _ (by decide)]
    have f116 : ∀ i, frF (au A 100 2 (A 100 2 + 1)) k w 116 i = A 116 i := fun i => by rw [fr_ne _ _ _ _ (by decide) (by decide) (by decide) (by decide) (by decide), au_ne _ _ _ _ (by decide)]
    unfold bg1 tTop at hgo
    refine r_aload_n 77 rfl rfl ?_
    refine r_get 78 rfl f_T_124 (hp_at rfl) rfl ?_
    rw [f14]
    refine r_if_le (t := 180) 79 rfl (by decide) (by first | exact hA _ _ | exact ⟨by decide, by decide⟩ | assumption | exact ⟨by omega, by omega⟩) (fun c_144 => ?_) (fun c_144 => ?_)
    · first | exact hgo | (rw [if_neg (by omega)] at hgo; exact hgo)
    · rw [if_pos (by omega)] at hgo
      obtain ⟨⟨p0, p1⟩, p2, p3⟩ := htop (by omega)
      unfold tTop at p0 p1
      refine r_aload_n 80 rfl rfl ?_
      refine r_get 81 rfl f_T_29 (hp_at rfl) rfl ?_
      refine r_bipush 82 rfl rfl ?_
      refine r_aload_n 83 rfl rfl ?_
      refine r_get 84 rfl f_T_35 (hp_at rfl) rfl ?_
      refine r_aload_n 85 rfl rfl ?_
      refine r_get 86 rfl f_T_124 (hp_at rfl) rfl ?_
      rw [f14]
      refine r_iconst 87 rfl ?_
      refine r_isub 88 rfl ?_
      refine r_iaload 89 rfl (hp_at rfl) (by decide) (by omega) (by omega) ?_
      rw [f115]
      refine r_imul 90 rfl ?_
      refine r_aload_n 91 rfl rfl ?_
      refine r_get 92 rfl f_T_38 (hp_at rfl) rfl ?_
      refine r_aload_n 93 rfl rfl ?_
      refine r_get 94 rfl f_T_124 (hp_at rfl) rfl ?_
      rw [f14]
      refine r_iconst 95 rfl ?_
      refine r_isub 96 rfl ?_
      refine r_iaload 97 rfl (hp_at rfl) (by decide) (by omega) (by omega) ?_
      rw [f116]
      refine r_iadd 98 rfl ?_
      refine r_iload 99 rfl rfl ?_
      refine r_iastore 100 rfl (hp_at rfl) (by decide) (by omega) (by omega) ?_
      rw [ws_110]
      first | exact hgo | (rw [if_neg (by omega)] at hgo; exact hgo)
  have fin : ∀ (k b : Int) (l6 : Option Value) (A' : Nat → Int → Int), (k = 2 ∨ k = 5) → rga A' → 0 ≤ A' 100 14 → A' 100 14 < 32 → (k = 5 → 0 ≤ A 100 4 ∧ A 100 4 < 300 ∧ tB (opn A' (A 100 4))) → (∀ v, l6 = some v → v.category = 1) → Q (.returned (some (iv 0))) (hp K.n (if k = 5 then brI (opn A' (A 100 4)) else opn A' (A 100 4)) R g t u) → wx K M_T_begun (d + 3) Q 348 [some (.ref (xa K.n 32)), some (iv base), some (iv loc), some (iv (tHere A)), some (iv k), some (iv (A 100 4)), l6] [] (hp K.n A' R g t u) := by
    intro k b l6 A' hk hA' q0 q1 h5 hl6 hq
    have hkr : rg k := by rcases hk with rfl | rfl <;> exact ⟨by decide, by decide⟩
    have hA0 := hA
    clear hA
    have hA := hA'
    have e14 : au (au A' 115 (A' 100 14) (A 100 4)) 116 (au A' 115 (A' 100 14) (A 100 4) 100 14) 0 100 14 = A' 100 14 := rfl
    have e3 : opn A' (A 100 4) 100 3 = A' 100 3 := rfl
    rcases hk with rfl | rfl
    · refine r_iload 189 rfl rfl ?_
      refine r_iconst 190 rfl ?_
      refine r_icmp_eq (t := 360) 191 rfl (by decide) (by first | exact hA _ _ | exact ⟨by decide, by decide⟩ | assumption | exact ⟨by omega, by omega⟩) (by first | exact hA _ _ | exact ⟨by decide, by decide⟩ | assumption | exact ⟨by omega, by omega⟩) (fun c_351 => ?_) (fun c_351 => by omega)
      refine r_aload_n 195 rfl rfl ?_
      refine r_get 196 rfl f_T_35 (hp_at rfl) rfl ?_
      refine r_aload_n 197 rfl rfl ?_
      refine r_get 198 rfl f_T_124 (hp_at rfl) rfl ?_
      try simp +decide only [au_ne, au_same, au_ni, fil_ne]
      refine r_iload 199 rfl rfl ?_
      refine r_iastore 200 rfl (hp_at rfl) (by decide) (by omega) (by omega) ?_
      rw [ws_115]
      refine r_aload_n 201 rfl rfl ?_
      refine r_get 202 rfl f_T_38 (hp_at rfl) rfl ?_
      refine r_aload_n 203 rfl rfl ?_
      refine r_get 204 rfl f_T_124 (hp_at rfl) rfl ?_
      try simp +decide only [au_ne, au_same, au_ni, fil_ne]
      refine r_iconst 205 rfl ?_
      refine r_iastore 206 rfl (hp_at rfl) (by decide) (by omega) (by omega) ?_
      rw [ws_116]
      refine r_aload_n 207 rfl rfl ?_
      refine r_dup 208 rfl rfl ?_
      refine r_get 209 rfl f_T_124 (hp_at rfl) rfl ?_
      try simp +decide only [au_ne, au_same, au_ni, fil_ne]
      refine r_iconst 210 rfl ?_
      refine r_iadd 211 rfl ?_
      refine r_put 212 rfl f_T_124 (hp_at rfl) rfl rfl ?_
      rw [wT_14]
      refine r_iload 213 rfl rfl ?_
      refine r_iconst 214 rfl ?_
      refine r_icmp_ne (t := 408) 215 rfl (by decide) (by first | exact hA _ _ | exact ⟨by decide, by decide⟩ | assumption | exact ⟨by omega, by omega⟩) (by first | exact hA _ _ | exact ⟨by decide, by decide⟩ | assumption | exact ⟨by omega, by omega⟩) (fun c_394 => ?_) (fun c_394 => by omega)
      refine r_iload 221 rfl rfl ?_
      refine r_iconst 222 rfl ?_
      refine r_icmp_eq (t := 424) 223 rfl (by decide) (by first | exact hA _ _ | exact ⟨by decide, by decide⟩ | assumption | exact ⟨by omega, by omega⟩) (by first | exact hA _ _ | exact ⟨by decide, by decide⟩ | assumption | exact ⟨by omega, by omega⟩) (fun c_411 => ?_) (fun c_411 => by omega)
      refine r_iconst 229 rfl ?_
      refine r_iret 230 rfl rfl (by first | rfl | assumption) ?_
      exact hq
    · obtain ⟨w0, w1, hBo⟩ := h5 rfl
      unfold brI at hq
      rw [if_pos rfl, e3] at hq
      refine r_iload 189 rfl rfl ?_
      refine r_iconst 190 rfl ?_
      refine r_icmp_eq (t := 360) 191 rfl (by decide) (by first | exact hA _ _ | exact ⟨by decide, by decide⟩ | assumption | exact ⟨by omega, by omega⟩) (by first | exact hA _ _ | exact ⟨by decide, by decide⟩ | assumption | exact ⟨by omega, by omega⟩) (fun c_351 => by omega) (fun c_351 => ?_)
      refine r_iload 192 rfl rfl ?_
      refine r_iconst 193 rfl ?_
      refine r_icmp_ne (t := 391) 194 rfl (by decide) (by first | exact hA _ _ | exact ⟨by decide, by decide⟩ | assumption | exact ⟨by omega, by omega⟩) (by first | exact hA _ _ | exact ⟨by decide, by decide⟩ | assumption | exact ⟨by omega, by omega⟩) (fun c_357 => by omega) (fun c_357 => ?_)
      refine r_aload_n 195 rfl rfl ?_
      refine r_get 196 rfl f_T_35 (hp_at rfl) rfl ?_
      refine r_aload_n 197 rfl rfl ?_
      refine r_get 198 rfl f_T_124 (hp_at rfl) rfl ?_
      try simp +decide only [au_ne, au_same, au_ni, fil_ne]
      refine r_iload 199 rfl rfl ?_
      refine r_iastore 200 rfl (hp_at rfl) (by decide) (by omega) (by omega) ?_
      rw [ws_115]
      refine r_aload_n 201 rfl rfl ?_
      refine r_get 202 rfl f_T_38 (hp_at rfl) rfl ?_
      refine r_aload_n 203 rfl rfl ?_
      refine r_get 204 rfl f_T_124 (hp_at rfl) rfl ?_
      try simp +decide only [au_ne, au_same, au_ni, fil_ne]
      refine r_iconst 205 rfl ?_
      refine r_iastore 206 rfl (hp_at rfl) (by decide) (by omega) (by omega) ?_
      rw [ws_116]
      refine r_aload_n 207 rfl rfl ?_
      refine r_dup 208 rfl rfl ?_
      refine r_get 209 rfl f_T_124 (hp_at rfl) rfl ?_
      try simp +decide only [au_ne, au_same, au_ni, fil_ne]
      refine r_iconst 210 rfl ?_
      refine r_iadd 211 rfl ?_
      refine r_put 212 rfl f_T_124 (hp_at rfl) rfl rfl ?_
      rw [wT_14]
      refine r_iload 213 rfl rfl ?_
      refine r_iconst 214 rfl ?_
      refine r_icmp_ne (t := 408) 215 rfl (by decide) (by first | exact hA _ _ | exact ⟨by decide, by decide⟩ | assumption | exact ⟨by omega, by omega⟩) (by first | exact hA _ _ | exact ⟨by decide, by decide⟩ | assumption | exact ⟨by omega, by omega⟩) (fun c_394 => by omega) (fun c_394 => ?_)
      refine r_aload_n 216 rfl rfl ?_
      refine r_get 217 rfl f_T_106 (hp_at rfl) rfl ?_
      try simp +decide only [au_ne, au_same, au_ni, fil_ne]
      refine r_if_ge (t := 408) 218 rfl (by decide) (by first | exact hA _ _ | exact ⟨by decide, by decide⟩ | assumption | exact ⟨by omega, by omega⟩) (fun c_401 => ?_) (fun c_401 => ?_)
      · refine r_iload 221 rfl rfl ?_
        refine r_iconst 222 rfl ?_
        refine r_icmp_eq (t := 424) 223 rfl (by decide) (by first | exact hA _ _ | exact ⟨by decide, by decide⟩ | assumption | exact ⟨by omega, by omega⟩) (by first | exact hA _ _ | exact ⟨by decide, by decide⟩ | assumption | exact ⟨by omega, by omega⟩) (fun c_411 => by omega) (fun c_411 => ?_)
        refine r_iload 224 rfl rfl ?_
        refine r_iconst 225 rfl ?_
        refine r_icmp_eq (t := 424) 226 rfl (by decide) (by first | exact hA _ _ | exact ⟨by decide, by decide⟩ | assumption | exact ⟨by omega, by omega⟩) (by first | exact hA _ _ | exact ⟨by decide, by decide⟩ | assumption | exact ⟨by omega, by omega⟩) (fun c_417 => ?_) (fun c_417 => by omega)
        refine r_iconst 229 rfl ?_
        refine r_iret 230 rfl rfl (by first | rfl | assumption) ?_
        first | exact hq | (rw [if_neg (by omega)] at hq; exact hq)
      · have eo : opn A' (A 100 4) 100 14 = A' 100 14 + 1 := au_same _ _ _ _
        have eT : tTop (opn A' (A 100 4)) = A 100 4 := by unfold tTop; rw [eo, show A' 100 14 + 1 - 1 = A' 100 14 by omega]; unfold opn; rw [au_ne _ _ _ _ (by decide), au_ne _ _ _ _ (by decide), au_same]
        rw [if_pos (by omega)] at hq
        refine r_aload_n 219 rfl rfl ?_
        refine r_callv0 220 rfl l_T_145 (hp_at rfl) (Nat.le_of_ble_eq_true rfl) ?_
        refine c_T_branch hBo (show 0 < opn A' (A 100 4) 100 14 by rw [eo]; omega) (show opn A' (A 100 4) 100 14 ≤ 32 by rw [eo]; omega) (show 0 ≤ tTop (opn A' (A 100 4)) by rw [eT]; exact w0) (show tTop (opn A' (A 100 4)) < 300 by rw [eT]; exact w1) (cp0 ?_)
        refine r_iload 221 rfl rfl ?_
        refine r_iconst 222 rfl ?_
        refine r_icmp_eq (t := 424) 223 rfl (by decide) (by first | exact hA _ _ | exact ⟨by decide, by decide⟩ | assumption | exact ⟨by omega, by omega⟩) (by first | exact hA _ _ | exact ⟨by decide, by decide⟩ | assumption | exact ⟨by omega, by omega⟩) (fun c_411 => by omega) (fun c_411 => ?_)
        refine r_iload 224 rfl rfl ?_
        refine r_iconst 225 rfl ?_
        refine r_icmp_eq (t := 424) 226 rfl (by decide) (by first | exact hA _ _ | exact ⟨by decide, by decide⟩ | assumption | exact ⟨by omega, by omega⟩) (by first | exact hA _ _ | exact ⟨by decide, by decide⟩ | assumption | exact ⟨by omega, by omega⟩) (fun c_417 => ?_) (fun c_417 => by omega)
        refine r_iconst 229 rfl ?_
        refine r_iret 230 rfl rfl (by first | rfl | assumption) ?_
        first | exact hq | (rw [if_neg (by omega)] at hq; exact hq)
  by_cases ce : tHere A = 101
  · refine r_istore_n 2 rfl (Nat.le_of_ble_eq_true rfl) ?_
    refine r_aload_n 3 rfl rfl ?_
    refine r_get 4 rfl f_T_121 (hp_at rfl) rfl ?_
    refine r_iload_n 5 rfl rfl ?_
    refine r_isub 6 rfl ?_
    refine r_bipush 7 rfl rfl ?_
    refine r_icmp_ne (t := 26) 8 rfl (by decide) (by first | exact hA _ _ | exact ⟨by decide, by decide⟩ | assumption | exact ⟨by omega, by omega⟩) (by first | exact hA _ _ | exact ⟨by decide, by decide⟩ | assumption | exact ⟨by omega, by omega⟩) (fun c_13 => ?_) (fun c_13 => by omega)
    refine r_iload_n 15 rfl rfl ?_
    refine r_bipush 16 rfl rfl ?_
    refine r_icmp_ne (t := 36) 17 rfl (by decide) (by first | exact hA _ _ | exact ⟨by decide, by decide⟩ | assumption | exact ⟨by omega, by omega⟩) (by first | exact hA _ _ | exact ⟨by decide, by decide⟩ | assumption | exact ⟨by omega, by omega⟩) (fun c_29 => by omega) (fun c_29 => ?_)
    refine r_iconst 18 rfl ?_
    refine r_goto (t := 62) 19 rfl (by decide) ?_
    refine r_istore 34 rfl (Nat.le_of_ble_eq_true rfl) ?_
    refine r_iload 35 rfl rfl ?_
    refine r_iconst 36 rfl ?_
    refine r_icmp_ne (t := 81) 37 rfl (by decide) (by first | exact hA _ _ | exact ⟨by decide, by decide⟩ | assumption | exact ⟨by omega, by omega⟩) (by first | exact hA _ _ | exact ⟨by decide, by decide⟩ | assumption | exact ⟨by omega, by omega⟩) (fun c_67 => ?_) (fun c_67 => by omega)
    refine r_iload 44 rfl rfl ?_
    refine r_iconst 45 rfl ?_
    refine r_icmp_ne (t := 108) 46 rfl (by decide) (by first | exact hA _ _ | exact ⟨by decide, by decide⟩ | assumption | exact ⟨by omega, by omega⟩) (by first | exact hA _ _ | exact ⟨by decide, by decide⟩ | assumption | exact ⟨by omega, by omega⟩) (fun c_84 => ?_) (fun c_84 => by omega)
    refine r_aload_n 59 rfl rfl ?_
    refine r_dup 60 rfl rfl ?_
    refine r_get 61 rfl f_T_103 (hp_at rfl) rfl ?_
    refine r_iconst 62 rfl ?_
    refine r_iadd 63 rfl ?_
    refine r_put 64 rfl f_T_103 (hp_at rfl) rfl rfl ?_
    rw [wT_2]
    refine r_aload_n 65 rfl rfl ?_
    refine r_iload 66 rfl rfl ?_
    refine r_iload 67 rfl rfl ?_
    refine r_iconst 68 rfl ?_
    refine r_icmp_ne (t := 134) 69 rfl (by decide) (by first | exact hA _ _ | exact ⟨by decide, by decide⟩ | assumption | exact ⟨by omega, by omega⟩) (by first | exact hA _ _ | exact ⟨by decide, by decide⟩ | assumption | exact ⟨by omega, by omega⟩) (fun c_124 => ?_) (fun c_124 => by omega)
    refine r_iconst 74 rfl ?_
    refine r_callv2 75 rfl l_T_142 (hp_at rfl) (Nat.le_of_ble_eq_true rfl) ?_
    refine c_T_fresh (rga_au hA ⟨by omega, by omega⟩) ⟨by decide, by decide⟩ ⟨by decide, by decide⟩ (by rw [au_ni _ _ _ (by decide)]; omega) (by rw [au_ni _ _ _ (by decide)]; omega) (cp1 ?_)
    rw [au_ni _ _ _ (by decide)]
    refine r_istore 76 rfl (Nat.le_of_ble_eq_true rfl) ?_
    refine hang 0 0 ?_
    refine r_iload 101 rfl rfl ?_
    refine r_iconst 102 rfl ?_
    refine r_icmp_ne (t := 209) 103 rfl (by decide) (by first | exact hA _ _ | exact ⟨by decide, by decide⟩ | assumption | exact ⟨by omega, by omega⟩) (by first | exact hA _ _ | exact ⟨by decide, by decide⟩ | assumption | exact ⟨by omega, by omega⟩) (fun c_183 => ?_) (fun c_183 => by omega)
    refine r_iload 116 rfl rfl ?_
    refine r_iconst 117 rfl ?_
    refine r_icmp_ne (t := 280) 118 rfl (by decide) (by first | exact hA _ _ | exact ⟨by decide, by decide⟩ | assumption | exact ⟨by omega, by omega⟩) (by first | exact hA _ _ | exact ⟨by decide, by decide⟩ | assumption | exact ⟨by omega, by omega⟩) (fun c_212 => ?_) (fun c_212 => by omega)
    refine r_iload 152 rfl rfl ?_
    refine r_iconst 153 rfl ?_
    refine r_icmp_ne (t := 348) 154 rfl (by decide) (by first | exact hA _ _ | exact ⟨by decide, by decide⟩ | assumption | exact ⟨by omega, by omega⟩) (by first | exact hA _ _ | exact ⟨by decide, by decide⟩ | assumption | exact ⟨by omega, by omega⟩) (fun c_283 => ?_) (fun c_283 => by omega)
    refine r_iload 189 rfl rfl ?_
    refine r_iconst 190 rfl ?_
    refine r_icmp_eq (t := 360) 191 rfl (by decide) (by first | exact hA _ _ | exact ⟨by decide, by decide⟩ | assumption | exact ⟨by omega, by omega⟩) (by first | exact hA _ _ | exact ⟨by decide, by decide⟩ | assumption | exact ⟨by omega, by omega⟩) (fun c_351 => by omega) (fun c_351 => ?_)
    refine r_iload 192 rfl rfl ?_
    refine r_iconst 193 rfl ?_
    refine r_icmp_ne (t := 391) 194 rfl (by decide) (by first | exact hA _ _ | exact ⟨by decide, by decide⟩ | assumption | exact ⟨by omega, by omega⟩) (by first | exact hA _ _ | exact ⟨by decide, by decide⟩ | assumption | exact ⟨by omega, by omega⟩) (fun c_357 => ?_) (fun c_357 => by omega)
    refine r_iload 213 rfl rfl ?_
    refine r_iconst 214 rfl ?_
    refine r_icmp_ne (t := 408) 215 rfl (by decide) (by first | exact hA _ _ | exact ⟨by decide, by decide⟩ | assumption | exact ⟨by omega, by omega⟩) (by first | exact hA _ _ | exact ⟨by decide, by decide⟩ | assumption | exact ⟨by omega, by omega⟩) (fun c_394 => ?_) (fun c_394 => by omega)
    refine r_iload 221 rfl rfl ?_
    refine r_iconst 222 rfl ?_
    refine r_icmp_eq (t := 424) 223 rfl (by decide) (by first | exact hA _ _ | exact ⟨by decide, by decide⟩ | assumption | exact ⟨by omega, by omega⟩) (by first | exact hA _ _ | exact ⟨by decide, by decide⟩ | assumption | exact ⟨by omega, by omega⟩) (fun c_411 => by omega) (fun c_411 => ?_)
    refine r_iload 224 rfl rfl ?_
    refine r_iconst 225 rfl ?_
    refine r_icmp_eq (t := 424) 226 rfl (by decide) (by first | exact hA _ _ | exact ⟨by decide, by decide⟩ | assumption | exact ⟨by omega, by omega⟩) (by first | exact hA _ _ | exact ⟨by decide, by decide⟩ | assumption | exact ⟨by omega, by omega⟩) (fun c_417 => by omega) (fun c_417 => ?_)
    refine r_iconst 227 rfl ?_
    refine r_goto (t := 425) 228 rfl (by decide) ?_
    refine r_iret 230 rfl rfl (by first | rfl | assumption) ?_
    exact hend e30 ce
  by_cases cm : tHere A = 109
  · have hB1 : tB (bg1 A 2 0) := tB_bg1 hB (plt (by omega)) ⟨by decide, by decide⟩ ⟨by decide, by decide⟩ (by omega) (by omega)
    have hB2 : tB (onA (bg1 A 2 0) 88 3) := tB_on hB1 (by decide)
    have hof := onF_rg hB1 (low := 88) (many := 3) ⟨by decide, by decide⟩ ⟨by decide, by decide⟩
    have hB3 : tB (au (onA (bg1 A 2 0) 88 3) 106 (A 100 4) (onF (bg1 A 2 0) 88 3)) := tB_au hB2 ⟨by omega, by omega⟩ (by decide) (by decide)
    have hB4 := tB_mu hB3 (c := 46) (by decide)
    have e14 : muF (au (onA (bg1 A 2 0) 88 3) 106 (A 100 4) (onF (bg1 A 2 0) 88 3)) 46 100 14 = A 100 14 := by rw [mu_sc _ _ (by decide) (by decide), au_ne _ _ _ _ (by decide), on_sc _ _ _ (by decide) (by decide), bg1_sc _ _ _ (by decide) (by decide)]
    refine r_istore_n 2 rfl (Nat.le_of_ble_eq_true rfl) ?_
    refine r_aload_n 3 rfl rfl ?_
    refine r_get 4 rfl f_T_121 (hp_at rfl) rfl ?_
    refine r_iload_n 5 rfl rfl ?_
    refine r_isub 6 rfl ?_
    refine r_bipush 7 rfl rfl ?_
    refine r_icmp_ne (t := 26) 8 rfl (by decide) (by first | exact hA _ _ | exact ⟨by decide, by decide⟩ | assumption | exact ⟨by omega, by omega⟩) (by first | exact hA _ _ | exact ⟨by decide, by decide⟩ | assumption | exact ⟨by omega, by omega⟩) (fun c_13 => ?_) (fun c_13 => by omega)
    refine r_iload_n 15 rfl rfl ?_
    refine r_bipush 16 rfl rfl ?_
    refine r_icmp_ne (t := 36) 17 rfl (by decide) (by first | exact hA _ _ | exact ⟨by decide, by decide⟩ | assumption | exact ⟨by omega, by omega⟩) (by first | exact hA _ _ | exact ⟨by decide, by decide⟩ | assumption | exact ⟨by omega, by omega⟩) (fun c_29 => ?_) (fun c_29 => by omega)
    refine r_iload_n 20 rfl rfl ?_
    refine r_bipush 21 rfl rfl ?_
    refine r_icmp_ne (t := 46) 22 rfl (by decide) (by first | exact hA _ _ | exact ⟨by decide, by decide⟩ | assumption | exact ⟨by omega, by omega⟩) (by first | exact hA _ _ | exact ⟨by decide, by decide⟩ | assumption | exact ⟨by omega, by omega⟩) (fun c_39 => by omega) (fun c_39 => ?_)
    refine r_iconst 23 rfl ?_
    refine r_goto (t := 62) 24 rfl (by decide) ?_
    refine r_istore 34 rfl (Nat.le_of_ble_eq_true rfl) ?_
    refine r_iload 35 rfl rfl ?_
    refine r_iconst 36 rfl ?_
    refine r_icmp_ne (t := 81) 37 rfl (by decide) (by first | exact hA _ _ | exact ⟨by decide, by decide⟩ | assumption | exact ⟨by omega, by omega⟩) (by first | exact hA _ _ | exact ⟨by decide, by decide⟩ | assumption | exact ⟨by omega, by omega⟩) (fun c_67 => ?_) (fun c_67 => by omega)
    refine r_iload 44 rfl rfl ?_
    refine r_iconst 45 rfl ?_
    refine r_icmp_ne (t := 108) 46 rfl (by decide) (by first | exact hA _ _ | exact ⟨by decide, by decide⟩ | assumption | exact ⟨by omega, by omega⟩) (by first | exact hA _ _ | exact ⟨by decide, by decide⟩ | assumption | exact ⟨by omega, by omega⟩) (fun c_84 => ?_) (fun c_84 => by omega)
    refine r_aload_n 59 rfl rfl ?_
    refine r_dup 60 rfl rfl ?_
    refine r_get 61 rfl f_T_103 (hp_at rfl) rfl ?_
    refine r_iconst 62 rfl ?_
    refine r_iadd 63 rfl ?_
    refine r_put 64 rfl f_T_103 (hp_at rfl) rfl rfl ?_
    rw [wT_2]
    refine r_aload_n 65 rfl rfl ?_
    refine r_iload 66 rfl rfl ?_
    refine r_iload 67 rfl rfl ?_
    refine r_iconst 68 rfl ?_
    refine r_icmp_ne (t := 134) 69 rfl (by decide) (by first | exact hA _ _ | exact ⟨by decide, by decide⟩ | assumption | exact ⟨by omega, by omega⟩) (by first | exact hA _ _ | exact ⟨by decide, by decide⟩ | assumption | exact ⟨by omega, by omega⟩) (fun c_124 => ?_) (fun c_124 => by omega)
    refine r_iconst 74 rfl ?_
    refine r_callv2 75 rfl l_T_142 (hp_at rfl) (Nat.le_of_ble_eq_true rfl) ?_
    refine c_T_fresh (rga_au hA ⟨by omega, by omega⟩) ⟨by decide, by decide⟩ ⟨by decide, by decide⟩ (by rw [au_ni _ _ _ (by decide)]; omega) (by rw [au_ni _ _ _ (by decide)]; omega) (cp1 ?_)
    rw [au_ni _ _ _ (by decide)]
    refine r_istore 76 rfl (Nat.le_of_ble_eq_true rfl) ?_
    refine hang 2 0 ?_
    refine r_iload 101 rfl rfl ?_
    refine r_iconst 102 rfl ?_
    refine r_icmp_ne (t := 209) 103 rfl (by decide) (by first | exact hA _ _ | exact ⟨by decide, by decide⟩ | assumption | exact ⟨by omega, by omega⟩) (by first | exact hA _ _ | exact ⟨by decide, by decide⟩ | assumption | exact ⟨by omega, by omega⟩) (fun c_183 => by omega) (fun c_183 => ?_)
    refine r_aload_n 104 rfl rfl ?_
    refine r_get 105 rfl f_T_17 (hp_at rfl) rfl ?_
    refine r_iload 106 rfl rfl ?_
    refine r_aload_n 107 rfl rfl ?_
    refine r_bipush 108 rfl rfl ?_
    refine r_iconst 109 rfl ?_
    refine r_callv2 110 rfl l_T_127 (hp_at rfl) (Nat.le_of_ble_eq_true rfl) ?_
    refine c_T_one hB1 ⟨by decide, by decide⟩ ⟨by decide, by decide⟩ (cp1 ?_)
    refine r_iastore 111 rfl (hp_at rfl) (by decide) (by omega) (by omega) ?_
    rw [ws_106]
    refine r_aload_n 112 rfl rfl ?_
    refine r_bipush 113 rfl rfl ?_
    refine r_callv1 114 rfl l_T_131 (hp_at rfl) (Nat.le_of_ble_eq_true rfl) ?_
    refine c_T_must hB3 ⟨by decide, by decide⟩ (cp0 ?_)
    refine r_goto (t := 348) 115 rfl (by decide) ?_
    exact fin 2 0 none _ (Or.inl rfl) hB4.1 (by rw [e14]; omega) (by rw [e14]; omega) (fun h => absurd h (by decide)) (fun v h => by cases h) (by rw [if_neg (by decide)]; exact hloop e30 cm)
  by_cases cv : 88 ≤ tHere A ∧ tHere A ≤ 90
  · refine r_istore_n 2 rfl (Nat.le_of_ble_eq_true rfl) ?_
    refine r_aload_n 3 rfl rfl ?_
    refine r_get 4 rfl f_T_121 (hp_at rfl) rfl ?_
    refine r_iload_n 5 rfl rfl ?_
    refine r_isub 6 rfl ?_
    refine r_bipush 7 rfl rfl ?_
    refine r_icmp_ne (t := 26) 8 rfl (by decide) (by first | exact hA _ _ | exact ⟨by decide, by decide⟩ | assumption | exact ⟨by omega, by omega⟩) (by first | exact hA _ _ | exact ⟨by decide, by decide⟩ | assumption | exact ⟨by omega, by omega⟩) (fun c_13 => ?_) (fun c_13 => by omega)
    refine r_iload_n 15 rfl rfl ?_
    refine r_bipush 16 rfl rfl ?_
    refine r_icmp_ne (t := 36) 17 rfl (by decide) (by first | exact hA _ _ | exact ⟨by decide, by decide⟩ | assumption | exact ⟨by omega, by omega⟩) (by first | exact hA _ _ | exact ⟨by decide, by decide⟩ | assumption | exact ⟨by omega, by omega⟩) (fun c_29 => ?_) (fun c_29 => by omega)
    refine r_iload_n 20 rfl rfl ?_
    refine r_bipush 21 rfl rfl ?_
    refine r_icmp_ne (t := 46) 22 rfl (by decide) (by first | exact hA _ _ | exact ⟨by decide, by decide⟩ | assumption | exact ⟨by omega, by omega⟩) (by first | exact hA _ _ | exact ⟨by decide, by decide⟩ | assumption | exact ⟨by omega, by omega⟩) (fun c_39 => ?_) (fun c_39 => by omega)
    refine r_iload_n 25 rfl rfl ?_
    refine r_bipush 26 rfl rfl ?_
    refine r_isub 27 rfl ?_
    refine r_iconst 28 rfl ?_
    refine r_out_ne (tt := 61) 29 rfl l_T_117 rfl (by decide) (by first | exact hA _ _ | exact ⟨by decide, by decide⟩ | assumption | exact ⟨by omega, by omega⟩) (by first | exact hA _ _ | exact ⟨by decide, by decide⟩ | assumption | exact ⟨by omega, by omega⟩) (Nat.le_of_ble_eq_true rfl) (fun c_51 => by omega) (fun c_51 => ?_)
    refine r_iconst 31 rfl ?_
    refine r_goto (t := 62) 32 rfl (by decide) ?_
    refine r_istore 34 rfl (Nat.le_of_ble_eq_true rfl) ?_
    refine r_iload 35 rfl rfl ?_
    refine r_iconst 36 rfl ?_
    refine r_icmp_ne (t := 81) 37 rfl (by decide) (by first | exact hA _ _ | exact ⟨by decide, by decide⟩ | assumption | exact ⟨by omega, by omega⟩) (by first | exact hA _ _ | exact ⟨by decide, by decide⟩ | assumption | exact ⟨by omega, by omega⟩) (fun c_67 => ?_) (fun c_67 => by omega)
    refine r_iload 44 rfl rfl ?_
    refine r_iconst 45 rfl ?_
    refine r_icmp_ne (t := 108) 46 rfl (by decide) (by first | exact hA _ _ | exact ⟨by decide, by decide⟩ | assumption | exact ⟨by omega, by omega⟩) (by first | exact hA _ _ | exact ⟨by decide, by decide⟩ | assumption | exact ⟨by omega, by omega⟩) (fun c_84 => by omega) (fun c_84 => ?_)
    refine r_aload_n 47 rfl rfl ?_
    refine r_iload_n 48 rfl rfl ?_
    refine r_bipush 49 rfl rfl ?_
    refine r_isub 50 rfl ?_
    refine r_callv1 51 rfl l_T_138 (hp_at rfl) (Nat.le_of_ble_eq_true rfl) ?_
    refine c_T_guarded hA ⟨by omega, by omega⟩ o0 (by omega) (fun i i0 i1 => (hO i i0 i1).1) (cp1 ?_)
    have hgr : gdG A (tHere A - 88) (A 100 14).toNat 0 = 0 ∨ gdG A (tHere A - 88) (A 100 14).toNat 0 = 1 := gdG_01 A _ _ 0 (Or.inl rfl)
    have hgg : rg (gdG A (tHere A - 88) (A 100 14).toNat 0) := by rcases hgr with h | h <;> rw [h] <;> exact ⟨by decide, by decide⟩
    refine r_if_ne (t := 108) 52 rfl (by decide) (by first | exact hA _ _ | exact ⟨by decide, by decide⟩ | assumption | exact ⟨by omega, by omega⟩) (fun c_95 => ?_) (fun c_95 => ?_)
    · refine r_aload_n 59 rfl rfl ?_
      refine r_dup 60 rfl rfl ?_
      refine r_get 61 rfl f_T_103 (hp_at rfl) rfl ?_
      refine r_iconst 62 rfl ?_
      refine r_iadd 63 rfl ?_
      refine r_put 64 rfl f_T_103 (hp_at rfl) rfl rfl ?_
      rw [wT_2]
      refine r_aload_n 65 rfl rfl ?_
      refine r_iload 66 rfl rfl ?_
      refine r_iload 67 rfl rfl ?_
      refine r_iconst 68 rfl ?_
      refine r_icmp_ne (t := 134) 69 rfl (by decide) (by first | exact hA _ _ | exact ⟨by decide, by decide⟩ | assumption | exact ⟨by omega, by omega⟩) (by first | exact hA _ _ | exact ⟨by decide, by decide⟩ | assumption | exact ⟨by omega, by omega⟩) (fun c_124 => by omega) (fun c_124 => ?_)
      refine r_iload_n 70 rfl rfl ?_
      refine r_bipush 71 rfl rfl ?_
      refine r_isub 72 rfl ?_
      refine r_goto (t := 135) 73 rfl (by decide) ?_
      refine r_callv2 75 rfl l_T_142 (hp_at rfl) (Nat.le_of_ble_eq_true rfl) ?_
      refine c_T_fresh (rga_au hA ⟨by omega, by omega⟩) ⟨by decide, by decide⟩ ⟨by omega, by omega⟩ (by rw [au_ni _ _ _ (by decide)]; omega) (by rw [au_ni _ _ _ (by decide)]; omega) (cp1 ?_)
      rw [au_ni _ _ _ (by decide)]
      refine r_istore 76 rfl (Nat.le_of_ble_eq_true rfl) ?_
      refine hang 1 (tHere A - 88) ?_
      refine r_iload 101 rfl rfl ?_
      refine r_iconst 102 rfl ?_
      refine r_icmp_ne (t := 209) 103 rfl (by decide) (by first | exact hA _ _ | exact ⟨by decide, by decide⟩ | assumption | exact ⟨by omega, by omega⟩) (by first | exact hA _ _ | exact ⟨by decide, by decide⟩ | assumption | exact ⟨by omega, by omega⟩) (fun c_183 => ?_) (fun c_183 => by omega)
      refine r_iload 116 rfl rfl ?_
      refine r_iconst 117 rfl ?_
      refine r_icmp_ne (t := 280) 118 rfl (by decide) (by first | exact hA _ _ | exact ⟨by decide, by decide⟩ | assumption | exact ⟨by omega, by omega⟩) (by first | exact hA _ _ | exact ⟨by decide, by decide⟩ | assumption | exact ⟨by omega, by omega⟩) (fun c_212 => ?_) (fun c_212 => by omega)
      refine r_iload 152 rfl rfl ?_
      refine r_iconst 153 rfl ?_
      refine r_icmp_ne (t := 348) 154 rfl (by decide) (by first | exact hA _ _ | exact ⟨by decide, by decide⟩ | assumption | exact ⟨by omega, by omega⟩) (by first | exact hA _ _ | exact ⟨by decide, by decide⟩ | assumption | exact ⟨by omega, by omega⟩) (fun c_283 => ?_) (fun c_283 => by omega)
      refine r_iload 189 rfl rfl ?_
      refine r_iconst 190 rfl ?_
      refine r_icmp_eq (t := 360) 191 rfl (by decide) (by first | exact hA _ _ | exact ⟨by decide, by decide⟩ | assumption | exact ⟨by omega, by omega⟩) (by first | exact hA _ _ | exact ⟨by decide, by decide⟩ | assumption | exact ⟨by omega, by omega⟩) (fun c_351 => by omega) (fun c_351 => ?_)
      refine r_iload 192 rfl rfl ?_
      refine r_iconst 193 rfl ?_
      refine r_icmp_ne (t := 391) 194 rfl (by decide) (by first | exact hA _ _ | exact ⟨by decide, by decide⟩ | assumption | exact ⟨by omega, by omega⟩) (by first | exact hA _ _ | exact ⟨by decide, by decide⟩ | assumption | exact ⟨by omega, by omega⟩) (fun c_357 => ?_) (fun c_357 => by omega)
      refine r_iload 213 rfl rfl ?_
      refine r_iconst 214 rfl ?_
      refine r_icmp_ne (t := 408) 215 rfl (by decide) (by first | exact hA _ _ | exact ⟨by decide, by decide⟩ | assumption | exact ⟨by omega, by omega⟩) (by first | exact hA _ _ | exact ⟨by decide, by decide⟩ | assumption | exact ⟨by omega, by omega⟩) (fun c_394 => ?_) (fun c_394 => by omega)
      refine r_iload 221 rfl rfl ?_
      refine r_iconst 222 rfl ?_
      refine r_icmp_eq (t := 424) 223 rfl (by decide) (by first | exact hA _ _ | exact ⟨by decide, by decide⟩ | assumption | exact ⟨by omega, by omega⟩) (by first | exact hA _ _ | exact ⟨by decide, by decide⟩ | assumption | exact ⟨by omega, by omega⟩) (fun c_411 => by omega) (fun c_411 => ?_)
      refine r_iload 224 rfl rfl ?_
      refine r_iconst 225 rfl ?_
      refine r_icmp_eq (t := 424) 226 rfl (by decide) (by first | exact hA _ _ | exact ⟨by decide, by decide⟩ | assumption | exact ⟨by omega, by omega⟩) (by first | exact hA _ _ | exact ⟨by decide, by decide⟩ | assumption | exact ⟨by omega, by omega⟩) (fun c_417 => by omega) (fun c_417 => ?_)
      refine r_iconst 227 rfl ?_
      refine r_goto (t := 425) 228 rfl (by decide) ?_
      refine r_iret 230 rfl rfl (by first | rfl | assumption) ?_
      exact hvar e30 cv.1 cv.2 c_95
    · refine r_aload_n 53 rfl rfl ?_
      refine r_aload_n 54 rfl rfl ?_
      refine r_get 55 rfl f_T_103 (hp_at rfl) rfl ?_
      refine r_callv1 56 rfl l_T_113 (hp_at rfl) (Nat.le_of_ble_eq_true rfl) ?_
      refine c_T_wrong hA (cp0 ?_)
      refine r_iconst 57 rfl ?_
      refine r_iret 58 rfl rfl (by first | rfl | assumption) ?_
      exact hbad e30 ce cm (by omega) (by omega)
  by_cases ca : 97 ≤ tHere A ∧ tHere A ≤ 100
  · have hB1 : tB (bg1 A 5 0) := tB_bg1 hB (plt (by omega)) ⟨by decide, by decide⟩ ⟨by decide, by decide⟩ (by omega) (by omega)
    rcases hloc with rfl | rfl
    · -- global
      have hB2 : tB (bgg1 A) := tB_mu hB1 (by decide)
      have hof := onF_rg hB2 (low := 97) (many := 4) ⟨by decide, by decide⟩ ⟨by decide, by decide⟩
      have hg2 : -1 ≤ bgg2 A (tHere A) ∧ bgg2 A (tHere A) < 4 := by unfold bgg2; split <;> omega
      have hB3 : tB (bgg3 A (tHere A)) := by unfold bgg3; split; exact tB_wr hB2 (hB2.1 _ _); exact tB_on hB2 (by decide)
      have hB4 : tB (au (bgg3 A (tHere A)) 106 (A 100 4) (tHere A - 97 + 4 * bgg2 A (tHere A))) := tB_au hB3 ⟨by omega, by omega⟩ (by decide) (by decide)
      have hB5 := tB_mu hB4 (c := 123) (by decide)
      have e14 : muF (au (bgg3 A (tHere A)) 106 (A 100 4) (tHere A - 97 + 4 * bgg2 A (tHere A))) 123 100 14 = A 100 14 := by
        rw [mu_sc _ _ (by decide) (by decide), au_ne _ _ _ _ (by decide)]
        unfold bgg3 bgg1
        split
        · rw [wr_sc _ _ (by decide), mu_sc _ _ (by decide) (by decide), bg1_sc _ _ _ (by decide) (by decide)]
        · rw [on_sc _ _ _ (by decide) (by decide), mu_sc _ _ (by decide) (by decide), bg1_sc _ _ _ (by decide) (by decide)]
      have hBo : tB (opn (muF (au (bgg3 A (tHere A)) 106 (A 100 4) (tHere A - 97 + 4 * bgg2 A (tHere A))) 123) (A 100 4)) := by
        unfold opn
        exact tB_sc (tB_au (tB_au hB5 (hA _ _) (by decide) (by decide)) rg_0 (by decide) (by decide)) (by rw [e14]; exact ⟨by omega, by omega⟩) (by decide) (by decide)
      have tail : ∀ l6, (∀ v, l6 = some v → v.category = 1) → wx K M_T_begun (d + 3) Q 348 [some (.ref (xa K.n 32)), some (iv base), some (iv 0), some (iv (tHere A)), some (iv 5), some (iv (A 100 4)), l6] [] (hp K.n (muF (au (bgg3 A (tHere A)) 106 (A 100 4) (tHere A - 97 + 4 * bgg2 A (tHere A))) 123) R g t u) := fun l6 h6 => fin 5 0 l6 _ (Or.inr rfl) hB5.1 (by rw [e14]; omega) (by rw [e14]; omega) (fun _ => ⟨by omega, by omega, hBo⟩) h6 (by rw [if_pos rfl]; exact hmsgG e30 ca.1 ca.2 rfl)
      have thr : rg (tHere (bgg1 A)) := rg_tHere hB2.1
      have gtail : ∀ (to : Int) (B : Nat → Int → Int), bgg2 A (tHere A) = to → bgg3 A (tHere A) = B → wx K M_T_begun (d + 3) Q 326 [some (.ref (xa K.n 32)), some (iv base), some (iv 0), some (iv (tHere A)), some (iv 5), some (iv (A 100 4)), some (iv to)] [] (hp K.n B R g t u) := by
        intro to B e1 e2
        subst e1
        subst e2
        refine r_aload_n 175 rfl rfl ?_
        refine r_get 176 rfl f_T_17 (hp_at rfl) rfl ?_
        refine r_iload 177 rfl rfl ?_
        refine r_iload_n 178 rfl rfl ?_
        refine r_bipush 179 rfl rfl ?_
        refine r_isub 180 rfl ?_
        refine r_iconst 181 rfl ?_
        refine r_iload 182 rfl rfl ?_
        refine r_imul 183 rfl ?_
        refine r_iadd 184 rfl ?_
        refine r_iastore 185 rfl (hp_at rfl) (by decide) (by omega) (by omega) ?_
        rw [ws_106]
        refine r_aload_n 186 rfl rfl ?_
        refine r_bipush 187 rfl rfl ?_
        refine r_callv1 188 rfl l_T_131 (hp_at rfl) (Nat.le_of_ble_eq_true rfl) ?_
        refine c_T_must hB4 ⟨by decide, by decide⟩ (cp0 ?_)
        exact tail _ (fun v h => by cases h; rfl)
      by_cases hc : tHere (bgg1 A) = tHere A
      · refine r_istore_n 2 rfl (Nat.le_of_ble_eq_true rfl) ?_
        refine r_aload_n 3 rfl rfl ?_
        refine r_get 4 rfl f_T_121 (hp_at rfl) rfl ?_
        refine r_iload_n 5 rfl rfl ?_
        refine r_isub 6 rfl ?_
        refine r_bipush 7 rfl rfl ?_
        refine r_icmp_ne (t := 26) 8 rfl (by decide) (by first | exact hA _ _ | exact ⟨by decide, by decide⟩ | assumption | exact ⟨by omega, by omega⟩) (by first | exact hA _ _ | exact ⟨by decide, by decide⟩ | assumption | exact ⟨by omega, by omega⟩) (fun c_13 => ?_) (fun c_13 => by omega)
        refine r_iload_n 15 rfl rfl ?_
        refine r_bipush 16 rfl rfl ?_
        refine r_icmp_ne (t := 36) 17 rfl (by decide) (by first | exact hA _ _ | exact ⟨by decide, by decide⟩ | assumption | exact ⟨by omega, by omega⟩) (by first | exact hA _ _ | exact ⟨by decide, by decide⟩ | assumption | exact ⟨by omega, by omega⟩) (fun c_29 => ?_) (fun c_29 => by omega)
        refine r_iload_n 20 rfl rfl ?_
        refine r_bipush 21 rfl rfl ?_
        refine r_icmp_ne (t := 46) 22 rfl (by decide) (by first | exact hA _ _ | exact ⟨by decide, by decide⟩ | assumption | exact ⟨by omega, by omega⟩) (by first | exact hA _ _ | exact ⟨by decide, by decide⟩ | assumption | exact ⟨by omega, by omega⟩) (fun c_39 => ?_) (fun c_39 => by omega)
        refine r_iload_n 25 rfl rfl ?_
        refine r_bipush 26 rfl rfl ?_
        refine r_isub 27 rfl ?_
        refine r_iconst 28 rfl ?_
        refine r_out_ne (tt := 61) 29 rfl l_T_117 rfl (by decide) (by first | exact hA _ _ | exact ⟨by decide, by decide⟩ | assumption | exact ⟨by omega, by omega⟩) (by first | exact hA _ _ | exact ⟨by decide, by decide⟩ | assumption | exact ⟨by omega, by omega⟩) (Nat.le_of_ble_eq_true rfl) (fun c_51 => ?_) (fun c_51 => by omega)
        refine r_iconst 33 rfl ?_
        refine r_istore 34 rfl (Nat.le_of_ble_eq_true rfl) ?_
        refine r_iload 35 rfl rfl ?_
        refine r_iconst 36 rfl ?_
        refine r_icmp_ne (t := 81) 37 rfl (by decide) (by first | exact hA _ _ | exact ⟨by decide, by decide⟩ | assumption | exact ⟨by omega, by omega⟩) (by first | exact hA _ _ | exact ⟨by decide, by decide⟩ | assumption | exact ⟨by omega, by omega⟩) (fun c_67 => by omega) (fun c_67 => ?_)
        refine r_iload_n 38 rfl rfl ?_
        refine r_bipush 39 rfl rfl ?_
        refine r_isub 40 rfl ?_
        refine r_iconst 41 rfl ?_
        refine r_out_ne (tt := 98) 42 rfl l_T_117 rfl (by decide) (by first | exact hA _ _ | exact ⟨by decide, by decide⟩ | assumption | exact ⟨by omega, by omega⟩) (by first | exact hA _ _ | exact ⟨by decide, by decide⟩ | assumption | exact ⟨by omega, by omega⟩) (Nat.le_of_ble_eq_true rfl) (fun c_75 => by omega) (fun c_75 => ?_)
        refine r_iload 44 rfl rfl ?_
        refine r_iconst 45 rfl ?_
        refine r_icmp_ne (t := 108) 46 rfl (by decide) (by first | exact hA _ _ | exact ⟨by decide, by decide⟩ | assumption | exact ⟨by omega, by omega⟩) (by first | exact hA _ _ | exact ⟨by decide, by decide⟩ | assumption | exact ⟨by omega, by omega⟩) (fun c_84 => ?_) (fun c_84 => by omega)
        refine r_aload_n 59 rfl rfl ?_
        refine r_dup 60 rfl rfl ?_
        refine r_get 61 rfl f_T_103 (hp_at rfl) rfl ?_
        refine r_iconst 62 rfl ?_
        refine r_iadd 63 rfl ?_
        refine r_put 64 rfl f_T_103 (hp_at rfl) rfl rfl ?_
        rw [wT_2]
        refine r_aload_n 65 rfl rfl ?_
        refine r_iload 66 rfl rfl ?_
        refine r_iload 67 rfl rfl ?_
        refine r_iconst 68 rfl ?_
        refine r_icmp_ne (t := 134) 69 rfl (by decide) (by first | exact hA _ _ | exact ⟨by decide, by decide⟩ | assumption | exact ⟨by omega, by omega⟩) (by first | exact hA _ _ | exact ⟨by decide, by decide⟩ | assumption | exact ⟨by omega, by omega⟩) (fun c_124 => ?_) (fun c_124 => by omega)
        refine r_iconst 74 rfl ?_
        refine r_callv2 75 rfl l_T_142 (hp_at rfl) (Nat.le_of_ble_eq_true rfl) ?_
        refine c_T_fresh (rga_au hA ⟨by omega, by omega⟩) ⟨by decide, by decide⟩ ⟨by decide, by decide⟩ (by rw [au_ni _ _ _ (by decide)]; omega) (by rw [au_ni _ _ _ (by decide)]; omega) (cp1 ?_)
        rw [au_ni _ _ _ (by decide)]
        refine r_istore 76 rfl (Nat.le_of_ble_eq_true rfl) ?_
        refine hang 5 0 ?_
        refine r_iload 101 rfl rfl ?_
        refine r_iconst 102 rfl ?_
        refine r_icmp_ne (t := 209) 103 rfl (by decide) (by first | exact hA _ _ | exact ⟨by decide, by decide⟩ | assumption | exact ⟨by omega, by omega⟩) (by first | exact hA _ _ | exact ⟨by decide, by decide⟩ | assumption | exact ⟨by omega, by omega⟩) (fun c_183 => ?_) (fun c_183 => by omega)
        refine r_iload 116 rfl rfl ?_
        refine r_iconst 117 rfl ?_
        refine r_icmp_ne (t := 280) 118 rfl (by decide) (by first | exact hA _ _ | exact ⟨by decide, by decide⟩ | assumption | exact ⟨by omega, by omega⟩) (by first | exact hA _ _ | exact ⟨by decide, by decide⟩ | assumption | exact ⟨by omega, by omega⟩) (fun c_212 => by omega) (fun c_212 => ?_)
        refine r_iload_n 119 rfl rfl ?_
        refine r_if_eq (t := 280) 120 rfl (by decide) (by first | exact hA _ _ | exact ⟨by decide, by decide⟩ | assumption | exact ⟨by omega, by omega⟩) (fun c_216 => ?_) (fun c_216 => by omega)
        refine r_iload 152 rfl rfl ?_
        refine r_iconst 153 rfl ?_
        refine r_icmp_ne (t := 348) 154 rfl (by decide) (by first | exact hA _ _ | exact ⟨by decide, by decide⟩ | assumption | exact ⟨by omega, by omega⟩) (by first | exact hA _ _ | exact ⟨by decide, by decide⟩ | assumption | exact ⟨by omega, by omega⟩) (fun c_283 => by omega) (fun c_283 => ?_)
        refine r_aload_n 155 rfl rfl ?_
        refine r_bipush 156 rfl rfl ?_
        refine r_callv1 157 rfl l_T_131 (hp_at rfl) (Nat.le_of_ble_eq_true rfl) ?_
        refine c_T_must hB1 ⟨by decide, by decide⟩ (cp0 ?_)
        rw [show muF (bg1 A 5 0) 62 = bgg1 A from rfl]
        refine r_aload_n 158 rfl rfl ?_
        refine r_callv0 159 rfl l_T_109 (hp_at rfl) (Nat.le_of_ble_eq_true rfl) ?_
        refine c_T_here hB2.1 hB2.2.1.1 (by have := hB2.2.2.1; omega) (cp1 ?_)
        refine r_iload_n 160 rfl rfl ?_
        refine r_icmp_ne (t := 304) 161 rfl (by decide) (by first | exact hA _ _ | exact ⟨by decide, by decide⟩ | assumption | exact ⟨by omega, by omega⟩) (by first | exact hA _ _ | exact ⟨by decide, by decide⟩ | assumption | exact ⟨by omega, by omega⟩) (fun c_297 => by omega) (fun c_297 => ?_)
        refine r_iconst 162 rfl ?_
        refine r_goto (t := 311) 163 rfl (by decide) ?_
        refine r_istore 168 rfl (Nat.le_of_ble_eq_true rfl) ?_
        refine r_iload 169 rfl rfl ?_
        refine r_if_ge (t := 326) 170 rfl (by decide) (by first | exact hA _ _ | exact ⟨by decide, by decide⟩ | assumption | exact ⟨by omega, by omega⟩) (fun c_315 => by omega) (fun c_315 => ?_)
        refine r_aload_n 171 rfl rfl ?_
        refine r_aload_n 172 rfl rfl ?_
        refine r_get 173 rfl f_T_103 (hp_at rfl) rfl ?_
        refine r_callv1 174 rfl l_T_113 (hp_at rfl) (Nat.le_of_ble_eq_true rfl) ?_
        refine c_T_wrong hB2.1 (cp0 ?_)
        exact gtail (-1) _ (if_pos hc) (if_pos hc)
      · refine r_istore_n 2 rfl (Nat.le_of_ble_eq_true rfl) ?_
        refine r_aload_n 3 rfl rfl ?_
        refine r_get 4 rfl f_T_121 (hp_at rfl) rfl ?_
        refine r_iload_n 5 rfl rfl ?_
        refine r_isub 6 rfl ?_
        refine r_bipush 7 rfl rfl ?_
        refine r_icmp_ne (t := 26) 8 rfl (by decide) (by first | exact hA _ _ | exact ⟨by decide, by decide⟩ | assumption | exact ⟨by omega, by omega⟩) (by first | exact hA _ _ | exact ⟨by decide, by decide⟩ | assumption | exact ⟨by omega, by omega⟩) (fun c_13 => ?_) (fun c_13 => by omega)
        refine r_iload_n 15 rfl rfl ?_
        refine r_bipush 16 rfl rfl ?_
        refine r_icmp_ne (t := 36) 17 rfl (by decide) (by first | exact hA _ _ | exact ⟨by decide, by decide⟩ | assumption | exact ⟨by omega, by omega⟩) (by first | exact hA _ _ | exact ⟨by decide, by decide⟩ | assumption | exact ⟨by omega, by omega⟩) (fun c_29 => ?_) (fun c_29 => by omega)
        refine r_iload_n 20 rfl rfl ?_
        refine r_bipush 21 rfl rfl ?_
        refine r_icmp_ne (t := 46) 22 rfl (by decide) (by first | exact hA _ _ | exact ⟨by decide, by decide⟩ | assumption | exact ⟨by omega, by omega⟩) (by first | exact hA _ _ | exact ⟨by decide, by decide⟩ | assumption | exact ⟨by omega, by omega⟩) (fun c_39 => ?_) (fun c_39 => by omega)
        refine r_iload_n 25 rfl rfl ?_
        refine r_bipush 26 rfl rfl ?_
        refine r_isub 27 rfl ?_
        refine r_iconst 28 rfl ?_
        refine r_out_ne (tt := 61) 29 rfl l_T_117 rfl (by decide) (by first | exact hA _ _ | exact ⟨by decide, by decide⟩ | assumption | exact ⟨by omega, by omega⟩) (by first | exact hA _ _ | exact ⟨by decide, by decide⟩ | assumption | exact ⟨by omega, by omega⟩) (Nat.le_of_ble_eq_true rfl) (fun c_51 => ?_) (fun c_51 => by omega)
        refine r_iconst 33 rfl ?_
        refine r_istore 34 rfl (Nat.le_of_ble_eq_true rfl) ?_
        refine r_iload 35 rfl rfl ?_
        refine r_iconst 36 rfl ?_
        refine r_icmp_ne (t := 81) 37 rfl (by decide) (by first | exact hA _ _ | exact ⟨by decide, by decide⟩ | assumption | exact ⟨by omega, by omega⟩) (by first | exact hA _ _ | exact ⟨by decide, by decide⟩ | assumption | exact ⟨by omega, by omega⟩) (fun c_67 => by omega) (fun c_67 => ?_)
        refine r_iload_n 38 rfl rfl ?_
        refine r_bipush 39 rfl rfl ?_
        refine r_isub 40 rfl ?_
        refine r_iconst 41 rfl ?_
        refine r_out_ne (tt := 98) 42 rfl l_T_117 rfl (by decide) (by first | exact hA _ _ | exact ⟨by decide, by decide⟩ | assumption | exact ⟨by omega, by omega⟩) (by first | exact hA _ _ | exact ⟨by decide, by decide⟩ | assumption | exact ⟨by omega, by omega⟩) (Nat.le_of_ble_eq_true rfl) (fun c_75 => by omega) (fun c_75 => ?_)
        refine r_iload 44 rfl rfl ?_
        refine r_iconst 45 rfl ?_
        refine r_icmp_ne (t := 108) 46 rfl (by decide) (by first | exact hA _ _ | exact ⟨by decide, by decide⟩ | assumption | exact ⟨by omega, by omega⟩) (by first | exact hA _ _ | exact ⟨by decide, by decide⟩ | assumption | exact ⟨by omega, by omega⟩) (fun c_84 => ?_) (fun c_84 => by omega)
        refine r_aload_n 59 rfl rfl ?_
        refine r_dup 60 rfl rfl ?_
        refine r_get 61 rfl f_T_103 (hp_at rfl) rfl ?_
        refine r_iconst 62 rfl ?_
        refine r_iadd 63 rfl ?_
        refine r_put 64 rfl f_T_103 (hp_at rfl) rfl rfl ?_
        rw [wT_2]
        refine r_aload_n 65 rfl rfl ?_
        refine r_iload 66 rfl rfl ?_
        refine r_iload 67 rfl rfl ?_
        refine r_iconst 68 rfl ?_
        refine r_icmp_ne (t := 134) 69 rfl (by decide) (by first | exact hA _ _ | exact ⟨by decide, by decide⟩ | assumption | exact ⟨by omega, by omega⟩) (by first | exact hA _ _ | exact ⟨by decide, by decide⟩ | assumption | exact ⟨by omega, by omega⟩) (fun c_124 => ?_) (fun c_124 => by omega)
        refine r_iconst 74 rfl ?_
        refine r_callv2 75 rfl l_T_142 (hp_at rfl) (Nat.le_of_ble_eq_true rfl) ?_
        refine c_T_fresh (rga_au hA ⟨by omega, by omega⟩) ⟨by decide, by decide⟩ ⟨by decide, by decide⟩ (by rw [au_ni _ _ _ (by decide)]; omega) (by rw [au_ni _ _ _ (by decide)]; omega) (cp1 ?_)
        rw [au_ni _ _ _ (by decide)]
        refine r_istore 76 rfl (Nat.le_of_ble_eq_true rfl) ?_
        refine hang 5 0 ?_
        refine r_iload 101 rfl rfl ?_
        refine r_iconst 102 rfl ?_
        refine r_icmp_ne (t := 209) 103 rfl (by decide) (by first | exact hA _ _ | exact ⟨by decide, by decide⟩ | assumption | exact ⟨by omega, by omega⟩) (by first | exact hA _ _ | exact ⟨by decide, by decide⟩ | assumption | exact ⟨by omega, by omega⟩) (fun c_183 => ?_) (fun c_183 => by omega)
        refine r_iload 116 rfl rfl ?_
        refine r_iconst 117 rfl ?_
        refine r_icmp_ne (t := 280) 118 rfl (by decide) (by first | exact hA _ _ | exact ⟨by decide, by decide⟩ | assumption | exact ⟨by omega, by omega⟩) (by first | exact hA _ _ | exact ⟨by decide, by decide⟩ | assumption | exact ⟨by omega, by omega⟩) (fun c_212 => by omega) (fun c_212 => ?_)
        refine r_iload_n 119 rfl rfl ?_
        refine r_if_eq (t := 280) 120 rfl (by decide) (by first | exact hA _ _ | exact ⟨by decide, by decide⟩ | assumption | exact ⟨by omega, by omega⟩) (fun c_216 => ?_) (fun c_216 => by omega)
        refine r_iload 152 rfl rfl ?_
        refine r_iconst 153 rfl ?_
        refine r_icmp_ne (t := 348) 154 rfl (by decide) (by first | exact hA _ _ | exact ⟨by decide, by decide⟩ | assumption | exact ⟨by omega, by omega⟩) (by first | exact hA _ _ | exact ⟨by decide, by decide⟩ | assumption | exact ⟨by omega, by omega⟩) (fun c_283 => by omega) (fun c_283 => ?_)
        refine r_aload_n 155 rfl rfl ?_
        refine r_bipush 156 rfl rfl ?_
        refine r_callv1 157 rfl l_T_131 (hp_at rfl) (Nat.le_of_ble_eq_true rfl) ?_
        refine c_T_must hB1 ⟨by decide, by decide⟩ (cp0 ?_)
        rw [show muF (bg1 A 5 0) 62 = bgg1 A from rfl]
        refine r_aload_n 158 rfl rfl ?_
        refine r_callv0 159 rfl l_T_109 (hp_at rfl) (Nat.le_of_ble_eq_true rfl) ?_
        refine c_T_here hB2.1 hB2.2.1.1 (by have := hB2.2.2.1; omega) (cp1 ?_)
        refine r_iload_n 160 rfl rfl ?_
        refine r_icmp_ne (t := 304) 161 rfl (by decide) (by first | exact hA _ _ | exact ⟨by decide, by decide⟩ | assumption | exact ⟨by omega, by omega⟩) (by first | exact hA _ _ | exact ⟨by decide, by decide⟩ | assumption | exact ⟨by omega, by omega⟩) (fun c_297 => ?_) (fun c_297 => by omega)
        refine r_aload_n 164 rfl rfl ?_
        refine r_bipush 165 rfl rfl ?_
        refine r_iconst 166 rfl ?_
        refine r_callv2 167 rfl l_T_127 (hp_at rfl) (Nat.le_of_ble_eq_true rfl) ?_
        refine c_T_one hB2 ⟨by decide, by decide⟩ ⟨by decide, by decide⟩ (cp1 ?_)
        refine r_istore 168 rfl (Nat.le_of_ble_eq_true rfl) ?_
        refine r_iload 169 rfl rfl ?_
        refine r_if_ge (t := 326) 170 rfl (by decide) (by first | exact hA _ _ | exact ⟨by decide, by decide⟩ | assumption | exact ⟨by omega, by omega⟩) (fun c_315 => ?_) (fun c_315 => by omega)
        exact gtail _ _ (if_neg hc) (if_neg hc)
    · -- local
      have hB1b : tB (au (bg1 A 5 0) 106 (A 100 4) (tHere A - 97)) := tB_au hB1 ⟨by omega, by omega⟩ (by decide) (by decide)
      have hB2 : tB (bgc1 A (tHere A)) := by unfold bgc1; exact tB_au hB1b (by split <;> exact ⟨by decide, by decide⟩) (by decide) (by decide)
      have hB3 : tB (muF (bgc1 A (tHere A)) (if tHere (bgc1 A (tHere A)) = 33 then 33 else 63)) := tB_mu hB2 (by split <;> decide)
      have hB4 := tB_mu hB3 (c := 123) (by decide)
      have e14 : muF (muF (bgc1 A (tHere A)) (if tHere (bgc1 A (tHere A)) = 33 then 33 else 63)) 123 100 14 = A 100 14 := by
        rw [mu_sc _ _ (by decide) (by decide), mu_sc _ _ (by decide) (by decide)]
        unfold bgc1
        rw [au_ne _ _ _ _ (by decide), au_ne _ _ _ _ (by decide), bg1_sc _ _ _ (by decide) (by decide)]
      have hBo : tB (opn (muF (muF (bgc1 A (tHere A)) (if tHere (bgc1 A (tHere A)) = 33 then 33 else 63)) 123) (A 100 4)) := by
        unfold opn
        exact tB_sc (tB_au (tB_au hB4 (hA _ _) (by decide) (by decide)) rg_0 (by decide) (by decide)) (by rw [e14]; exact ⟨by omega, by omega⟩) (by decide) (by decide)
      have tail := fin 5 0 none _ (Or.inr rfl) hB4.1 (by rw [e14]; omega) (by rw [e14]; omega) (fun _ => ⟨by omega, by omega, hBo⟩) (fun v h => by cases h) (by rw [if_pos rfl]; exact hmsgL e30 ca.1 ca.2 rfl)
      have th1 : rg (tHere (au (bg1 A 5 0) 106 (A 100 4) (tHere A - 97))) := rg_tHere hB1b.1
      have th2 : rg (tHere (bgc1 A (tHere A))) := rg_tHere hB2.1
      have same : tHere (bgc1 A (tHere A)) = tHere (au (bg1 A 5 0) 106 (A 100 4) (tHere A - 97)) := by unfold bgc1 tHere; simp +decide only [au_ne]
      by_cases hc : tHere (au (bg1 A 5 0) 106 (A 100 4) (tHere A - 97)) = 33
      · have e1 : bgc1 A (tHere A) = au (au (bg1 A 5 0) 106 (A 100 4) (tHere A - 97)) 105 (A 100 4) 3 := by unfold bgc1; rw [if_pos hc]
        rw [if_pos (by rw [same]; exact hc)] at tail hB3
        refine r_istore_n 2 rfl (Nat.le_of_ble_eq_true rfl) ?_
        refine r_aload_n 3 rfl rfl ?_
        refine r_get 4 rfl f_T_121 (hp_at rfl) rfl ?_
        refine r_iload_n 5 rfl rfl ?_
        refine r_isub 6 rfl ?_
        refine r_bipush 7 rfl rfl ?_
        refine r_icmp_ne (t := 26) 8 rfl (by decide) (by first | exact hA _ _ | exact ⟨by decide, by decide⟩ | assumption | exact ⟨by omega, by omega⟩) (by first | exact hA _ _ | exact ⟨by decide, by decide⟩ | assumption | exact ⟨by omega, by omega⟩) (fun c_13 => ?_) (fun c_13 => by omega)
        refine r_iload_n 15 rfl rfl ?_
        refine r_bipush 16 rfl rfl ?_
        refine r_icmp_ne (t := 36) 17 rfl (by decide) (by first | exact hA _ _ | exact ⟨by decide, by decide⟩ | assumption | exact ⟨by omega, by omega⟩) (by first | exact hA _ _ | exact ⟨by decide, by decide⟩ | assumption | exact ⟨by omega, by omega⟩) (fun c_29 => ?_) (fun c_29 => by omega)
        refine r_iload_n 20 rfl rfl ?_
        refine r_bipush 21 rfl rfl ?_
        refine r_icmp_ne (t := 46) 22 rfl (by decide) (by first | exact hA _ _ | exact ⟨by decide, by decide⟩ | assumption | exact ⟨by omega, by omega⟩) (by first | exact hA _ _ | exact ⟨by decide, by decide⟩ | assumption | exact ⟨by omega, by omega⟩) (fun c_39 => ?_) (fun c_39 => by omega)
        refine r_iload_n 25 rfl rfl ?_
        refine r_bipush 26 rfl rfl ?_
        refine r_isub 27 rfl ?_
        refine r_iconst 28 rfl ?_
        refine r_out_ne (tt := 61) 29 rfl l_T_117 rfl (by decide) (by first | exact hA _ _ | exact ⟨by decide, by decide⟩ | assumption | exact ⟨by omega, by omega⟩) (by first | exact hA _ _ | exact ⟨by decide, by decide⟩ | assumption | exact ⟨by omega, by omega⟩) (Nat.le_of_ble_eq_true rfl) (fun c_51 => ?_) (fun c_51 => by omega)
        refine r_iconst 33 rfl ?_
        refine r_istore 34 rfl (Nat.le_of_ble_eq_true rfl) ?_
        refine r_iload 35 rfl rfl ?_
        refine r_iconst 36 rfl ?_
        refine r_icmp_ne (t := 81) 37 rfl (by decide) (by first | exact hA _ _ | exact ⟨by decide, by decide⟩ | assumption | exact ⟨by omega, by omega⟩) (by first | exact hA _ _ | exact ⟨by decide, by decide⟩ | assumption | exact ⟨by omega, by omega⟩) (fun c_67 => by omega) (fun c_67 => ?_)
        refine r_iload_n 38 rfl rfl ?_
        refine r_bipush 39 rfl rfl ?_
        refine r_isub 40 rfl ?_
        refine r_iconst 41 rfl ?_
        refine r_out_ne (tt := 98) 42 rfl l_T_117 rfl (by decide) (by first | exact hA _ _ | exact ⟨by decide, by decide⟩ | assumption | exact ⟨by omega, by omega⟩) (by first | exact hA _ _ | exact ⟨by decide, by decide⟩ | assumption | exact ⟨by omega, by omega⟩) (Nat.le_of_ble_eq_true rfl) (fun c_75 => by omega) (fun c_75 => ?_)
        refine r_iload 44 rfl rfl ?_
        refine r_iconst 45 rfl ?_
        refine r_icmp_ne (t := 108) 46 rfl (by decide) (by first | exact hA _ _ | exact ⟨by decide, by decide⟩ | assumption | exact ⟨by omega, by omega⟩) (by first | exact hA _ _ | exact ⟨by decide, by decide⟩ | assumption | exact ⟨by omega, by omega⟩) (fun c_84 => ?_) (fun c_84 => by omega)
        refine r_aload_n 59 rfl rfl ?_
        refine r_dup 60 rfl rfl ?_
        refine r_get 61 rfl f_T_103 (hp_at rfl) rfl ?_
        refine r_iconst 62 rfl ?_
        refine r_iadd 63 rfl ?_
        refine r_put 64 rfl f_T_103 (hp_at rfl) rfl rfl ?_
        rw [wT_2]
        refine r_aload_n 65 rfl rfl ?_
        refine r_iload 66 rfl rfl ?_
        refine r_iload 67 rfl rfl ?_
        refine r_iconst 68 rfl ?_
        refine r_icmp_ne (t := 134) 69 rfl (by decide) (by first | exact hA _ _ | exact ⟨by decide, by decide⟩ | assumption | exact ⟨by omega, by omega⟩) (by first | exact hA _ _ | exact ⟨by decide, by decide⟩ | assumption | exact ⟨by omega, by omega⟩) (fun c_124 => ?_) (fun c_124 => by omega)
        refine r_iconst 74 rfl ?_
        refine r_callv2 75 rfl l_T_142 (hp_at rfl) (Nat.le_of_ble_eq_true rfl) ?_
        refine c_T_fresh (rga_au hA ⟨by omega, by omega⟩) ⟨by decide, by decide⟩ ⟨by decide, by decide⟩ (by rw [au_ni _ _ _ (by decide)]; omega) (by rw [au_ni _ _ _ (by decide)]; omega) (cp1 ?_)
        rw [au_ni _ _ _ (by decide)]
        refine r_istore 76 rfl (Nat.le_of_ble_eq_true rfl) ?_
        refine hang 5 0 ?_
        refine r_iload 101 rfl rfl ?_
        refine r_iconst 102 rfl ?_
        refine r_icmp_ne (t := 209) 103 rfl (by decide) (by first | exact hA _ _ | exact ⟨by decide, by decide⟩ | assumption | exact ⟨by omega, by omega⟩) (by first | exact hA _ _ | exact ⟨by decide, by decide⟩ | assumption | exact ⟨by omega, by omega⟩) (fun c_183 => ?_) (fun c_183 => by omega)
        refine r_iload 116 rfl rfl ?_
        refine r_iconst 117 rfl ?_
        refine r_icmp_ne (t := 280) 118 rfl (by decide) (by first | exact hA _ _ | exact ⟨by decide, by decide⟩ | assumption | exact ⟨by omega, by omega⟩) (by first | exact hA _ _ | exact ⟨by decide, by decide⟩ | assumption | exact ⟨by omega, by omega⟩) (fun c_212 => by omega) (fun c_212 => ?_)
        refine r_iload_n 119 rfl rfl ?_
        refine r_if_eq (t := 280) 120 rfl (by decide) (by first | exact hA _ _ | exact ⟨by decide, by decide⟩ | assumption | exact ⟨by omega, by omega⟩) (fun c_216 => by omega) (fun c_216 => ?_)
        refine r_aload_n 121 rfl rfl ?_
        refine r_get 122 rfl f_T_17 (hp_at rfl) rfl ?_
        refine r_iload 123 rfl rfl ?_
        refine r_iload_n 124 rfl rfl ?_
        refine r_bipush 125 rfl rfl ?_
        refine r_isub 126 rfl ?_
        refine r_iastore 127 rfl (hp_at rfl) (by decide) (by omega) (by omega) ?_
        rw [ws_106]
        refine r_aload_n 128 rfl rfl ?_
        refine r_get 129 rfl f_T_13 (hp_at rfl) rfl ?_
        refine r_iload 130 rfl rfl ?_
        refine r_aload_n 131 rfl rfl ?_
        refine r_callv0 132 rfl l_T_109 (hp_at rfl) (Nat.le_of_ble_eq_true rfl) ?_
        refine c_T_here hB1b.1 hB1b.2.1.1 (by have := hB1b.2.2.1; omega) (cp1 ?_)
        refine r_bipush 133 rfl rfl ?_
        refine r_icmp_ne (t := 249) 134 rfl (by decide) (by first | exact hA _ _ | exact ⟨by decide, by decide⟩ | assumption | exact ⟨by omega, by omega⟩) (by first | exact hA _ _ | exact ⟨by decide, by decide⟩ | assumption | exact ⟨by omega, by omega⟩) (fun c_242 => by omega) (fun c_242 => ?_)
        refine r_iconst 135 rfl ?_
        refine r_goto (t := 250) 136 rfl (by decide) ?_
        refine r_iastore 138 rfl (hp_at rfl) (by decide) (by omega) (by omega) ?_
        rw [ws_105, ← e1]
        refine r_aload_n 139 rfl rfl ?_
        refine r_aload_n 140 rfl rfl ?_
        refine r_callv0 141 rfl l_T_109 (hp_at rfl) (Nat.le_of_ble_eq_true rfl) ?_
        refine c_T_here hB2.1 hB2.2.1.1 (by have := hB2.2.2.1; omega) (cp1 ?_)
        refine r_bipush 142 rfl rfl ?_
        refine r_icmp_ne (t := 266) 143 rfl (by decide) (by first | exact hA _ _ | exact ⟨by decide, by decide⟩ | assumption | exact ⟨by omega, by omega⟩) (by first | exact hA _ _ | exact ⟨by decide, by decide⟩ | assumption | exact ⟨by omega, by omega⟩) (fun c_258 => by omega) (fun c_258 => ?_)
        refine r_bipush 144 rfl rfl ?_
        refine r_goto (t := 268) 145 rfl (by decide) ?_
        refine r_callv1 147 rfl l_T_131 (hp_at rfl) (Nat.le_of_ble_eq_true rfl) ?_
        refine c_T_must hB2 ⟨by decide, by decide⟩ (cp0 ?_)
        refine r_aload_n 148 rfl rfl ?_
        refine r_bipush 149 rfl rfl ?_
        refine r_callv1 150 rfl l_T_131 (hp_at rfl) (Nat.le_of_ble_eq_true rfl) ?_
        refine c_T_must hB3 ⟨by decide, by decide⟩ (cp0 ?_)
        refine r_goto (t := 348) 151 rfl (by decide) ?_
        exact tail
      · have e1 : bgc1 A (tHere A) = au (au (bg1 A 5 0) 106 (A 100 4) (tHere A - 97)) 105 (A 100 4) 4 := by unfold bgc1; rw [if_neg hc]
        rw [if_neg (by rw [same]; exact hc)] at tail hB3
        refine r_istore_n 2 rfl (Nat.le_of_ble_eq_true rfl) ?_
        refine r_aload_n 3 rfl rfl ?_
        refine r_get 4 rfl f_T_121 (hp_at rfl) rfl ?_
        refine r_iload_n 5 rfl rfl ?_
        refine r_isub 6 rfl ?_
        refine r_bipush 7 rfl rfl ?_
        refine r_icmp_ne (t := 26) 8 rfl (by decide) (by first | exact hA _ _ | exact ⟨by decide, by decide⟩ | assumption | exact ⟨by omega, by omega⟩) (by first | exact hA _ _ | exact ⟨by decide, by decide⟩ | assumption | exact ⟨by omega, by omega⟩) (fun c_13 => ?_) (fun c_13 => by omega)
        refine r_iload_n 15 rfl rfl ?_
        refine r_bipush 16 rfl rfl ?_
        refine r_icmp_ne (t := 36) 17 rfl (by decide) (by first | exact hA _ _ | exact ⟨by decide, by decide⟩ | assumption | exact ⟨by omega, by omega⟩) (by first | exact hA _ _ | exact ⟨by decide, by decide⟩ | assumption | exact ⟨by omega, by omega⟩) (fun c_29 => ?_) (fun c_29 => by omega)
        refine r_iload_n 20 rfl rfl ?_
        refine r_bipush 21 rfl rfl ?_
        refine r_icmp_ne (t := 46) 22 rfl (by decide) (by first | exact hA _ _ | exact ⟨by decide, by decide⟩ | assumption | exact ⟨by omega, by omega⟩) (by first | exact hA _ _ | exact ⟨by decide, by decide⟩ | assumption | exact ⟨by omega, by omega⟩) (fun c_39 => ?_) (fun c_39 => by omega)
        refine r_iload_n 25 rfl rfl ?_
        refine r_bipush 26 rfl rfl ?_
        refine r_isub 27 rfl ?_
        refine r_iconst 28 rfl ?_
        refine r_out_ne (tt := 61) 29 rfl l_T_117 rfl (by decide) (by first | exact hA _ _ | exact ⟨by decide, by decide⟩ | assumption | exact ⟨by omega, by omega⟩) (by first | exact hA _ _ | exact ⟨by decide, by decide⟩ | assumption | exact ⟨by omega, by omega⟩) (Nat.le_of_ble_eq_true rfl) (fun c_51 => ?_) (fun c_51 => by omega)
        refine r_iconst 33 rfl ?_
        refine r_istore 34 rfl (Nat.le_of_ble_eq_true rfl) ?_
        refine r_iload 35 rfl rfl ?_
        refine r_iconst 36 rfl ?_
        refine r_icmp_ne (t := 81) 37 rfl (by decide) (by first | exact hA _ _ | exact ⟨by decide, by decide⟩ | assumption | exact ⟨by omega, by omega⟩) (by first | exact hA _ _ | exact ⟨by decide, by decide⟩ | assumption | exact ⟨by omega, by omega⟩) (fun c_67 => by omega) (fun c_67 => ?_)
        refine r_iload_n 38 rfl rfl ?_
        refine r_bipush 39 rfl rfl ?_
        refine r_isub 40 rfl ?_
        refine r_iconst 41 rfl ?_
        refine r_out_ne (tt := 98) 42 rfl l_T_117 rfl (by decide) (by first | exact hA _ _ | exact ⟨by decide, by decide⟩ | assumption | exact ⟨by omega, by omega⟩) (by first | exact hA _ _ | exact ⟨by decide, by decide⟩ | assumption | exact ⟨by omega, by omega⟩) (Nat.le_of_ble_eq_true rfl) (fun c_75 => by omega) (fun c_75 => ?_)
        refine r_iload 44 rfl rfl ?_
        refine r_iconst 45 rfl ?_
        refine r_icmp_ne (t := 108) 46 rfl (by decide) (by first | exact hA _ _ | exact ⟨by decide, by decide⟩ | assumption | exact ⟨by omega, by omega⟩) (by first | exact hA _ _ | exact ⟨by decide, by decide⟩ | assumption | exact ⟨by omega, by omega⟩) (fun c_84 => ?_) (fun c_84 => by omega)
        refine r_aload_n 59 rfl rfl ?_
        refine r_dup 60 rfl rfl ?_
        refine r_get 61 rfl f_T_103 (hp_at rfl) rfl ?_
        refine r_iconst 62 rfl ?_
        refine r_iadd 63 rfl ?_
        refine r_put 64 rfl f_T_103 (hp_at rfl) rfl rfl ?_
        rw [wT_2]
        refine r_aload_n 65 rfl rfl ?_
        refine r_iload 66 rfl rfl ?_
        refine r_iload 67 rfl rfl ?_
        refine r_iconst 68 rfl ?_
        refine r_icmp_ne (t := 134) 69 rfl (by decide) (by first | exact hA _ _ | exact ⟨by decide, by decide⟩ | assumption | exact ⟨by omega, by omega⟩) (by first | exact hA _ _ | exact ⟨by decide, by decide⟩ | assumption | exact ⟨by omega, by omega⟩) (fun c_124 => ?_) (fun c_124 => by omega)
        refine r_iconst 74 rfl ?_
        refine r_callv2 75 rfl l_T_142 (hp_at rfl) (Nat.le_of_ble_eq_true rfl) ?_
        refine c_T_fresh (rga_au hA ⟨by omega, by omega⟩) ⟨by decide, by decide⟩ ⟨by decide, by decide⟩ (by rw [au_ni _ _ _ (by decide)]; omega) (by rw [au_ni _ _ _ (by decide)]; omega) (cp1 ?_)
        rw [au_ni _ _ _ (by decide)]
        refine r_istore 76 rfl (Nat.le_of_ble_eq_true rfl) ?_
        refine hang 5 0 ?_
        refine r_iload 101 rfl rfl ?_
        refine r_iconst 102 rfl ?_
        refine r_icmp_ne (t := 209) 103 rfl (by decide) (by first | exact hA _ _ | exact ⟨by decide, by decide⟩ | assumption | exact ⟨by omega, by omega⟩) (by first | exact hA _ _ | exact ⟨by decide, by decide⟩ | assumption | exact ⟨by omega, by omega⟩) (fun c_183 => ?_) (fun c_183 => by omega)
        refine r_iload 116 rfl rfl ?_
        refine r_iconst 117 rfl ?_
        refine r_icmp_ne (t := 280) 118 rfl (by decide) (by first | exact hA _ _ | exact ⟨by decide, by decide⟩ | assumption | exact ⟨by omega, by omega⟩) (by first | exact hA _ _ | exact ⟨by decide, by decide⟩ | assumption | exact ⟨by omega, by omega⟩) (fun c_212 => by omega) (fun c_212 => ?_)
        refine r_iload_n 119 rfl rfl ?_
        refine r_if_eq (t := 280) 120 rfl (by decide) (by first | exact hA _ _ | exact ⟨by decide, by decide⟩ | assumption | exact ⟨by omega, by omega⟩) (fun c_216 => by omega) (fun c_216 => ?_)
        refine r_aload_n 121 rfl rfl ?_
        refine r_get 122 rfl f_T_17 (hp_at rfl) rfl ?_
        refine r_iload 123 rfl rfl ?_
        refine r_iload_n 124 rfl rfl ?_
        refine r_bipush 125 rfl rfl ?_
        refine r_isub 126 rfl ?_
        refine r_iastore 127 rfl (hp_at rfl) (by decide) (by omega) (by omega) ?_
        rw [ws_106]
        refine r_aload_n 128 rfl rfl ?_
        refine r_get 129 rfl f_T_13 (hp_at rfl) rfl ?_
        refine r_iload 130 rfl rfl ?_
        refine r_aload_n 131 rfl rfl ?_
        refine r_callv0 132 rfl l_T_109 (hp_at rfl) (Nat.le_of_ble_eq_true rfl) ?_
        refine c_T_here hB1b.1 hB1b.2.1.1 (by have := hB1b.2.2.1; omega) (cp1 ?_)
        refine r_bipush 133 rfl rfl ?_
        refine r_icmp_ne (t := 249) 134 rfl (by decide) (by first | exact hA _ _ | exact ⟨by decide, by decide⟩ | assumption | exact ⟨by omega, by omega⟩) (by first | exact hA _ _ | exact ⟨by decide, by decide⟩ | assumption | exact ⟨by omega, by omega⟩) (fun c_242 => ?_) (fun c_242 => by omega)
        refine r_iconst 137 rfl ?_
        refine r_iastore 138 rfl (hp_at rfl) (by decide) (by omega) (by omega) ?_
        rw [ws_105, ← e1]
        refine r_aload_n 139 rfl rfl ?_
        refine r_aload_n 140 rfl rfl ?_
        refine r_callv0 141 rfl l_T_109 (hp_at rfl) (Nat.le_of_ble_eq_true rfl) ?_
        refine c_T_here hB2.1 hB2.2.1.1 (by have := hB2.2.2.1; omega) (cp1 ?_)
        refine r_bipush 142 rfl rfl ?_
        refine r_icmp_ne (t := 266) 143 rfl (by decide) (by first | exact hA _ _ | exact ⟨by decide, by decide⟩ | assumption | exact ⟨by omega, by omega⟩) (by first | exact hA _ _ | exact ⟨by decide, by decide⟩ | assumption | exact ⟨by omega, by omega⟩) (fun c_258 => ?_) (fun c_258 => by omega)
        refine r_bipush 146 rfl rfl ?_
        refine r_callv1 147 rfl l_T_131 (hp_at rfl) (Nat.le_of_ble_eq_true rfl) ?_
        refine c_T_must hB2 ⟨by decide, by decide⟩ (cp0 ?_)
        refine r_aload_n 148 rfl rfl ?_
        refine r_bipush 149 rfl rfl ?_
        refine r_callv1 150 rfl l_T_131 (hp_at rfl) (Nat.le_of_ble_eq_true rfl) ?_
        refine c_T_must hB3 ⟨by decide, by decide⟩ (cp0 ?_)
        refine r_goto (t := 348) 151 rfl (by decide) ?_
        exact tail
  · refine r_istore_n 2 rfl (Nat.le_of_ble_eq_true rfl) ?_
    refine r_aload_n 3 rfl rfl ?_
    refine r_get 4 rfl f_T_121 (hp_at rfl) rfl ?_
    refine r_iload_n 5 rfl rfl ?_
    refine r_isub 6 rfl ?_
    refine r_bipush 7 rfl rfl ?_
    refine r_icmp_ne (t := 26) 8 rfl (by decide) (by first | exact hA _ _ | exact ⟨by decide, by decide⟩ | assumption | exact ⟨by omega, by omega⟩) (by first | exact hA _ _ | exact ⟨by decide, by decide⟩ | assumption | exact ⟨by omega, by omega⟩) (fun c_13 => ?_) (fun c_13 => by omega)
    refine r_iload_n 15 rfl rfl ?_
    refine r_bipush 16 rfl rfl ?_
    refine r_icmp_ne (t := 36) 17 rfl (by decide) (by first | exact hA _ _ | exact ⟨by decide, by decide⟩ | assumption | exact ⟨by omega, by omega⟩) (by first | exact hA _ _ | exact ⟨by decide, by decide⟩ | assumption | exact ⟨by omega, by omega⟩) (fun c_29 => ?_) (fun c_29 => by omega)
    refine r_iload_n 20 rfl rfl ?_
    refine r_bipush 21 rfl rfl ?_
    refine r_icmp_ne (t := 46) 22 rfl (by decide) (by first | exact hA _ _ | exact ⟨by decide, by decide⟩ | assumption | exact ⟨by omega, by omega⟩) (by first | exact hA _ _ | exact ⟨by decide, by decide⟩ | assumption | exact ⟨by omega, by omega⟩) (fun c_39 => ?_) (fun c_39 => by omega)
    refine r_iload_n 25 rfl rfl ?_
    refine r_bipush 26 rfl rfl ?_
    refine r_isub 27 rfl ?_
    refine r_iconst 28 rfl ?_
    refine r_out_ne (tt := 61) 29 rfl l_T_117 rfl (by decide) (by first | exact hA _ _ | exact ⟨by decide, by decide⟩ | assumption | exact ⟨by omega, by omega⟩) (by first | exact hA _ _ | exact ⟨by decide, by decide⟩ | assumption | exact ⟨by omega, by omega⟩) (Nat.le_of_ble_eq_true rfl) (fun c_51 => ?_) (fun c_51 => by omega)
    refine r_iconst 33 rfl ?_
    refine r_istore 34 rfl (Nat.le_of_ble_eq_true rfl) ?_
    refine r_iload 35 rfl rfl ?_
    refine r_iconst 36 rfl ?_
    refine r_icmp_ne (t := 81) 37 rfl (by decide) (by first | exact hA _ _ | exact ⟨by decide, by decide⟩ | assumption | exact ⟨by omega, by omega⟩) (by first | exact hA _ _ | exact ⟨by decide, by decide⟩ | assumption | exact ⟨by omega, by omega⟩) (fun c_67 => by omega) (fun c_67 => ?_)
    refine r_iload_n 38 rfl rfl ?_
    refine r_bipush 39 rfl rfl ?_
    refine r_isub 40 rfl ?_
    refine r_iconst 41 rfl ?_
    refine r_out_ne (tt := 98) 42 rfl l_T_117 rfl (by decide) (by first | exact hA _ _ | exact ⟨by decide, by decide⟩ | assumption | exact ⟨by omega, by omega⟩) (by first | exact hA _ _ | exact ⟨by decide, by decide⟩ | assumption | exact ⟨by omega, by omega⟩) (Nat.le_of_ble_eq_true rfl) (fun c_75 => ?_) (fun c_75 => by omega)
    refine r_aload_n 53 rfl rfl ?_
    refine r_aload_n 54 rfl rfl ?_
    refine r_get 55 rfl f_T_103 (hp_at rfl) rfl ?_
    refine r_callv1 56 rfl l_T_113 (hp_at rfl) (Nat.le_of_ble_eq_true rfl) ?_
    refine c_T_wrong hA (cp0 ?_)
    refine r_iconst 57 rfl ?_
    refine r_iret 58 rfl rfl (by first | rfl | assumption) ?_
    exact hbad e30 ce cm (by omega) (by omega)
end TW9


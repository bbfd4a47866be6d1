/-! the class: kind, label, guard, unguard, begin of the reader -/
theorem shr_i : ∀ z : Nat, z < 64 → ∀ c : Nat, c < 6 → Int32.ofInt z >>> (Int32.ofInt c &&& 31) = Int32.ofInt ((z / 2 ^ c : Nat) : Int) := by decide +kernel
theorem and_i : ∀ z : Nat, z < 64 → Int32.ofInt z &&& Int32.ofInt 1 = Int32.ofInt ((z % 2 : Nat) : Int) := by decide +kernel
theorem shl_i : ∀ c : Nat, c < 6 → Int32.ofInt 1 <<< (Int32.ofInt c &&& 31) = Int32.ofInt ((2 ^ c : Nat) : Int) := by decide +kernel
theorem or_i : ∀ z : Nat, z < 64 → ∀ y : Nat, y < 64 → Int32.ofInt z ||| Int32.ofInt y = Int32.ofInt ((z ||| y : Nat) : Int) := by decide +kernel
section XR69
variable {K : xk} {M : xm} {d : Nat} {Q : Outcome → xh → Prop} {A : Nat → Int → Int} {R : Nat → Int → Value} {g : Nat → Nat × List Value} {t u : Nat}
theorem r_bit (j : Nat) {pc : Nat} {L : List (Option Value)} {st : List Value} {h : xh} {z c : Nat} (hz : z < 64) (hc : c < 6) (hd : M.t[j]? = some (pc, .ishr, 1)) (hd1 : M.t[j + 1]? = some (pc + 1, .iconst 1, 1)) (hd2 : M.t[j + 2]? = some (pc + 2, .iand, 1)) (k : wx K M d Q (pc + 3) L (iv ((z / 2 ^ c % 2 : Nat) : Int) :: st) h) : wx K M d Q pc L (iv c :: iv z :: st) h := by
  refine r_ishr j _ hd (shr_i z hz c hc) ?_
  refine r_iconst (j + 1) hd1 ?_
  have h2 : z / 2 ^ c < 64 := Nat.lt_of_le_of_lt (Nat.div_le_self z (2 ^ c)) hz
  exact r_iand (j + 2) _ hd2 (and_i _ h2) k
/-- what begins here -/
def xKd (c : Int) : Int := if c = 101 then 0 else if 88 ≤ c ∧ c ≤ 90 then 1 else if c = 109 then 2 else if 97 ≤ c ∧ c ≤ 100 then 3 else -1
def xKt (A : Nat → Int → Int) : Nat → Int → Int := au A 1 3 (A 1 3 + 1)
theorem c_R_kind (hB : xB A) (k0 : 0 ≤ A 1 3) (k1 : A 1 3 ≤ 30) (hb : bud K t u 1)
    (ht : (xKd (xHere A) < 0 ∨ A 1 3 = 30 ∨ (xKd (xHere A) = 1 ∧ ¬ (0 < A 3 (xHere A - 88) ∧ A 4 (xHere A - 88) ≠ 0))) → Q (.threw t) (hp K.n A R (xt g t) (t + 1) (u + 6)))
    (hq : 0 ≤ xKd (xHere A) → A 1 3 ≠ 30 → (xKd (xHere A) = 1 → 0 < A 3 (xHere A - 88) ∧ A 4 (xHere A - 88) ≠ 0) → Q (.returned (some (iv (xKd (xHere A))))) (hp K.n (xKt A) R g t u)) : mx K M_Reader_kind (d + 6) [.ref (xa K.n 1)] (hp K.n A R g t u) Q := by
  have hr := rg_xHere hB
  have hA := hB.1
  obtain ⟨b0, b1, b2⟩ := hb
  have go : ∀ kd : Int, rg kd → xKd (xHere A) = kd → (kd = 1 → 88 ≤ xHere A ∧ xHere A ≤ 90) → wx K M_Reader_kind (d + 6) Q 58 [some (.ref (xa K.n 1)), some (iv (xHere A)), none] [iv kd] (hp K.n A R g t u) := by
    intro kd rk hk hv
    rw [hk] at ht hq
    by_cases c1 : kd < 0
    · have ht := ht (Or.inl c1)
      refine r_istore_n 30 rfl (Nat.le_of_ble_eq_true rfl) ?_
      refine r_iload_n 31 rfl rfl ?_
      refine r_if_lt (t := 88) 32 rfl (by decide) (by first | exact hA _ _ | exact ⟨by decide, by decide⟩ | assumption | exact ⟨by omega, by omega⟩) (fun c_60 => ?_) (fun c_60 => by omega)
      refine r_throwg 46 rfl rfl rfl rfl t_Reader_37 rfl (Nat.le_of_ble_eq_true rfl) (by omega) (by omega) (by omega) (by omega) ?_
      exact ht
    by_cases c2 : A 1 3 = 30
    · have ht := ht (Or.inr (Or.inl c2))
      refine r_istore_n 30 rfl (Nat.le_of_ble_eq_true rfl) ?_
      refine r_iload_n 31 rfl rfl ?_
      refine r_if_lt (t := 88) 32 rfl (by decide) (by first | exact hA _ _ | exact ⟨by decide, by decide⟩ | assumption | exact ⟨by omega, by omega⟩) (fun c_60 => by omega) (fun c_60 => ?_)
      refine r_aload_n 33 rfl rfl ?_
      refine r_get 34 rfl f_Reader_27 (hp_at rfl) rfl ?_
      refine r_bipush 35 rfl rfl ?_
      refine r_icmp_eq (t := 88) 36 rfl (by decide) (by first | exact hA _ _ | exact ⟨by decide, by decide⟩ | assumption | exact ⟨by omega, by omega⟩) (by first | exact hA _ _ | exact ⟨by decide, by decide⟩ | assumption | exact ⟨by omega, by omega⟩) (fun c_69 => ?_) (fun c_69 => by omega)
      refine r_throwg 46 rfl rfl rfl rfl t_Reader_37 rfl (Nat.le_of_ble_eq_true rfl) (by omega) (by omega) (by omega) (by omega) ?_
      exact ht
    by_cases c3 : kd = 1
    · have hv := hv c3
      by_cases c4 : 0 < A 3 (xHere A - 88) ∧ A 4 (xHere A - 88) ≠ 0
      · have hq := hq (by omega) c2 (fun _ => c4)
        refine r_istore_n 30 rfl (Nat.le_of_ble_eq_true rfl) ?_
        refine r_iload_n 31 rfl rfl ?_
        refine r_if_lt (t := 88) 32 rfl (by decide) (by first | exact hA _ _ | exact ⟨by decide, by decide⟩ | assumption | exact ⟨by omega, by omega⟩) (fun c_60 => by omega) (fun c_60 => ?_)
        refine r_aload_n 33 rfl rfl ?_
        refine r_get 34 rfl f_Reader_27 (hp_at rfl) rfl ?_
        refine r_bipush 35 rfl rfl ?_
        refine r_icmp_eq (t := 88) 36 rfl (by decide) (by first | exact hA _ _ | exact ⟨by decide, by decide⟩ | assumption | exact ⟨by omega, by omega⟩) (by first | exact hA _ _ | exact ⟨by decide, by decide⟩ | assumption | exact ⟨by omega, by omega⟩) (fun c_69 => by omega) (fun c_69 => ?_)
        refine r_iload_n 37 rfl rfl ?_
        refine r_iconst 38 rfl ?_
        refine r_icmp_ne (t := 96) 39 rfl (by decide) (by first | exact hA _ _ | exact ⟨by decide, by decide⟩ | assumption | exact ⟨by omega, by omega⟩) (by first | exact hA _ _ | exact ⟨by decide, by decide⟩ | assumption | exact ⟨by omega, by omega⟩) (fun c_74 => by omega) (fun c_74 => ?_)
        refine r_aload_n 40 rfl rfl ?_
        refine r_iload_n 41 rfl rfl ?_
        refine r_bipush 42 rfl rfl ?_
        refine r_isub 43 rfl ?_
        refine r_callv1 44 rfl l_Reader_44 (hp_at rfl) (Nat.le_of_ble_eq_true rfl) ?_
        refine c_R_stands hA (by omega) (by omega) (cp1 ?_)
        rw [if_pos c4]
        refine r_if_ne (t := 96) 45 rfl (by decide) (by first | exact hA _ _ | exact ⟨by decide, by decide⟩ | assumption | exact ⟨by omega, by omega⟩) (fun c_85 => ?_) (fun c_85 => by omega)
        refine r_aload_n 50 rfl rfl ?_
        refine r_dup 51 rfl rfl ?_
        refine r_get 52 rfl f_Reader_27 (hp_at rfl) rfl ?_
        refine r_iconst 53 rfl ?_
        refine r_iadd 54 rfl ?_
        refine r_put 55 rfl f_Reader_27 (hp_at rfl) rfl rfl ?_
        rw [wR_3]
        refine r_iload_n 56 rfl rfl ?_
        refine r_iret 57 rfl rfl rfl ?_
        exact hq
      · have ht := ht (Or.inr (Or.inr ⟨c3, c4⟩))
        refine r_istore_n 30 rfl (Nat.le_of_ble_eq_true rfl) ?_
        refine r_iload_n 31 rfl rfl ?_
        refine r_if_lt (t := 88) 32 rfl (by decide) (by first | exact hA _ _ | exact ⟨by decide, by decide⟩ | assumption | exact ⟨by omega, by omega⟩) (fun c_60 => by omega) (fun c_60 => ?_)
        refine r_aload_n 33 rfl rfl ?_
        refine r_get 34 rfl f_Reader_27 (hp_at rfl) rfl ?_
        refine r_bipush 35 rfl rfl ?_
        refine r_icmp_eq (t := 88) 36 rfl (by decide) (by first | exact hA _ _ | exact ⟨by decide, by decide⟩ | assumption | exact ⟨by omega, by omega⟩) (by first | exact hA _ _ | exact ⟨by decide, by decide⟩ | assumption | exact ⟨by omega, by omega⟩) (fun c_69 => by omega) (fun c_69 => ?_)
        refine r_iload_n 37 rfl rfl ?_
        refine r_iconst 38 rfl ?_
        refine r_icmp_ne (t := 96) 39 rfl (by decide) (by first | exact hA _ _ | exact ⟨by decide, by decide⟩ | assumption | exact ⟨by omega, by omega⟩) (by first | exact hA _ _ | exact ⟨by decide, by decide⟩ | assumption | exact ⟨by omega, by omega⟩) (fun c_74 => by omega) (fun c_74 => ?_)
        refine r_aload_n 40 rfl rfl ?_
        refine r_iload_n 41 rfl rfl ?_
        refine r_bipush 42 rfl rfl ?_
        refine r_isub 43 rfl ?_
        refine r_callv1 44 rfl l_Reader_44 (hp_at rfl) (Nat.le_of_ble_eq_true rfl) ?_
        refine c_R_stands hA (by omega) (by omega) (cp1 ?_)
        rw [if_neg c4]
        refine r_if_ne (t := 96) 45 rfl (by decide) (by first | exact hA _ _ | exact ⟨by decide, by decide⟩ | assumption | exact ⟨by omega, by omega⟩) (fun c_85 => by omega) (fun c_85 => ?_)
        refine r_throwg 46 rfl rfl rfl rfl t_Reader_37 rfl (Nat.le_of_ble_eq_true rfl) (by omega) (by omega) (by omega) (by omega) ?_
        exact ht
    · have hq := hq (by omega) c2 (fun h => absurd h c3)
      refine r_istore_n 30 rfl (Nat.le_of_ble_eq_true rfl) ?_
      refine r_iload_n 31 rfl rfl ?_
      refine r_if_lt (t := 88) 32 rfl (by decide) (by first | exact hA _ _ | exact ⟨by decide, by decide⟩ | assumption | exact ⟨by omega, by omega⟩) (fun c_60 => by omega) (fun c_60 => ?_)
      refine r_aload_n 33 rfl rfl ?_
      refine r_get 34 rfl f_Reader_27 (hp_at rfl) rfl ?_
      refine r_bipush 35 rfl rfl ?_
      refine r_icmp_eq (t := 88) 36 rfl (by decide) (by first | exact hA _ _ | exact ⟨by decide, by decide⟩ | assumption | exact ⟨by omega, by omega⟩) (by first | exact hA _ _ | exact ⟨by decide, by decide⟩ | assumption | exact ⟨by omega, by omega⟩) (fun c_69 => by omega) (fun c_69 => ?_)
      refine r_iload_n 37 rfl rfl ?_
      refine r_iconst 38 rfl ?_
      refine r_icmp_ne (t := 96) 39 rfl (by decide) (by first | exact hA _ _ | exact ⟨by decide, by decide⟩ | assumption | exact ⟨by omega, by omega⟩) (by first | exact hA _ _ | exact ⟨by decide, by decide⟩ | assumption | exact ⟨by omega, by omega⟩) (fun c_74 => ?_) (fun c_74 => by omega)
      refine r_aload_n 50 rfl rfl ?_
      refine r_dup 51 rfl rfl ?_
      refine r_get 52 rfl f_Reader_27 (hp_at rfl) rfl ?_
      refine r_iconst 53 rfl ?_
      refine r_iadd 54 rfl ?_
      refine r_put 55 rfl f_Reader_27 (hp_at rfl) rfl rfl ?_
      rw [wR_3]
      refine r_iload_n 56 rfl rfl ?_
      refine r_iret 57 rfl rfl rfl ?_
      exact hq
  refine mx_in ok_Reader_kind rfl (Nat.le_of_ble_eq_true rfl) ?_
  by_cases c1 : xHere A = 101
  · have n := go 0 rg_0 (by unfold xKd; rw [if_pos c1]) (fun h => by cases h)
    refine r_aload_n 0 rfl rfl ?_
    refine r_callv0 1 rfl l_Reader_33 (hp_at rfl) (Nat.le_of_ble_eq_true rfl) ?_
    refine c_R_here hB (cp1 ?_)
    refine r_istore_n 2 rfl (Nat.le_of_ble_eq_true rfl) ?_
    refine r_iload_n 3 rfl rfl ?_
    refine r_bipush 4 rfl rfl ?_
    refine r_icmp_ne (t := 15) 5 rfl (by decide) (by first | exact hA _ _ | exact ⟨by decide, by decide⟩ | assumption | exact ⟨by omega, by omega⟩) (by first | exact hA _ _ | exact ⟨by decide, by decide⟩ | assumption | exact ⟨by omega, by omega⟩) (fun c_8 => by omega) (fun c_8 => ?_)
    refine r_iconst 6 rfl ?_
    refine r_goto (t := 58) 7 rfl (by decide) ?_
    exact n
  by_cases c2 : 88 ≤ xHere A ∧ xHere A ≤ 90
  · have n := go 1 ⟨by decide, by decide⟩ (by unfold xKd; rw [if_neg c1, if_pos c2]) (fun _ => c2)
    refine r_aload_n 0 rfl rfl ?_
    refine r_callv0 1 rfl l_Reader_33 (hp_at rfl) (Nat.le_of_ble_eq_true rfl) ?_
    refine c_R_here hB (cp1 ?_)
    refine r_istore_n 2 rfl (Nat.le_of_ble_eq_true rfl) ?_
    refine r_iload_n 3 rfl rfl ?_
    refine r_bipush 4 rfl rfl ?_
    refine r_icmp_ne (t := 15) 5 rfl (by decide) (by first | exact hA _ _ | exact ⟨by decide, by decide⟩ | assumption | exact ⟨by omega, by omega⟩) (by first | exact hA _ _ | exact ⟨by decide, by decide⟩ | assumption | exact ⟨by omega, by omega⟩) (fun c_8 => ?_) (fun c_8 => by omega)
    refine r_iload_n 8 rfl rfl ?_
    refine r_bipush 9 rfl rfl ?_
    refine r_icmp_lt (t := 31) 10 rfl (by decide) (by first | exact hA _ _ | exact ⟨by decide, by decide⟩ | assumption | exact ⟨by omega, by omega⟩) (by first | exact hA _ _ | exact ⟨by decide, by decide⟩ | assumption | exact ⟨by omega, by omega⟩) (fun c_18 => by omega) (fun c_18 => ?_)
    refine r_iload_n 11 rfl rfl ?_
    refine r_bipush 12 rfl rfl ?_
    refine r_icmp_gt (t := 31) 13 rfl (by decide) (by first | exact hA _ _ | exact ⟨by decide, by decide⟩ | assumption | exact ⟨by omega, by omega⟩) (by first | exact hA _ _ | exact ⟨by decide, by decide⟩ | assumption | exact ⟨by omega, by omega⟩) (fun c_24 => by omega) (fun c_24 => ?_)
    refine r_iconst 14 rfl ?_
    refine r_goto (t := 58) 15 rfl (by decide) ?_
    exact n
  have n31 : wx K M_Reader_kind (d + 6) Q 31 [some (.ref (xa K.n 1)), some (iv (xHere A)), none] [] (hp K.n A R g t u) := by
    by_cases c3 : xHere A = 109
    · have n := go 2 ⟨by decide, by decide⟩ (by unfold xKd; rw [if_neg c1, if_neg c2, if_pos c3]) (fun h => by cases h)
      refine r_iload_n 16 rfl rfl ?_
      refine r_bipush 17 rfl rfl ?_
      refine r_icmp_ne (t := 41) 18 rfl (by decide) (by first | exact hA _ _ | exact ⟨by decide, by decide⟩ | assumption | exact ⟨by omega, by omega⟩) (by first | exact hA _ _ | exact ⟨by decide, by decide⟩ | assumption | exact ⟨by omega, by omega⟩) (fun c_34 => by omega) (fun c_34 => ?_)
      refine r_iconst 19 rfl ?_
      refine r_goto (t := 58) 20 rfl (by decide) ?_
      exact n
    by_cases c4 : 97 ≤ xHere A ∧ xHere A ≤ 100
    · have n := go 3 ⟨by decide, by decide⟩ (by unfold xKd; rw [if_neg c1, if_neg c2, if_neg c3, if_pos c4]) (fun h => by cases h)
      refine r_iload_n 16 rfl rfl ?_
      refine r_bipush 17 rfl rfl ?_
      refine r_icmp_ne (t := 41) 18 rfl (by decide) (by first | exact hA _ _ | exact ⟨by decide, by decide⟩ | assumption | exact ⟨by omega, by omega⟩) (by first | exact hA _ _ | exact ⟨by decide, by decide⟩ | assumption | exact ⟨by omega, by omega⟩) (fun c_34 => ?_) (fun c_34 => by omega)
      refine r_iload_n 21 rfl rfl ?_
      refine r_bipush 22 rfl rfl ?_
      refine r_icmp_lt (t := 57) 23 rfl (by decide) (by first | exact hA _ _ | exact ⟨by decide, by decide⟩ | assumption | exact ⟨by omega, by omega⟩) (by first | exact hA _ _ | exact ⟨by decide, by decide⟩ | assumption | exact ⟨by omega, by omega⟩) (fun c_44 => by omega) (fun c_44 => ?_)
      refine r_iload_n 24 rfl rfl ?_
      refine r_bipush 25 rfl rfl ?_
      refine r_icmp_gt (t := 57) 26 rfl (by decide) (by first | exact hA _ _ | exact ⟨by decide, by decide⟩ | assumption | exact ⟨by omega, by omega⟩) (by first | exact hA _ _ | exact ⟨by decide, by decide⟩ | assumption | exact ⟨by omega, by omega⟩) (fun c_50 => by omega) (fun c_50 => ?_)
      refine r_iconst 27 rfl ?_
      refine r_goto (t := 58) 28 rfl (by decide) ?_
      exact n
    have n := go (-1) ⟨by decide, by decide⟩ (by unfold xKd; rw [if_neg c1, if_neg c2, if_neg c3, if_neg c4]) (fun h => by cases h)
    by_cases c5 : xHere A < 97
    · refine r_iload_n 16 rfl rfl ?_
      refine r_bipush 17 rfl rfl ?_
      refine r_icmp_ne (t := 41) 18 rfl (by decide) (by first | exact hA _ _ | exact ⟨by decide, by decide⟩ | assumption | exact ⟨by omega, by omega⟩) (by first | exact hA _ _ | exact ⟨by decide, by decide⟩ | assumption | exact ⟨by omega, by omega⟩) (fun c_34 => ?_) (fun c_34 => by omega)
      refine r_iload_n 21 rfl rfl ?_
      refine r_bipush 22 rfl rfl ?_
      refine r_icmp_lt (t := 57) 23 rfl (by decide) (by first | exact hA _ _ | exact ⟨by decide, by decide⟩ | assumption | exact ⟨by omega, by omega⟩) (by first | exact hA _ _ | exact ⟨by decide, by decide⟩ | assumption | exact ⟨by omega, by omega⟩) (fun c_44 => ?_) (fun c_44 => by omega)
      refine r_iconst 29 rfl ?_
      exact n
    · refine r_iload_n 16 rfl rfl ?_
      refine r_bipush 17 rfl rfl ?_
      refine r_icmp_ne (t := 41) 18 rfl (by decide) (by first | exact hA _ _ | exact ⟨by decide, by decide⟩ | assumption | exact ⟨by omega, by omega⟩) (by first | exact hA _ _ | exact ⟨by decide, by decide⟩ | assumption | exact ⟨by omega, by omega⟩) (fun c_34 => ?_) (fun c_34 => by omega)
      refine r_iload_n 21 rfl rfl ?_
      refine r_bipush 22 rfl rfl ?_
      refine r_icmp_lt (t := 57) 23 rfl (by decide) (by first | exact hA _ _ | exact ⟨by decide, by decide⟩ | assumption | exact ⟨by omega, by omega⟩) (by first | exact hA _ _ | exact ⟨by decide, by decide⟩ | assumption | exact ⟨by omega, by omega⟩) (fun c_44 => by omega) (fun c_44 => ?_)
      refine r_iload_n 24 rfl rfl ?_
      refine r_bipush 25 rfl rfl ?_
      refine r_icmp_gt (t := 57) 26 rfl (by decide) (by first | exact hA _ _ | exact ⟨by decide, by decide⟩ | assumption | exact ⟨by omega, by omega⟩) (by first | exact hA _ _ | exact ⟨by decide, by decide⟩ | assumption | exact ⟨by omega, by omega⟩) (fun c_50 => ?_) (fun c_50 => by omega)
      refine r_iconst 29 rfl ?_
      exact n
  by_cases c5 : xHere A < 88
  · refine r_aload_n 0 rfl rfl ?_
    refine r_callv0 1 rfl l_Reader_33 (hp_at rfl) (Nat.le_of_ble_eq_true rfl) ?_
    refine c_R_here hB (cp1 ?_)
    refine r_istore_n 2 rfl (Nat.le_of_ble_eq_true rfl) ?_
    refine r_iload_n 3 rfl rfl ?_
    refine r_bipush 4 rfl rfl ?_
    refine r_icmp_ne (t := 15) 5 rfl (by decide) (by first | exact hA _ _ | exact ⟨by decide, by decide⟩ | assumption | exact ⟨by omega, by omega⟩) (by first | exact hA _ _ | exact ⟨by decide, by decide⟩ | assumption | exact ⟨by omega, by omega⟩) (fun c_8 => ?_) (fun c_8 => by omega)
    refine r_iload_n 8 rfl rfl ?_
    refine r_bipush 9 rfl rfl ?_
    refine r_icmp_lt (t := 31) 10 rfl (by decide) (by first | exact hA _ _ | exact ⟨by decide, by decide⟩ | assumption | exact ⟨by omega, by omega⟩) (by first | exact hA _ _ | exact ⟨by decide, by decide⟩ | assumption | exact ⟨by omega, by omega⟩) (fun c_18 => ?_) (fun c_18 => by omega)
    exact n31
  · refine r_aload_n 0 rfl rfl ?_
    refine r_callv0 1 rfl l_Reader_33 (hp_at rfl) (Nat.le_of_ble_eq_true rfl) ?_
    refine c_R_here hB (cp1 ?_)
    refine r_istore_n 2 rfl (Nat.le_of_ble_eq_true rfl) ?_
    refine r_iload_n 3 rfl rfl ?_
    refine r_bipush 4 rfl rfl ?_
    refine r_icmp_ne (t := 15) 5 rfl (by decide) (by first | exact hA _ _ | exact ⟨by decide, by decide⟩ | assumption | exact ⟨by omega, by omega⟩) (by first | exact hA _ _ | exact ⟨by decide, by decide⟩ | assumption | exact ⟨by omega, by omega⟩) (fun c_8 => ?_) (fun c_8 => by omega)
    refine r_iload_n 8 rfl rfl ?_
    refine r_bipush 9 rfl rfl ?_
    refine r_icmp_lt (t := 31) 10 rfl (by decide) (by first | exact hA _ _ | exact ⟨by decide, by decide⟩ | assumption | exact ⟨by omega, by omega⟩) (by first | exact hA _ _ | exact ⟨by decide, by decide⟩ | assumption | exact ⟨by omega, by omega⟩) (fun c_18 => by omega) (fun c_18 => ?_)
    refine r_iload_n 11 rfl rfl ?_
    refine r_bipush 12 rfl rfl ?_
    refine r_icmp_gt (t := 31) 13 rfl (by decide) (by first | exact hA _ _ | exact ⟨by decide, by decide⟩ | assumption | exact ⟨by omega, by omega⟩) (by first | exact hA _ _ | exact ⟨by decide, by decide⟩ | assumption | exact ⟨by omega, by omega⟩) (fun c_24 => ?_) (fun c_24 => by omega)
    exact n31
theorem c_R_label {z : Nat} (hB : xB A) (hz : z < 64) (hb : bud K t u 1)
    (ht : (xHere A < 102 ∨ 107 < xHere A ∨ z / 2 ^ (xHere A - 102).toNat % 2 = 1) → Q (.threw t) (hp K.n A R (xt g t) (t + 1) (u + 6)))
    (hq : 102 ≤ xHere A → xHere A ≤ 107 → z / 2 ^ (xHere A - 102).toNat % 2 = 0 → Q (.returned (some (iv (xHere A - 102)))) (hp K.n (xAdv A) R g t u)) : mx K M_Reader_label (d + 7) [.ref (xa K.n 1), iv z] (hp K.n A R g t u) Q := by
  have hr := rg_xHere hB
  have hx := xHere_rg hB
  have hr2 : rg (xHere A - 102) := ⟨by omega, by omega⟩
  have hA := hB.1
  have hb' := hb
  obtain ⟨b0, b1, b2⟩ := hb'
  have n35 : (xHere A < 102 ∨ 107 < xHere A ∨ z / 2 ^ (xHere A - 102).toNat % 2 = 0) → ∀ v2 : Int, wx K M_Reader_label (d + 7) Q 35 [some (.ref (xa K.n 1)), some (iv z), some (iv v2)] [] (hp K.n A R g t u) := by
    intro h v2
    refine r_aload_n 21 rfl rfl ?_
    refine r_bipush 22 rfl rfl ?_
    refine r_bipush 23 rfl rfl ?_
    refine r_callv2 24 rfl l_Reader_40 (hp_at rfl) (Nat.le_of_ble_eq_true rfl) ?_
    refine c_R_take hB ⟨by decide, by decide⟩ ⟨by decide, by decide⟩ hb (fun h => cpt rfl (ht (by omega))) (fun h1 h2 => cp1 ?_)
    refine r_iret 25 rfl rfl rfl ?_
    exact hq h1 h2 (by omega)
  refine mx_in ok_Reader_label rfl (Nat.le_of_ble_eq_true rfl) ?_
  by_cases c1 : xHere A - 102 < 0
  · have n := n35 (by omega) (xHere A - 102)
    refine r_aload_n 0 rfl rfl ?_
    refine r_callv0 1 rfl l_Reader_33 (hp_at rfl) (Nat.le_of_ble_eq_true rfl) ?_
    refine c_R_here hB (cp1 ?_)
    refine r_bipush 2 rfl rfl ?_
    refine r_isub 3 rfl ?_
    refine r_istore_n 4 rfl (Nat.le_of_ble_eq_true rfl) ?_
    refine r_iload_n 5 rfl rfl ?_
    refine r_if_lt (t := 35) 6 rfl (by decide) (by first | exact hA _ _ | exact ⟨by decide, by decide⟩ | assumption | exact ⟨by omega, by omega⟩) (fun c_9 => ?_) (fun c_9 => by omega)
    exact n
  by_cases c2 : 6 ≤ xHere A - 102
  · have n := n35 (by omega) (xHere A - 102)
    refine r_aload_n 0 rfl rfl ?_
    refine r_callv0 1 rfl l_Reader_33 (hp_at rfl) (Nat.le_of_ble_eq_true rfl) ?_
    refine c_R_here hB (cp1 ?_)
    refine r_bipush 2 rfl rfl ?_
    refine r_isub 3 rfl ?_
    refine r_istore_n 4 rfl (Nat.le_of_ble_eq_true rfl) ?_
    refine r_iload_n 5 rfl rfl ?_
    refine r_if_lt (t := 35) 6 rfl (by decide) (by first | exact hA _ _ | exact ⟨by decide, by decide⟩ | assumption | exact ⟨by omega, by omega⟩) (fun c_9 => by omega) (fun c_9 => ?_)
    refine r_iload_n 7 rfl rfl ?_
    refine r_bipush 8 rfl rfl ?_
    refine r_icmp_ge (t := 35) 9 rfl (by decide) (by first | exact hA _ _ | exact ⟨by decide, by decide⟩ | assumption | exact ⟨by omega, by omega⟩) (by first | exact hA _ _ | exact ⟨by decide, by decide⟩ | assumption | exact ⟨by omega, by omega⟩) (fun c_15 => ?_) (fun c_15 => by omega)
    exact n
  obtain ⟨c, hc⟩ : ∃ c : Nat, (c : Int) = xHere A - 102 := ⟨(xHere A - 102).toNat, by omega⟩
  have hc6 : c < 6 := by omega
  have ec : (xHere A - 102).toNat = c := by omega
  rw [ec] at ht hq n35
  by_cases c3 : z / 2 ^ c % 2 = 1
  · have ht := ht (Or.inr (Or.inr c3))
    refine r_aload_n 0 rfl rfl ?_
    refine r_callv0 1 rfl l_Reader_33 (hp_at rfl) (Nat.le_of_ble_eq_true rfl) ?_
    refine c_R_here hB (cp1 ?_)
    refine r_bipush 2 rfl rfl ?_
    refine r_isub 3 rfl ?_
    refine r_istore_n 4 rfl (Nat.le_of_ble_eq_true rfl) ?_
    rw [← hc]
    refine r_iload_n 5 rfl rfl ?_
    refine r_if_lt (t := 35) 6 rfl (by decide) (by first | exact hA _ _ | exact ⟨by decide, by decide⟩ | assumption | exact ⟨by omega, by omega⟩) (fun c_9 => by omega) (fun c_9 => ?_)
    refine r_iload_n 7 rfl rfl ?_
    refine r_bipush 8 rfl rfl ?_
    refine r_icmp_ge (t := 35) 9 rfl (by decide) (by first | exact hA _ _ | exact ⟨by decide, by decide⟩ | assumption | exact ⟨by omega, by omega⟩) (by first | exact hA _ _ | exact ⟨by decide, by decide⟩ | assumption | exact ⟨by omega, by omega⟩) (fun c_15 => by omega) (fun c_15 => ?_)
    refine r_iload_n 10 rfl rfl ?_
    refine r_iload_n 11 rfl rfl ?_
    refine r_bit 12 hz hc6 rfl rfl rfl ?_
    refine r_iconst 15 rfl ?_
    refine r_icmp_ne (t := 35) 16 rfl (by decide) (by first | exact hA _ _ | exact ⟨by decide, by decide⟩ | assumption | exact ⟨by omega, by omega⟩) (by first | exact hA _ _ | exact ⟨by decide, by decide⟩ | assumption | exact ⟨by omega, by omega⟩) (fun c_24 => by omega) (fun c_24 => ?_)
    refine r_throwg 17 rfl rfl rfl rfl t_Reader_37 rfl (Nat.le_of_ble_eq_true rfl) (by omega) (by omega) (by omega) (by omega) ?_
    exact ht
  · have n := n35 (Or.inr (Or.inr (by omega))) c
    refine r_aload_n 0 rfl rfl ?_
    refine r_callv0 1 rfl l_Reader_33 (hp_at rfl) (Nat.le_of_ble_eq_true rfl) ?_
    refine c_R_here hB (cp1 ?_)
    refine r_bipush 2 rfl rfl ?_
    refine r_isub 3 rfl ?_
    refine r_istore_n 4 rfl (Nat.le_of_ble_eq_true rfl) ?_
    rw [← hc]
    refine r_iload_n 5 rfl rfl ?_
    refine r_if_lt (t := 35) 6 rfl (by decide) (by first | exact hA _ _ | exact ⟨by decide, by decide⟩ | assumption | exact ⟨by omega, by omega⟩) (fun c_9 => by omega) (fun c_9 => ?_)
    refine r_iload_n 7 rfl rfl ?_
    refine r_bipush 8 rfl rfl ?_
    refine r_icmp_ge (t := 35) 9 rfl (by decide) (by first | exact hA _ _ | exact ⟨by decide, by decide⟩ | assumption | exact ⟨by omega, by omega⟩) (by first | exact hA _ _ | exact ⟨by decide, by decide⟩ | assumption | exact ⟨by omega, by omega⟩) (fun c_15 => by omega) (fun c_15 => ?_)
    refine r_iload_n 10 rfl rfl ?_
    refine r_iload_n 11 rfl rfl ?_
    refine r_bit 12 hz hc6 rfl rfl rfl ?_
    refine r_iconst 15 rfl ?_
    refine r_icmp_ne (t := 35) 16 rfl (by decide) (by first | exact hA _ _ | exact ⟨by decide, by decide⟩ | assumption | exact ⟨by omega, by omega⟩) (by first | exact hA _ _ | exact ⟨by decide, by decide⟩ | assumption | exact ⟨by omega, by omega⟩) (fun c_24 => ?_) (fun c_24 => by omega)
    exact n
theorem c_R_guard (hA : rga A) (h4 : ∀ v, 0 ≤ v → v < 3 → A 4 v = 0 ∨ A 4 v = 1) (hq : ∀ w : Nat, w < 8 → (w : Int) = A 4 0 + 2 * A 4 1 + 4 * A 4 2 → Q (.returned (some (iv w))) (hp K.n (au (au (au A 4 0 1) 4 1 1) 4 2 1) R g t u)) : mx K M_Reader_guard d [.ref (xa K.n 1)] (hp K.n A R g t u) Q := by
  have step : ∀ (i : Nat) (z : Nat) (B : Nat → Int → Int), i < 3 → z < 2 ^ i → rga B → (B 4 i = 0 ∨ B 4 i = 1) → (∀ z' : Nat, (z' : Int) = z + 2 ^ i * B 4 i → z' < 2 ^ (i + 1) → wx K M_Reader_guard d Q 4 [some (.ref (xa K.n 1)), some (iv z'), some (iv ((i : Int) + 1))] [] (hp K.n (au B 4 i 1) R g t u)) → wx K M_Reader_guard d Q 4 [some (.ref (xa K.n 1)), some (iv z), some (iv i)] [] (hp K.n B R g t u) := by
    intro i z B hi hz hA hb k
    have hi3 : i = 0 ∨ i = 1 ∨ i = 2 := by omega
    have hz8 : z < 8 := Nat.lt_of_lt_of_le hz (by rcases hi3 with rfl | rfl | rfl <;> decide)
    rcases hb with e | e
    · have k := k z (by rw [e]; omega) (by rw [Nat.pow_succ]; omega)
      refine r_iload_n 4 rfl rfl ?_
      refine r_iconst 5 rfl ?_
      refine r_icmp_ge (t := 41) 6 rfl (by decide) (by first | exact hA _ _ | exact ⟨by decide, by decide⟩ | assumption | exact ⟨by omega, by omega⟩) (by first | exact hA _ _ | exact ⟨by decide, by decide⟩ | assumption | exact ⟨by omega, by omega⟩) (fun c_6 => by omega) (fun c_6 => ?_)
      refine r_iload_n 7 rfl rfl ?_
      refine r_aload_n 8 rfl rfl ?_
      refine r_get 9 rfl f_Reader_19 (hp_at rfl) rfl ?_
      refine r_iload_n 10 rfl rfl ?_
      refine r_baload 11 rfl (hp_at rfl) (by decide) (by omega) (by omega) ?_
      refine r_if_eq (t := 25) 12 rfl (by decide) (by first | exact hA _ _ | exact ⟨by decide, by decide⟩ | assumption | exact ⟨by omega, by omega⟩) (fun c_16 => ?_) (fun c_16 => by omega)
      refine r_iconst 17 rfl ?_
      refine r_ior 18 _ rfl (or_i z (by omega) 0 (by decide)) ?_
      rw [Nat.or_zero]
      refine r_istore_n 19 rfl (Nat.le_of_ble_eq_true rfl) ?_
      refine r_aload_n 20 rfl rfl ?_
      refine r_get 21 rfl f_Reader_19 (hp_at rfl) rfl ?_
      refine r_iload_n 22 rfl rfl ?_
      refine r_iconst 23 rfl ?_
      refine r_bastore 24 rfl (hp_at rfl) (by decide) (by omega) (by omega) rfl ?_
      rw [ws_4]
      refine r_iinc 25 rfl rfl ?_
      refine r_goto (t := 4) 26 rfl (by decide) ?_
      exact k
    · have hor : z ||| 2 ^ i = z + 2 ^ i := by
        rcases hi3 with rfl | rfl | rfl
        · have : z = 0 := by omega
          subst this; decide
        · have : z = 0 ∨ z = 1 := by omega
          rcases this with rfl | rfl <;> decide
        · have : z = 0 ∨ z = 1 ∨ z = 2 ∨ z = 3 := by omega
          rcases this with rfl | rfl | rfl | rfl <;> decide
      have h2 : 2 ^ i < 64 := by rcases hi3 with rfl | rfl | rfl <;> decide
      have k := k (z + 2 ^ i) (by rw [e]; push_cast; omega) (by rw [Nat.pow_succ]; omega)
      refine r_iload_n 4 rfl rfl ?_
      refine r_iconst 5 rfl ?_
      refine r_icmp_ge (t := 41) 6 rfl (by decide) (by first | exact hA _ _ | exact ⟨by decide, by decide⟩ | assumption | exact ⟨by omega, by omega⟩) (by first | exact hA _ _ | exact ⟨by decide, by decide⟩ | assumption | exact ⟨by omega, by omega⟩) (fun c_6 => by omega) (fun c_6 => ?_)
      refine r_iload_n 7 rfl rfl ?_
      refine r_aload_n 8 rfl rfl ?_
      refine r_get 9 rfl f_Reader_19 (hp_at rfl) rfl ?_
      refine r_iload_n 10 rfl rfl ?_
      refine r_baload 11 rfl (hp_at rfl) (by decide) (by omega) (by omega) ?_
      refine r_if_eq (t := 25) 12 rfl (by decide) (by first | exact hA _ _ | exact ⟨by decide, by decide⟩ | assumption | exact ⟨by omega, by omega⟩) (fun c_16 => by omega) (fun c_16 => ?_)
      refine r_iconst 13 rfl ?_
      refine r_iload_n 14 rfl rfl ?_
      refine r_ishl 15 _ rfl (shl_i i (by omega)) ?_
      refine r_goto (t := 26) 16 rfl (by decide) ?_
      refine r_ior 18 _ rfl (or_i z (by omega) (2 ^ i) h2) ?_
      rw [hor]
      refine r_istore_n 19 rfl (Nat.le_of_ble_eq_true rfl) ?_
      refine r_aload_n 20 rfl rfl ?_
      refine r_get 21 rfl f_Reader_19 (hp_at rfl) rfl ?_
      refine r_iload_n 22 rfl rfl ?_
      refine r_iconst 23 rfl ?_
      refine r_bastore 24 rfl (hp_at rfl) (by decide) (by omega) (by omega) rfl ?_
      rw [ws_4]
      refine r_iinc 25 rfl rfl ?_
      refine r_goto (t := 4) 26 rfl (by decide) ?_
      exact k
  refine mx_in ok_Reader_guard rfl (Nat.le_of_ble_eq_true rfl) ?_
  have fin : ∀ z1 z2 z3 : Nat, (z1 : Int) = ((0 : Nat) : Int) + 2 ^ 0 * A 4 ((0 : Nat) : Int) → (z2 : Int) = z1 + 2 ^ 1 * au A 4 0 1 4 ((1 : Nat) : Int) → (z3 : Int) = z2 + 2 ^ 2 * au (au A 4 0 1) 4 1 1 4 ((2 : Nat) : Int) → z3 < 2 ^ 3 → wx K M_Reader_guard d Q 4 [some (.ref (xa K.n 1)), some (iv z3), some (iv 3)] [] (hp K.n (au (au (au A 4 0 1) 4 1 1) 4 2 1) R g t u) := by
    intro z1 z2 z3 e1 e2 e3 l3
    have hA3 : rga (au (au (au A 4 0 1) 4 1 1) 4 2 1) := rga_au (rga_au (rga_au hA ⟨by decide, by decide⟩) ⟨by decide, by decide⟩) ⟨by decide, by decide⟩
    have e2' : (z2 : Int) = z1 + 2 ^ 1 * A 4 1 := by rw [e2, au_ni _ _ _ (by decide)]; rfl
    have e3' : (z3 : Int) = z2 + 2 ^ 2 * A 4 2 := by rw [e3, au_ni _ _ _ (by decide), au_ni _ _ _ (by decide)]; rfl
    have e1' : (z1 : Int) = 0 + 2 ^ 0 * A 4 0 := e1
    have fin := hq z3 l3 (by omega)
    refine r_iload_n 4 rfl rfl ?_
    refine r_iconst 5 rfl ?_
    refine r_icmp_ge (t := 41) 6 rfl (by decide) (by first | exact hA _ _ | exact ⟨by decide, by decide⟩ | assumption | exact ⟨by omega, by omega⟩) (by first | exact hA _ _ | exact ⟨by decide, by decide⟩ | assumption | exact ⟨by omega, by omega⟩) (fun c_6 => ?_) (fun c_6 => by omega)
    refine r_iload_n 27 rfl rfl ?_
    refine r_iret 28 rfl rfl rfl ?_
    exact fin
  have n := step 0 0 A (by omega) (by decide) hA (h4 0 (by decide) (by decide)) (fun z1 e1 l1 => step 1 z1 (au A 4 0 1) (by omega) l1 (rga_au hA ⟨by decide, by decide⟩) (by rw [au_ni _ _ _ (by decide)]; exact h4 1 (by decide) (by decide)) (fun z2 e2 l2 => step 2 z2 (au (au A 4 0 1) 4 1 1) (by omega) l2 (rga_au (rga_au hA ⟨by decide, by decide⟩) ⟨by decide, by decide⟩) (by rw [au_ni _ _ _ (by decide), au_ni _ _ _ (by decide)]; exact h4 2 (by decide) (by decide)) (fun z3 e3 l3 => fin z1 z2 z3 e1 e2 e3 l3)))
  refine r_iconst 0 rfl ?_
  refine r_istore_n 1 rfl (Nat.le_of_ble_eq_true rfl) ?_
  refine r_iconst 2 rfl ?_
  refine r_istore_n 3 rfl (Nat.le_of_ble_eq_true rfl) ?_
  exact n
theorem c_R_unguard {w : Nat} (hA : rga A) (hw : w < 8) (hq : Q (.returned none) (hp K.n (au (au (au A 4 0 ((w % 2 : Nat) : Int)) 4 1 ((w / 2 % 2 : Nat) : Int)) 4 2 ((w / 4 % 2 : Nat) : Int)) R g t u)) : mx K M_Reader_unguard d [.ref (xa K.n 1), iv w] (hp K.n A R g t u) Q := by
  have step : ∀ (i : Nat) (B : Nat → Int → Int), i < 3 → rga B → wx K M_Reader_unguard d Q 2 [some (.ref (xa K.n 1)), some (iv w), some (iv ((i : Int) + 1))] [] (hp K.n (au B 4 i ((w / 2 ^ i % 2 : Nat) : Int)) R g t u) → wx K M_Reader_unguard d Q 2 [some (.ref (xa K.n 1)), some (iv w), some (iv i)] [] (hp K.n B R g t u) := by
    intro i B hi hA k
    by_cases c : w / 2 ^ i % 2 = 1
    · rw [c] at k
      refine r_iload_n 2 rfl rfl ?_
      refine r_iconst 3 rfl ?_
      refine r_icmp_ge (t := 33) 4 rfl (by decide) (by first | exact hA _ _ | exact ⟨by decide, by decide⟩ | assumption | exact ⟨by omega, by omega⟩) (by first | exact hA _ _ | exact ⟨by decide, by decide⟩ | assumption | exact ⟨by omega, by omega⟩) (fun c_4 => by omega) (fun c_4 => ?_)
      refine r_aload_n 5 rfl rfl ?_
      refine r_get 6 rfl f_Reader_19 (hp_at rfl) rfl ?_
      refine r_iload_n 7 rfl rfl ?_
      refine r_iload_n 8 rfl rfl ?_
      refine r_iload_n 9 rfl rfl ?_
      refine r_bit 10 (by omega) (by omega) rfl rfl rfl ?_
      refine r_iconst 13 rfl ?_
      refine r_icmp_ne (t := 25) 14 rfl (by decide) (by first | exact hA _ _ | exact ⟨by decide, by decide⟩ | assumption | exact ⟨by omega, by omega⟩) (by first | exact hA _ _ | exact ⟨by decide, by decide⟩ | assumption | exact ⟨by omega, by omega⟩) (fun c_18 => by omega) (fun c_18 => ?_)
      refine r_iconst 15 rfl ?_
      refine r_goto (t := 26) 16 rfl (by decide) ?_
      refine r_bastore 18 rfl (hp_at rfl) (by decide) (by omega) (by omega) rfl ?_
      rw [ws_4]
      refine r_iinc 19 rfl rfl ?_
      refine r_goto (t := 2) 20 rfl (by decide) ?_
      exact k
    · have c0 : w / 2 ^ i % 2 = 0 := by omega
      rw [c0] at k
      refine r_iload_n 2 rfl rfl ?_
      refine r_iconst 3 rfl ?_
      refine r_icmp_ge (t := 33) 4 rfl (by decide) (by first | exact hA _ _ | exact ⟨by decide, by decide⟩ | assumption | exact ⟨by omega, by omega⟩) (by first | exact hA _ _ | exact ⟨by decide, by decide⟩ | assumption | exact ⟨by omega, by omega⟩) (fun c_4 => by omega) (fun c_4 => ?_)
      refine r_aload_n 5 rfl rfl ?_
      refine r_get 6 rfl f_Reader_19 (hp_at rfl) rfl ?_
      refine r_iload_n 7 rfl rfl ?_
      refine r_iload_n 8 rfl rfl ?_
      refine r_iload_n 9 rfl rfl ?_
      refine r_bit 10 (by omega) (by omega) rfl rfl rfl ?_
      refine r_iconst 13 rfl ?_
      refine r_icmp_ne (t := 25) 14 rfl (by decide) (by first | exact hA _ _ | exact ⟨by decide, by decide⟩ | assumption | exact ⟨by omega, by omega⟩) (by first | exact hA _ _ | exact ⟨by decide, by decide⟩ | assumption | exact ⟨by omega, by omega⟩) (fun c_18 => ?_) (fun c_18 => by omega)
      refine r_iconst 17 rfl ?_
      refine r_bastore 18 rfl (hp_at rfl) (by decide) (by omega) (by omega) rfl ?_
      rw [ws_4]
      refine r_iinc 19 rfl rfl ?_
      refine r_goto (t := 2) 20 rfl (by decide) ?_
      exact k
  have hr2 : ∀ x : Nat, rg ((x % 2 : Nat) : Int) := fun x => ⟨by omega, by omega⟩
  have hA3 : rga (au (au (au A 4 0 ((w % 2 : Nat) : Int)) 4 1 ((w / 2 % 2 : Nat) : Int)) 4 2 ((w / 4 % 2 : Nat) : Int)) := rga_au (rga_au (rga_au hA (hr2 _)) (hr2 _)) (hr2 _)
  have fin : wx K M_Reader_unguard d Q 2 [some (.ref (xa K.n 1)), some (iv w), some (iv 3)] [] (hp K.n (au (au (au A 4 0 ((w % 2 : Nat) : Int)) 4 1 ((w / 2 % 2 : Nat) : Int)) 4 2 ((w / 4 % 2 : Nat) : Int)) R g t u) := by
    refine r_iload_n 2 rfl rfl ?_
    refine r_iconst 3 rfl ?_
    refine r_icmp_ge (t := 33) 4 rfl (by decide) (by first | exact hA _ _ | exact ⟨by decide, by decide⟩ | assumption | exact ⟨by omega, by omega⟩) (by first | exact hA _ _ | exact ⟨by decide, by decide⟩ | assumption | exact ⟨by omega, by omega⟩) (fun c_4 => ?_) (fun c_4 => by omega)
    refine r_ret 21 rfl rfl ?_
    exact hq
  have e0 : w / 2 ^ 0 % 2 = w % 2 := by simp
  have n2 := step 2 _ (by omega) (rga_au (rga_au hA (hr2 _)) (hr2 _)) fin
  have n1 := step 1 _ (by omega) (rga_au hA (hr2 _)) n2
  have n0 := step 0 A (by omega) hA (by rw [e0]; exact n1)
  refine mx_in ok_Reader_unguard rfl (Nat.le_of_ble_eq_true rfl) ?_
  refine r_iconst 0 rfl ?_
  refine r_istore_n 1 rfl (Nat.le_of_ble_eq_true rfl) ?_
  exact n0
theorem c_R_begin (hA : rga A) (hq : Q (.returned none) (hp K.n (fil (fil (au (au A 1 2 0) 1 3 0) 3 0 3 0) 4 0 3 0) R g t u)) : mx K M_Reader_begin d [.ref (xa K.n 1)] (hp K.n A R g t u) Q := by
  generalize hC : au (au A 1 2 0) 1 3 0 = C at hq
  have hCA : rga C := by rw [← hC]; exact rga_au (rga_au hA rg_0) rg_0
  have loop : ∀ (c : Nat) (i : Int), 0 ≤ i → i + c = 3 → wx K M_Reader_begin d Q 12 [some (.ref (xa K.n 1)), some (iv i)] [] (hp K.n (fil (fil C 3 0 i 0) 4 0 i 0) R g t u) := by
    intro c
    induction c with
    | zero =>
      intro i i0 hi
      have ei : i = 3 := by omega
      subst ei
      have hA : rga (fil (fil C 3 0 3 0) 4 0 3 0) := rga_fil (rga_fil hCA rg_0) rg_0
      refine r_iload_n 8 rfl rfl ?_
      refine r_iconst 9 rfl ?_
      refine r_icmp_ge (t := 37) 10 rfl (by decide) (by first | exact hA _ _ | exact ⟨by decide, by decide⟩ | assumption | exact ⟨by omega, by omega⟩) (by first | exact hA _ _ | exact ⟨by decide, by decide⟩ | assumption | exact ⟨by omega, by omega⟩) (fun c_14 => ?_) (fun c_14 => by omega)
      refine r_ret 23 rfl rfl ?_
      exact hq
    | succ c ih =>
      intro i i0 hi
      have n := ih (i + 1) (by omega) (by omega)
      have hA : rga (fil (fil C 3 0 i 0) 4 0 i 0) := rga_fil (rga_fil hCA rg_0) rg_0
      refine r_iload_n 8 rfl rfl ?_
      refine r_iconst 9 rfl ?_
      refine r_icmp_ge (t := 37) 10 rfl (by decide) (by first | exact hA _ _ | exact ⟨by decide, by decide⟩ | assumption | exact ⟨by omega, by omega⟩) (by first | exact hA _ _ | exact ⟨by decide, by decide⟩ | assumption | exact ⟨by omega, by omega⟩) (fun c_14 => by omega) (fun c_14 => ?_)
      refine r_aload_n 11 rfl rfl ?_
      refine r_get 12 rfl f_Reader_15 (hp_at rfl) rfl ?_
      refine r_iload_n 13 rfl rfl ?_
      refine r_iconst 14 rfl ?_
      refine r_iastore 15 rfl (hp_at rfl) (by decide) (by omega) (by omega) ?_
      rw [ws_3]
      rw [au_fil _ _ _ _ _ _ (by decide), fil_step _ _ _ i0]
      refine r_aload_n 16 rfl rfl ?_
      refine r_get 17 rfl f_Reader_19 (hp_at rfl) rfl ?_
      refine r_iload_n 18 rfl rfl ?_
      refine r_iconst 19 rfl ?_
      refine r_bastore 20 rfl (hp_at rfl) (by decide) (by omega) (by omega) rfl ?_
      rw [ws_4]
      rw [fil_step _ _ _ i0]
      refine r_iinc 21 rfl rfl ?_
      refine r_goto (t := 12) 22 rfl (by decide) ?_
      exact n
  have n := loop 3 0 (by omega) (by omega)
  rw [fil_0, fil_0] at n
  refine mx_in ok_Reader_begin rfl (Nat.le_of_ble_eq_true rfl) ?_
  refine r_aload_n 0 rfl rfl ?_
  refine r_iconst 1 rfl ?_
  refine r_put 2 rfl f_Reader_23 (hp_at rfl) rfl rfl ?_
  rw [wR_2]
  refine r_aload_n 3 rfl rfl ?_
  refine r_iconst 4 rfl ?_
  refine r_put 5 rfl f_Reader_27 (hp_at rfl) rfl rfl ?_
  rw [wR_3]
  rw [hC]
  refine r_iconst 6 rfl ?_
  refine r_istore_n 7 rfl (Nat.le_of_ble_eq_true rfl) ?_
  exact n
end XR69


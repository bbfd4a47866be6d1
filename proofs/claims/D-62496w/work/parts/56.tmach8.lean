/-! the twin: makeMachine, one place -/
section TW56
variable {K : xk} {M : xm} {d : Nat} {Q : Outcome → xh → Prop} {A : Nat → Int → Int} {R : Nat → Int → Value} {g : Nat → Nat × List Value} {t u : Nat}
def mmA (A : Nat → Int → Int) (m x c kd pr : Int) : Nat → Int → Int := au (au (au (au (au (au A 129 x c) 122 m (c + 1)) 123 (31 * m + c) kd) 124 (31 * m + c) pr) 125 (31 * m + c) (A 107 x)) 119 c x
theorem mm_row (A : Nat → Int → Int) (m x c kd pr : Int) (j : Nat) (i : Int) : mmA A m x c kd pr j i = if j = 119 ∧ i = c then x else if j = 125 ∧ i = 31 * m + c then A 107 x else if j = 124 ∧ i = 31 * m + c then pr else if j = 123 ∧ i = 31 * m + c then kd else if j = 122 ∧ i = m then c + 1 else if j = 129 ∧ i = x then c else A j i := by
  unfold mmA
  rw [au_ite, au_ite, au_ite, au_ite, au_ite, au_ite]
theorem mm_skip {m s0 n0 x top : Int} {f : Nat} (hA : rga A) (hb : bg A f n0 x) (hf : f < 64) (x0 : 0 ≤ x) (x1 : x < 300) (h9 : 0 ≤ A 129 x) (t0 : 0 ≤ top) (t1 : top < 256) (hs : A 130 top = n0)
    (hq : wx K M_T_makeMachine (d + 2) Q 24 [some (.ref (xa K.n 32)), some (iv m), some (iv s0), some (iv top), some (iv 1), none, none, none, none, none] [] (hp K.n A R g t u)) :
    wx K M_T_makeMachine (d + 2) Q 24 [some (.ref (xa K.n 32)), some (iv m), some (iv s0), some (iv (top + 1)), some (iv 1), none, none, none, none, none] [] (hp K.n A R g t u) := by
  have hnx : ∀ v5 : Value, wx K M_T_makeMachine (d + 2) Q 24 [some (.ref (xa K.n 32)), some (iv m), some (iv s0), some (iv top), some (iv 1), some v5, none, none, none, none] [] (hp K.n A R g t u) := fun v5 => wx_t (pre := [some (.ref (xa K.n 32)), some (iv m), some (iv s0), some (iv top), some (iv 1)]) (tl := [some v5, none, none, none, none]) hq
  have et : top + 1 + -1 = top := by omega
  refine r_iload_n 17 rfl rfl ?_
  refine r_if_le (t := 254) 18 rfl (by decide) (by first | exact hA _ _ | exact ⟨by decide, by decide⟩ | assumption | exact ⟨by omega, by omega⟩) (fun c_25 => by omega) (fun c_25 => ?_)
  refine r_iload 19 rfl rfl ?_
  refine r_if_eq (t := 254) 20 rfl (by decide) (by first | exact hA _ _ | exact ⟨by decide, by decide⟩ | assumption | exact ⟨by omega, by omega⟩) (fun c_30 => by omega) (fun c_30 => ?_)
  refine r_iinc 21 rfl rfl ?_
  rw [et]
  refine r_aload_n 22 rfl rfl ?_
  refine r_aload_n 23 rfl rfl ?_
  refine r_get 24 rfl f_T_77 (hp_at rfl) rfl ?_
  refine r_iload_n 25 rfl rfl ?_
  refine r_iaload 26 rfl (hp_at rfl) (by decide) (by omega) (by omega) ?_
  rw [hs]
  refine r_callv1 27 rfl l_T_196 (hp_at rfl) (Nat.le_of_ble_eq_true rfl) ?_
  refine c_T_beginning hA x0 x1 hb hf (cp1 ?_)
  refine r_istore 28 rfl (Nat.le_of_ble_eq_true rfl) ?_
  refine r_iload 29 rfl rfl ?_
  refine r_if_lt (t := 57) 30 rfl (by decide) (by first | exact hA _ _ | exact ⟨by decide, by decide⟩ | assumption | exact ⟨by omega, by omega⟩) (fun c_50 => by omega) (fun c_50 => ?_)
  refine r_iconst 31 rfl ?_
  refine r_goto (t := 58) 32 rfl (by decide) ?_
  refine r_istore 34 rfl (Nat.le_of_ble_eq_true rfl) ?_
  refine r_iload 35 rfl rfl ?_
  refine r_if_eq (t := 251) 36 rfl (by decide) (by first | exact hA _ _ | exact ⟨by decide, by decide⟩ | assumption | exact ⟨by omega, by omega⟩) (fun c_62 => by omega) (fun c_62 => ?_)
  refine r_aload_n 37 rfl rfl ?_
  refine r_get 38 rfl f_T_74 (hp_at rfl) rfl ?_
  refine r_iload 39 rfl rfl ?_
  refine r_iaload 40 rfl (hp_at rfl) (by decide) (by omega) (by omega) ?_
  refine r_if_ge (t := 251) 41 rfl (by decide) (by first | exact hA _ _ | exact ⟨by decide, by decide⟩ | assumption | exact ⟨by omega, by omega⟩) (fun c_72 => ?_) (fun c_72 => by omega)
  refine r_goto (t := 24) 143 rfl (by decide) ?_
  exact hnx _
theorem mm_node {m s0 n0 x top c kd pr : Int} {f : Nat} (hA : rga A) (hb : bg A f n0 x) (hf : f < 64) (x0 : 0 ≤ x) (x1 : x < 300) (h9 : A 129 x < 0) (t0 : 0 ≤ top) (t1 : top < 256) (hs : A 130 top = n0) (m0 : 0 ≤ m) (m1 : m < 9) (hc : A 122 m = c) (c0 : 0 ≤ c) (c1 : c < 31)
    (hkd : (A 105 x = 0 ∧ kd = 0 ∧ pr = -1) ∨ (A 105 x = 3 ∧ kd = 1 ∧ pr = A 106 x) ∨ (A 105 x = 4 ∧ kd = 2 ∧ pr = A 106 x))
    (hq : wx K M_T_makeMachine (d + 2) Q 211 [some (.ref (xa K.n 32)), some (iv m), some (iv s0), some (iv top), some (iv 1), some (iv x), some (iv (31 * m + c)), some (iv (A 107 x)), none, none] [] (hp K.n (mmA A m x c kd pr) R g t u)) :
    wx K M_T_makeMachine (d + 2) Q 24 [some (.ref (xa K.n 32)), some (iv m), some (iv s0), some (iv (top + 1)), some (iv 1), none, none, none, none, none] [] (hp K.n A R g t u) := by
  have et : top + 1 + -1 = top := by omega
  unfold mmA at hq
  have em : (31 * m + c) % 31 = c := by omega
  rcases hkd with ⟨k5, rfl, rfl⟩ | ⟨k5, rfl, rfl⟩ | ⟨k5, rfl, rfl⟩
  · refine r_iload_n 17 rfl rfl ?_
    refine r_if_le (t := 254) 18 rfl (by decide) (by first | exact hA _ _ | exact ⟨by decide, by decide⟩ | assumption | exact ⟨by omega, by omega⟩) (fun c_25 => by omega) (fun c_25 => ?_)
    refine r_iload 19 rfl rfl ?_
    refine r_if_eq (t := 254) 20 rfl (by decide) (by first | exact hA _ _ | exact ⟨by decide, by decide⟩ | assumption | exact ⟨by omega, by omega⟩) (fun c_30 => by omega) (fun c_30 => ?_)
    refine r_iinc 21 rfl rfl ?_
    rw [et]
    refine r_aload_n 22 rfl rfl ?_
    refine r_aload_n 23 rfl rfl ?_
    refine r_get 24 rfl f_T_77 (hp_at rfl) rfl ?_
    refine r_iload_n 25 rfl rfl ?_
    refine r_iaload 26 rfl (hp_at rfl) (by decide) (by omega) (by omega) ?_
    try simp +decide only [au_ne, au_same, au_ni, fil_ne]
    rw [hs]
    refine r_callv1 27 rfl l_T_196 (hp_at rfl) (Nat.le_of_ble_eq_true rfl) ?_
    refine c_T_beginning hA x0 x1 hb hf (cp1 ?_)
    refine r_istore 28 rfl (Nat.le_of_ble_eq_true rfl) ?_
    refine r_iload 29 rfl rfl ?_
    refine r_if_lt (t := 57) 30 rfl (by decide) (by first | exact hA _ _ | exact ⟨by decide, by decide⟩ | assumption | exact ⟨by omega, by omega⟩) (fun c_50 => by omega) (fun c_50 => ?_)
    refine r_iconst 31 rfl ?_
    refine r_goto (t := 58) 32 rfl (by decide) ?_
    refine r_istore 34 rfl (Nat.le_of_ble_eq_true rfl) ?_
    refine r_iload 35 rfl rfl ?_
    refine r_if_eq (t := 251) 36 rfl (by decide) (by first | exact hA _ _ | exact ⟨by decide, by decide⟩ | assumption | exact ⟨by omega, by omega⟩) (fun c_62 => by omega) (fun c_62 => ?_)
    refine r_aload_n 37 rfl rfl ?_
    refine r_get 38 rfl f_T_74 (hp_at rfl) rfl ?_
    refine r_iload 39 rfl rfl ?_
    refine r_iaload 40 rfl (hp_at rfl) (by decide) (by omega) (by omega) ?_
    try simp +decide only [au_ne, au_same, au_ni, fil_ne]
    refine r_if_ge (t := 251) 41 rfl (by decide) (by first | exact hA _ _ | exact ⟨by decide, by decide⟩ | assumption | exact ⟨by omega, by omega⟩) (fun c_72 => by omega) (fun c_72 => ?_)
    refine r_bipush 42 rfl rfl ?_
    refine r_iload_n 43 rfl rfl ?_
    refine r_imul 44 rfl ?_
    refine r_aload_n 45 rfl rfl ?_
    refine r_get 46 rfl f_T_53 (hp_at rfl) rfl ?_
    refine r_iload_n 47 rfl rfl ?_
    refine r_iaload 48 rfl (hp_at rfl) (by decide) (by omega) (by omega) ?_
    try simp +decide only [au_ne, au_same, au_ni, fil_ne]
    rw [hc]
    refine r_iadd 49 rfl ?_
    refine r_istore 50 rfl (Nat.le_of_ble_eq_true rfl) ?_
    refine r_aload_n 51 rfl rfl ?_
    refine r_get 52 rfl f_T_74 (hp_at rfl) rfl ?_
    refine r_iload 53 rfl rfl ?_
    refine r_aload_n 54 rfl rfl ?_
    refine r_get 55 rfl f_T_53 (hp_at rfl) rfl ?_
    refine r_iload_n 56 rfl rfl ?_
    refine r_iaload 57 rfl (hp_at rfl) (by decide) (by omega) (by omega) ?_
    try simp +decide only [au_ne, au_same, au_ni, fil_ne]
    rw [hc]
    refine r_iastore 58 rfl (hp_at rfl) (by decide) (by omega) (by omega) ?_
    rw [ws_129]
    refine r_aload_n 59 rfl rfl ?_
    refine r_get 60 rfl f_T_53 (hp_at rfl) rfl ?_
    refine r_iload_n 61 rfl rfl ?_
    refine r_dup2 62 rfl rfl rfl ?_
    refine r_iaload 63 rfl (hp_at rfl) (by decide) (by omega) (by omega) ?_
    try simp +decide only [au_ne, au_same, au_ni, fil_ne]
    rw [hc]
    refine r_iconst 64 rfl ?_
    refine r_iadd 65 rfl ?_
    refine r_iastore 66 rfl (hp_at rfl) (by decide) (by omega) (by omega) ?_
    rw [ws_122]
    refine r_aload_n 67 rfl rfl ?_
    refine r_get 68 rfl f_T_56 (hp_at rfl) rfl ?_
    refine r_iload 69 rfl rfl ?_
    refine r_aload_n 70 rfl rfl ?_
    refine r_get 71 rfl f_T_13 (hp_at rfl) rfl ?_
    refine r_iload 72 rfl rfl ?_
    refine r_iaload 73 rfl (hp_at rfl) (by decide) (by omega) (by omega) ?_
    try simp +decide only [au_ne, au_same, au_ni, fil_ne]
    refine r_if_ne (t := 131) 74 rfl (by decide) (by first | exact hA _ _ | exact ⟨by decide, by decide⟩ | assumption | exact ⟨by omega, by omega⟩) (fun c_124 => by omega) (fun c_124 => ?_)
    refine r_iconst 75 rfl ?_
    refine r_goto (t := 147) 76 rfl (by decide) ?_
    refine r_iastore 86 rfl (hp_at rfl) (by decide) (by omega) (by omega) ?_
    rw [ws_123]
    refine r_aload_n 87 rfl rfl ?_
    refine r_get 88 rfl f_T_59 (hp_at rfl) rfl ?_
    refine r_iload 89 rfl rfl ?_
    refine r_aload_n 90 rfl rfl ?_
    refine r_get 91 rfl f_T_13 (hp_at rfl) rfl ?_
    refine r_iload 92 rfl rfl ?_
    refine r_iaload 93 rfl (hp_at rfl) (by decide) (by omega) (by omega) ?_
    try simp +decide only [au_ne, au_same, au_ni, fil_ne]
    refine r_if_ne (t := 168) 94 rfl (by decide) (by first | exact hA _ _ | exact ⟨by decide, by decide⟩ | assumption | exact ⟨by omega, by omega⟩) (fun c_161 => by omega) (fun c_161 => ?_)
    refine r_iconst 95 rfl ?_
    refine r_goto (t := 175) 96 rfl (by decide) ?_
    refine r_iastore 101 rfl (hp_at rfl) (by decide) (by omega) (by omega) ?_
    rw [ws_124]
    refine r_aload_n 102 rfl rfl ?_
    refine r_get 103 rfl f_T_62 (hp_at rfl) rfl ?_
    refine r_iload 104 rfl rfl ?_
    refine r_aload_n 105 rfl rfl ?_
    refine r_get 106 rfl f_T_20 (hp_at rfl) rfl ?_
    refine r_iload 107 rfl rfl ?_
    refine r_iaload 108 rfl (hp_at rfl) (by decide) (by omega) (by omega) ?_
    try simp +decide only [au_ne, au_same, au_ni, fil_ne]
    refine r_iastore 109 rfl (hp_at rfl) (by decide) (by omega) (by omega) ?_
    rw [ws_125]
    refine r_aload_n 110 rfl rfl ?_
    refine r_get 111 rfl f_T_44 (hp_at rfl) rfl ?_
    refine r_iload 112 rfl rfl ?_
    refine r_bipush 113 rfl rfl ?_
    refine r_irem 114 rfl (by omega) (by omega) (by decide) (by decide) ?_
    rw [em]
    refine r_iload 115 rfl rfl ?_
    refine r_iastore 116 rfl (hp_at rfl) (by decide) (by omega) (by omega) ?_
    rw [ws_119]
    refine r_aload_n 117 rfl rfl ?_
    refine r_get 118 rfl f_T_20 (hp_at rfl) rfl ?_
    refine r_iload 119 rfl rfl ?_
    refine r_iaload 120 rfl (hp_at rfl) (by decide) (by omega) (by omega) ?_
    try simp +decide only [au_ne, au_same, au_ni, fil_ne]
    refine r_istore 121 rfl (Nat.le_of_ble_eq_true rfl) ?_
    exact hq
  · refine r_iload_n 17 rfl rfl ?_
    refine r_if_le (t := 254) 18 rfl (by decide) (by first | exact hA _ _ | exact ⟨by decide, by decide⟩ | assumption | exact ⟨by omega, by omega⟩) (fun c_25 => by omega) (fun c_25 => ?_)
    refine r_iload 19 rfl rfl ?_
    refine r_if_eq (t := 254) 20 rfl (by decide) (by first | exact hA _ _ | exact ⟨by decide, by decide⟩ | assumption | exact ⟨by omega, by omega⟩) (fun c_30 => by omega) (fun c_30 => ?_)
    refine r_iinc 21 rfl rfl ?_
    rw [et]
    refine r_aload_n 22 rfl rfl ?_
    refine r_aload_n 23 rfl rfl ?_
    refine r_get 24 rfl f_T_77 (hp_at rfl) rfl ?_
    refine r_iload_n 25 rfl rfl ?_
    refine r_iaload 26 rfl (hp_at rfl) (by decide) (by omega) (by omega) ?_
    try simp +decide only [au_ne, au_same, au_ni, fil_ne]
    rw [hs]
    refine r_callv1 27 rfl l_T_196 (hp_at rfl) (Nat.le_of_ble_eq_true rfl) ?_
    refine c_T_beginning hA x0 x1 hb hf (cp1 ?_)
    refine r_istore 28 rfl (Nat.le_of_ble_eq_true rfl) ?_
    refine r_iload 29 rfl rfl ?_
    refine r_if_lt (t := 57) 30 rfl (by decide) (by first | exact hA _ _ | exact ⟨by decide, by decide⟩ | assumption | exact ⟨by omega, by omega⟩) (fun c_50 => by omega) (fun c_50 => ?_)
    refine r_iconst 31 rfl ?_
    refine r_goto (t := 58) 32 rfl (by decide) ?_
    refine r_istore 34 rfl (Nat.le_of_ble_eq_true rfl) ?_
    refine r_iload 35 rfl rfl ?_
    refine r_if_eq (t := 251) 36 rfl (by decide) (by first | exact hA _ _ | exact ⟨by decide, by decide⟩ | assumption | exact ⟨by omega, by omega⟩) (fun c_62 => by omega) (fun c_62 => ?_)
    refine r_aload_n 37 rfl rfl ?_
    refine r_get 38 rfl f_T_74 (hp_at rfl) rfl ?_
    refine r_iload 39 rfl rfl ?_
    refine r_iaload 40 rfl (hp_at rfl) (by decide) (by omega) (by omega) ?_
    try simp +decide only [au_ne, au_same, au_ni, fil_ne]
    refine r_if_ge (t := 251) 41 rfl (by decide) (by first | exact hA _ _ | exact ⟨by decide, by decide⟩ | assumption | exact ⟨by omega, by omega⟩) (fun c_72 => by omega) (fun c_72 => ?_)
    refine r_bipush 42 rfl rfl ?_
    refine r_iload_n 43 rfl rfl ?_
    refine r_imul 44 rfl ?_
    refine r_aload_n 45 rfl rfl ?_
    refine r_get 46 rfl f_T_53 (hp_at rfl) rfl ?_
    refine r_iload_n 47 rfl rfl ?_
    refine r_iaload 48 rfl (hp_at rfl) (by decide) (by omega) (by omega) ?_
    try simp +decide only [au_ne, au_same, au_ni, fil_ne]
    rw [hc]
    refine r_iadd 49 rfl ?_
    refine r_istore 50 rfl (Nat.le_of_ble_eq_true rfl) ?_
    refine r_aload_n 51 rfl rfl ?_
    refine r_get 52 rfl f_T_74 (hp_at rfl) rfl ?_
    refine r_iload 53 rfl rfl ?_
    refine r_aload_n 54 rfl rfl ?_
    refine r_get 55 rfl f_T_53 (hp_at rfl) rfl ?_
    refine r_iload_n 56 rfl rfl ?_
    refine r_iaload 57 rfl (hp_at rfl) (by decide) (by omega) (by omega) ?_
    try simp +decide only [au_ne, au_same, au_ni, fil_ne]
    rw [hc]
    refine r_iastore 58 rfl (hp_at rfl) (by decide) (by omega) (by omega) ?_
    rw [ws_129]
    refine r_aload_n 59 rfl rfl ?_
    refine r_get 60 rfl f_T_53 (hp_at rfl) rfl ?_
    refine r_iload_n 61 rfl rfl ?_
    refine r_dup2 62 rfl rfl rfl ?_
    refine r_iaload 63 rfl (hp_at rfl) (by decide) (by omega) (by omega) ?_
    try simp +decide only [au_ne, au_same, au_ni, fil_ne]
    rw [hc]
    refine r_iconst 64 rfl ?_
    refine r_iadd 65 rfl ?_
    refine r_iastore 66 rfl (hp_at rfl) (by decide) (by omega) (by omega) ?_
    rw [ws_122]
    refine r_aload_n 67 rfl rfl ?_
    refine r_get 68 rfl f_T_56 (hp_at rfl) rfl ?_
    refine r_iload 69 rfl rfl ?_
    refine r_aload_n 70 rfl rfl ?_
    refine r_get 71 rfl f_T_13 (hp_at rfl) rfl ?_
    refine r_iload 72 rfl rfl ?_
    refine r_iaload 73 rfl (hp_at rfl) (by decide) (by omega) (by omega) ?_
    try simp +decide only [au_ne, au_same, au_ni, fil_ne]
    refine r_if_ne (t := 131) 74 rfl (by decide) (by first | exact hA _ _ | exact ⟨by decide, by decide⟩ | assumption | exact ⟨by omega, by omega⟩) (fun c_124 => ?_) (fun c_124 => by omega)
    refine r_aload_n 77 rfl rfl ?_
    refine r_get 78 rfl f_T_13 (hp_at rfl) rfl ?_
    refine r_iload 79 rfl rfl ?_
    refine r_iaload 80 rfl (hp_at rfl) (by decide) (by omega) (by omega) ?_
    try simp +decide only [au_ne, au_same, au_ni, fil_ne]
    refine r_iconst 81 rfl ?_
    refine r_icmp_ne (t := 146) 82 rfl (by decide) (by first | exact hA _ _ | exact ⟨by decide, by decide⟩ | assumption | exact ⟨by omega, by omega⟩) (by first | exact hA _ _ | exact ⟨by decide, by decide⟩ | assumption | exact ⟨by omega, by omega⟩) (fun c_139 => by omega) (fun c_139 => ?_)
    refine r_iconst 83 rfl ?_
    refine r_goto (t := 147) 84 rfl (by decide) ?_
    refine r_iastore 86 rfl (hp_at rfl) (by decide) (by omega) (by omega) ?_
    rw [ws_123]
    refine r_aload_n 87 rfl rfl ?_
    refine r_get 88 rfl f_T_59 (hp_at rfl) rfl ?_
    refine r_iload 89 rfl rfl ?_
    refine r_aload_n 90 rfl rfl ?_
    refine r_get 91 rfl f_T_13 (hp_at rfl) rfl ?_
    refine r_iload 92 rfl rfl ?_
    refine r_iaload 93 rfl (hp_at rfl) (by decide) (by omega) (by omega) ?_
    try simp +decide only [au_ne, au_same, au_ni, fil_ne]
    refine r_if_ne (t := 168) 94 rfl (by decide) (by first | exact hA _ _ | exact ⟨by decide, by decide⟩ | assumption | exact ⟨by omega, by omega⟩) (fun c_161 => ?_) (fun c_161 => by omega)
    refine r_aload_n 97 rfl rfl ?_
    refine r_get 98 rfl f_T_17 (hp_at rfl) rfl ?_
    refine r_iload 99 rfl rfl ?_
    refine r_iaload 100 rfl (hp_at rfl) (by decide) (by omega) (by omega) ?_
    try simp +decide only [au_ne, au_same, au_ni, fil_ne]
    refine r_iastore 101 rfl (hp_at rfl) (by decide) (by omega) (by omega) ?_
    rw [ws_124]
    refine r_aload_n 102 rfl rfl ?_
    refine r_get 103 rfl f_T_62 (hp_at rfl) rfl ?_
    refine r_iload 104 rfl rfl ?_
    refine r_aload_n 105 rfl rfl ?_
    refine r_get 106 rfl f_T_20 (hp_at rfl) rfl ?_
    refine r_iload 107 rfl rfl ?_
    refine r_iaload 108 rfl (hp_at rfl) (by decide) (by omega) (by omega) ?_
    try simp +decide only [au_ne, au_same, au_ni, fil_ne]
    refine r_iastore 109 rfl (hp_at rfl) (by decide) (by omega) (by omega) ?_
    rw [ws_125]
    refine r_aload_n 110 rfl rfl ?_
    refine r_get 111 rfl f_T_44 (hp_at rfl) rfl ?_
    refine r_iload 112 rfl rfl ?_
    refine r_bipush 113 rfl rfl ?_
    refine r_irem 114 rfl (by omega) (by omega) (by decide) (by decide) ?_
    rw [em]
    refine r_iload 115 rfl rfl ?_
    refine r_iastore 116 rfl (hp_at rfl) (by decide) (by omega) (by omega) ?_
    rw [ws_119]
    refine r_aload_n 117 rfl rfl ?_
    refine r_get 118 rfl f_T_20 (hp_at rfl) rfl ?_
    refine r_iload 119 rfl rfl ?_
    refine r_iaload 120 rfl (hp_at rfl) (by decide) (by omega) (by omega) ?_
    try simp +decide only [au_ne, au_same, au_ni, fil_ne]
    refine r_istore 121 rfl (Nat.le_of_ble_eq_true rfl) ?_
    exact hq
  · refine r_iload_n 17 rfl rfl ?_
    refine r_if_le (t := 254) 18 rfl (by decide) (by first | exact hA _ _ | exact ⟨by decide, by decide⟩ | assumption | exact ⟨by omega, by omega⟩) (fun c_25 => by omega) (fun c_25 => ?_)
    refine r_iload 19 rfl rfl ?_
    refine r_if_eq (t := 254) 20 rfl (by decide) (by first | exact hA _ _ | exact ⟨by decide, by decide⟩ | assumption | exact ⟨by omega, by omega⟩) (fun c_30 => by omega) (fun c_30 => ?_)
    refine r_iinc 21 rfl rfl ?_
    rw [et]
    refine r_aload_n 22 rfl rfl ?_
    refine r_aload_n 23 rfl rfl ?_
    refine r_get 24 rfl f_T_77 (hp_at rfl) rfl ?_
    refine r_iload_n 25 rfl rfl ?_
    refine r_iaload 26 rfl (hp_at rfl) (by decide) (by omega) (by omega) ?_
    try simp +decide only [au_ne, au_same, au_ni, fil_ne]
    rw [hs]
    refine r_callv1 27 rfl l_T_196 (hp_at rfl) (Nat.le_of_ble_eq_true rfl) ?_
    refine c_T_beginning hA x0 x1 hb hf (cp1 ?_)
    refine r_istore 28 rfl (Nat.le_of_ble_eq_true rfl) ?_
    refine r_iload 29 rfl rfl ?_
    refine r_if_lt (t := 57) 30 rfl (by decide) (by first | exact hA _ _ | exact ⟨by decide, by decide⟩ | assumption | exact ⟨by omega, by omega⟩) (fun c_50 => by omega) (fun c_50 => ?_)
    refine r_iconst 31 rfl ?_
    refine r_goto (t := 58) 32 rfl (by decide) ?_
    refine r_istore 34 rfl (Nat.le_of_ble_eq_true rfl) ?_
    refine r_iload 35 rfl rfl ?_
    refine r_if_eq (t := 251) 36 rfl (by decide) (by first | exact hA _ _ | exact ⟨by decide, by decide⟩ | assumption | exact ⟨by omega, by omega⟩) (fun c_62 => by omega) (fun c_62 => ?_)
    refine r_aload_n 37 rfl rfl ?_
    refine r_get 38 rfl f_T_74 (hp_at rfl) rfl ?_
    refine r_iload 39 rfl rfl ?_
    refine r_iaload 40 rfl (hp_at rfl) (by decide) (by omega) (by omega) ?_
    try simp +decide only [au_ne, au_same, au_ni, fil_ne]
    refine r_if_ge (t := 251) 41 rfl (by decide) (by first | exact hA _ _ | exact ⟨by decide, by decide⟩ | assumption | exact ⟨by omega, by omega⟩) (fun c_72 => by omega) (fun c_72 => ?_)
    refine r_bipush 42 rfl rfl ?_
    refine r_iload_n 43 rfl rfl ?_
    refine r_imul 44 rfl ?_
    refine r_aload_n 45 rfl rfl ?_
    refine r_get 46 rfl f_T_53 (hp_at rfl) rfl ?_
    refine r_iload_n 47 rfl rfl ?_
    refine r_iaload 48 rfl (hp_at rfl) (by decide) (by omega) (by omega) ?_
    try simp +decide only [au_ne, au_same, au_ni, fil_ne]
    rw [hc]
    refine r_iadd 49 rfl ?_
    refine r_istore 50 rfl (Nat.le_of_ble_eq_true rfl) ?_
    refine r_aload_n 51 rfl rfl ?_
    refine r_get 52 rfl f_T_74 (hp_at rfl) rfl ?_
    refine r_iload 53 rfl rfl ?_
    refine r_aload_n 54 rfl rfl ?_
    refine r_get 55 rfl f_T_53 (hp_at rfl) rfl ?_
    refine r_iload_n 56 rfl rfl ?_
    refine r_iaload 57 rfl (hp_at rfl) (by decide) (by omega) (by omega) ?_
    try simp +decide only [au_ne, au_same, au_ni, fil_ne]
    rw [hc]
    refine r_iastore 58 rfl (hp_at rfl) (by decide) (by omega) (by omega) ?_
    rw [ws_129]
    refine r_aload_n 59 rfl rfl ?_
    refine r_get 60 rfl f_T_53 (hp_at rfl) rfl ?_
    refine r_iload_n 61 rfl rfl ?_
    refine r_dup2 62 rfl rfl rfl ?_
    refine r_iaload 63 rfl (hp_at rfl) (by decide) (by omega) (by omega) ?_
    try simp +decide only [au_ne, au_same, au_ni, fil_ne]
    rw [hc]
    refine r_iconst 64 rfl ?_
    refine r_iadd 65 rfl ?_
    refine r_iastore 66 rfl (hp_at rfl) (by decide) (by omega) (by omega) ?_
    rw [ws_122]
    refine r_aload_n 67 rfl rfl ?_
    refine r_get 68 rfl f_T_56 (hp_at rfl) rfl ?_
    refine r_iload 69 rfl rfl ?_
    refine r_aload_n 70 rfl rfl ?_
    refine r_get 71 rfl f_T_13 (hp_at rfl) rfl ?_
    refine r_iload 72 rfl rfl ?_
    refine r_iaload 73 rfl (hp_at rfl) (by decide) (by omega) (by omega) ?_
    try simp +decide only [au_ne, au_same, au_ni, fil_ne]
    refine r_if_ne (t := 131) 74 rfl (by decide) (by first | exact hA _ _ | exact ⟨by decide, by decide⟩ | assumption | exact ⟨by omega, by omega⟩) (fun c_124 => ?_) (fun c_124 => by omega)
    refine r_aload_n 77 rfl rfl ?_
    refine r_get 78 rfl f_T_13 (hp_at rfl) rfl ?_
    refine r_iload 79 rfl rfl ?_
    refine r_iaload 80 rfl (hp_at rfl) (by decide) (by omega) (by omega) ?_
    try simp +decide only [au_ne, au_same, au_ni, fil_ne]
    refine r_iconst 81 rfl ?_
    refine r_icmp_ne (t := 146) 82 rfl (by decide) (by first | exact hA _ _ | exact ⟨by decide, by decide⟩ | assumption | exact ⟨by omega, by omega⟩) (by first | exact hA _ _ | exact ⟨by decide, by decide⟩ | assumption | exact ⟨by omega, by omega⟩) (fun c_139 => ?_) (fun c_139 => by omega)
    refine r_iconst 85 rfl ?_
    refine r_iastore 86 rfl (hp_at rfl) (by decide) (by omega) (by omega) ?_
    rw [ws_123]
    refine r_aload_n 87 rfl rfl ?_
    refine r_get 88 rfl f_T_59 (hp_at rfl) rfl ?_
    refine r_iload 89 rfl rfl ?_
    refine r_aload_n 90 rfl rfl ?_
    refine r_get 91 rfl f_T_13 (hp_at rfl) rfl ?_
    refine r_iload 92 rfl rfl ?_
    refine r_iaload 93 rfl (hp_at rfl) (by decide) (by omega) (by omega) ?_
    try simp +decide only [au_ne, au_same, au_ni, fil_ne]
    refine r_if_ne (t := 168) 94 rfl (by decide) (by first | exact hA _ _ | exact ⟨by decide, by decide⟩ | assumption | exact ⟨by omega, by omega⟩) (fun c_161 => ?_) (fun c_161 => by omega)
    refine r_aload_n 97 rfl rfl ?_
    refine r_get 98 rfl f_T_17 (hp_at rfl) rfl ?_
    refine r_iload 99 rfl rfl ?_
    refine r_iaload 100 rfl (hp_at rfl) (by decide) (by omega) (by omega) ?_
    try simp +decide only [au_ne, au_same, au_ni, fil_ne]
    refine r_iastore 101 rfl (hp_at rfl) (by decide) (by omega) (by omega) ?_
    rw [ws_124]
    refine r_aload_n 102 rfl rfl ?_
    refine r_get 103 rfl f_T_62 (hp_at rfl) rfl ?_
    refine r_iload 104 rfl rfl ?_
    refine r_aload_n 105 rfl rfl ?_
    refine r_get 106 rfl f_T_20 (hp_at rfl) rfl ?_
    refine r_iload 107 rfl rfl ?_
    refine r_iaload 108 rfl (hp_at rfl) (by decide) (by omega) (by omega) ?_
    try simp +decide only [au_ne, au_same, au_ni, fil_ne]
    refine r_iastore 109 rfl (hp_at rfl) (by decide) (by omega) (by omega) ?_
    rw [ws_125]
    refine r_aload_n 110 rfl rfl ?_
    refine r_get 111 rfl f_T_44 (hp_at rfl) rfl ?_
    refine r_iload 112 rfl rfl ?_
    refine r_bipush 113 rfl rfl ?_
    refine r_irem 114 rfl (by omega) (by omega) (by decide) (by decide) ?_
    rw [em]
    refine r_iload 115 rfl rfl ?_
    refine r_iastore 116 rfl (hp_at rfl) (by decide) (by omega) (by omega) ?_
    rw [ws_119]
    refine r_aload_n 117 rfl rfl ?_
    refine r_get 118 rfl f_T_20 (hp_at rfl) rfl ?_
    refine r_iload 119 rfl rfl ?_
    refine r_iaload 120 rfl (hp_at rfl) (by decide) (by omega) (by omega) ?_
    try simp +decide only [au_ne, au_same, au_ni, fil_ne]
    refine r_istore 121 rfl (Nat.le_of_ble_eq_true rfl) ?_
    exact hq
end TW56


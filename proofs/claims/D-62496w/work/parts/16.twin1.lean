/-! the twin: small methods -/
theorem q_v {Q : Outcome → xh → Prop} {a b : Int} {h : xh} (hq : Q (.returned (some (iv a))) h) (e : a = b) : Q (.returned (some (iv b))) h := e ▸ hq
theorem q_h {Q : Outcome → xh → Prop} {o : Outcome} {h h' : xh} (hq : Q o h) (e : h = h') : Q o h' := e ▸ hq
section TW1
variable {K : xk} {d : Nat} {Q : Outcome → xh → Prop} {A : Nat → Int → Int} {R : Nat → Int → Value} {g : Nat → Nat × List Value} {t u : Nat}
/-- what stands at the place -/
def tHere (A : Nat → Int → Int) : Int := if A 100 2 < A 100 0 then A 101 (A 100 2) else -1
theorem c_T_here (hA : rga A) (h0 : 0 ≤ A 100 2) (hl : A 100 0 ≤ 100) (hq : Q (.returned (some (iv (tHere A)))) (hp K.n A R g t u)) : mx K M_T_here d [.ref (xa K.n 32)] (hp K.n A R g t u) Q := by
  refine mx_in ok_T_here rfl (Nat.le_of_ble_eq_true rfl) ?_
  refine r_aload_n 0 rfl rfl ?_
  refine r_get 1 rfl f_T_103 (hp_at rfl) rfl ?_
  refine r_aload_n 2 rfl rfl ?_
  refine r_get 3 rfl f_T_99 (hp_at rfl) rfl ?_
  refine r_icmp_ge (t := 23) 4 rfl (by decide) (by first | exact hA _ _ | exact ⟨by decide, by decide⟩ | assumption | exact ⟨by omega, by omega⟩) (by first | exact hA _ _ | exact ⟨by decide, by decide⟩ | assumption | exact ⟨by omega, by omega⟩) (fun c_8 => ?_) (fun c_8 => ?_)
  · refine r_iconst 11 rfl ?_
    refine r_iret 12 rfl rfl rfl ?_
    exact q_v hq (by unfold tHere; first | exact if_pos (by omega) | exact if_neg (by omega))
  · refine r_aload_n 5 rfl rfl ?_
    refine r_get 6 rfl f_T_7 (hp_at rfl) rfl ?_
    refine r_aload_n 7 rfl rfl ?_
    refine r_get 8 rfl f_T_103 (hp_at rfl) rfl ?_
    refine r_caload 9 rfl (hp_at rfl) (by decide) (by omega) (by omega) ?_
    refine r_goto (t := 24) 10 rfl (by decide) ?_
    refine r_iret 12 rfl rfl rfl ?_
    exact q_v hq (by unfold tHere; first | exact if_pos (by omega) | exact if_neg (by omega))
theorem rg_tHere (hA : rga A) : rg (tHere A) := by
  unfold tHere
  split
  · exact hA _ _
  · exact ⟨by decide, by decide⟩
def tOut (v w : Int) : Int := if v < 0 ∨ w < v then 1 else 0
theorem c_T_outside {v w : Int} {h : xh} (hv : rg v) (hw : rg w) (hq : Q (.returned (some (iv (tOut v w)))) h) : mx K M_T_outside d [iv v, iv w] h Q := by
  refine mx_in ok_T_outside rfl (Nat.le_of_ble_eq_true rfl) ?_
  refine r_iload_n 0 rfl rfl ?_
  refine r_if_lt (t := 9) 1 rfl (by decide) (by first | exact hA _ _ | exact ⟨by decide, by decide⟩ | assumption | exact ⟨by omega, by omega⟩) (fun c_1 => ?_) (fun c_1 => ?_)
  · refine r_iconst 5 rfl ?_
    refine r_goto (t := 14) 6 rfl (by decide) ?_
    refine r_iret 8 rfl rfl (by first | rfl | assumption) ?_
    exact q_v hq (by unfold tOut; first | exact if_pos (by omega) | exact if_neg (by omega))
  · refine r_iload_n 2 rfl rfl ?_
    refine r_iload_n 3 rfl rfl ?_
    refine r_icmp_le (t := 13) 4 rfl (by decide) (by first | exact hA _ _ | exact ⟨by decide, by decide⟩ | assumption | exact ⟨by omega, by omega⟩) (by first | exact hA _ _ | exact ⟨by decide, by decide⟩ | assumption | exact ⟨by omega, by omega⟩) (fun c_6 => ?_) (fun c_6 => ?_)
    · refine r_iconst 7 rfl ?_
      refine r_iret 8 rfl rfl (by first | rfl | assumption) ?_
      exact q_v hq (by unfold tOut; first | exact if_pos (by omega) | exact if_neg (by omega))
    · refine r_iconst 5 rfl ?_
      refine r_goto (t := 14) 6 rfl (by decide) ?_
      refine r_iret 8 rfl rfl (by first | rfl | assumption) ?_
      exact q_v hq (by unfold tOut; first | exact if_pos (by omega) | exact if_neg (by omega))
theorem c_T_type {c : Int} (hA : rga A) (hc0 : 0 ≤ c) (hc : c < 65536) (h0 : 0 ≤ A 100 0) (hl : A 100 0 < 100) (hq : Q (.returned (some (iv (A 100 0 + 1)))) (hp K.n (au (au A 101 (A 100 0) c) 100 0 (A 100 0 + 1)) R g t u)) : mx K M_T_type d [.ref (xa K.n 32), iv c] (hp K.n A R g t u) Q := by
  have hnar : narrow .char (.int (Int32.ofInt c)) = .int (Int32.ofInt c) := by
    have h1 := pk_charN (q := c.toNat) (by omega)
    have h2 : nI c.toNat = Int32.ofInt c := by
      unfold nI
      rw [← Int32.ofInt_eq_ofNat, Int.toNat_of_nonneg hc0]
    rw [h2] at h1
    exact h1.1
  refine mx_in ok_T_type rfl (Nat.le_of_ble_eq_true rfl) ?_
  refine r_aload_n 0 rfl rfl ?_
  refine r_get 1 rfl f_T_99 (hp_at rfl) rfl ?_
  refine r_bipush 2 rfl rfl ?_
  refine r_icmp_ne (t := 11) 3 rfl (by decide) (by first | exact hA _ _ | exact ⟨by decide, by decide⟩ | assumption | exact ⟨by omega, by omega⟩) (by first | exact hA _ _ | exact ⟨by decide, by decide⟩ | assumption | exact ⟨by omega, by omega⟩) (fun c_6 => ?_) (fun c_6 => ?_)
  · refine r_aload_n 6 rfl rfl ?_
    refine r_get 7 rfl f_T_7 (hp_at rfl) rfl ?_
    refine r_aload_n 8 rfl rfl ?_
    refine r_get 9 rfl f_T_99 (hp_at rfl) rfl ?_
    refine r_iload_n 10 rfl rfl ?_
    refine r_castore 11 rfl (hp_at rfl) (by decide) (by omega) (by omega) (by assumption) ?_
    rw [ws_101]
    refine r_aload_n 12 rfl rfl ?_
    refine r_dup 13 rfl rfl ?_
    refine r_get 14 rfl f_T_99 (hp_at rfl) rfl ?_
    refine r_iconst 15 rfl ?_
    refine r_iadd 16 rfl ?_
    refine r_put 17 rfl f_T_99 (hp_at rfl) rfl rfl ?_
    rw [wT_0]
    refine r_aload_n 18 rfl rfl ?_
    refine r_get 19 rfl f_T_99 (hp_at rfl) rfl ?_
    refine r_iret 20 rfl rfl rfl ?_
    exact q_v hq (by simp [au, fu])
  · omega
/-- wrong(at) -/
def tWr (A : Nat → Int → Int) (x : Int) : Nat → Int → Int := au A 100 3 (if A 100 3 < 0 then x else A 100 3)
theorem c_T_wrong {x : Int} (hA : rga A) (hq : Q (.returned none) (hp K.n (tWr A x) R g t u)) : mx K M_T_wrong d [.ref (xa K.n 32), iv x] (hp K.n A R g t u) Q := by
  refine mx_in ok_T_wrong rfl (Nat.le_of_ble_eq_true rfl) ?_
  refine r_aload_n 0 rfl rfl ?_
  refine r_aload_n 1 rfl rfl ?_
  refine r_get 2 rfl f_T_106 (hp_at rfl) rfl ?_
  refine r_if_ge (t := 12) 3 rfl (by decide) (by first | exact hA _ _ | exact ⟨by decide, by decide⟩ | assumption | exact ⟨by omega, by omega⟩) (fun c_5 => ?_) (fun c_5 => ?_)
  · refine r_aload_n 6 rfl rfl ?_
    refine r_get 7 rfl f_T_106 (hp_at rfl) rfl ?_
    refine r_put 8 rfl f_T_106 (hp_at rfl) rfl rfl ?_
    rw [wT_3]
    refine r_ret 9 rfl rfl ?_
    exact q_h hq (by unfold tWr; first | rw [if_pos (by omega)] | rw [if_neg (by omega)])
  · refine r_iload_n 4 rfl rfl ?_
    refine r_goto (t := 16) 5 rfl (by decide) ?_
    refine r_put 8 rfl f_T_106 (hp_at rfl) rfl rfl ?_
    rw [wT_3]
    refine r_ret 9 rfl rfl ?_
    exact q_h hq (by unfold tWr; first | rw [if_pos (by omega)] | rw [if_neg (by omega)])
theorem c_T_machineOf {r : Int} (hA : rga A) (h0 : 0 ≤ r) (h1 : r < 4) (hq : Q (.returned (some (iv (if 0 < A 122 (4 + r) then 4 + r else r)))) (hp K.n A R g t u)) : mx K M_T_machineOf d [.ref (xa K.n 32), iv r] (hp K.n A R g t u) Q := by
  refine mx_in ok_T_machineOf rfl (Nat.le_of_ble_eq_true rfl) ?_
  refine r_aload_n 0 rfl rfl ?_
  refine r_get 1 rfl f_T_53 (hp_at rfl) rfl ?_
  refine r_iconst 2 rfl ?_
  refine r_iload_n 3 rfl rfl ?_
  refine r_iadd 4 rfl ?_
  refine r_iaload 5 rfl (hp_at rfl) (by decide) (by omega) (by omega) ?_
  refine r_if_le (t := 17) 6 rfl (by decide) (by first | exact hA _ _ | exact ⟨by decide, by decide⟩ | assumption | exact ⟨by omega, by omega⟩) (fun c_8 => ?_) (fun c_8 => ?_)
  · refine r_iload_n 11 rfl rfl ?_
    refine r_iret 12 rfl rfl rfl ?_
    exact q_v hq (by first | exact if_pos (by omega) | exact if_neg (by omega))
  · refine r_iconst 7 rfl ?_
    refine r_iload_n 8 rfl rfl ?_
    refine r_iadd 9 rfl ?_
    refine r_goto (t := 18) 10 rfl (by decide) ?_
    refine r_iret 12 rfl rfl rfl ?_
    exact q_v hq (by first | exact if_pos (by omega) | exact if_neg (by omega))
def tmo (A : Nat → Int → Int) (r : Int) : Int := if 0 < A 122 (4 + r) then 4 + r else r
def tso (A : Nat → Int → Int) (r : Int) : Int := 31 * tmo A r + A 134 r
theorem tmo_rg (A : Nat → Int → Int) {r : Int} (h0 : 0 ≤ r) (h1 : r < 4) : 0 ≤ tmo A r ∧ tmo A r < 8 := by
  unfold tmo
  split <;> omega
theorem c_T_stateOf {r : Int} (hA : rga A) (h0 : 0 ≤ r) (h1 : r < 4) (hq : Q (.returned (some (iv (tso A r)))) (hp K.n A R g t u)) : mx K M_T_stateOf (d + 1) [.ref (xa K.n 32), iv r] (hp K.n A R g t u) Q := by
  refine mx_in ok_T_stateOf rfl (Nat.le_of_ble_eq_true rfl) ?_
  refine r_bipush 0 rfl rfl ?_
  refine r_aload_n 1 rfl rfl ?_
  refine r_iload_n 2 rfl rfl ?_
  refine r_callv1 3 rfl l_T_226 (hp_at rfl) (Nat.le_of_ble_eq_true rfl) ?_
  refine c_T_machineOf hA h0 h1 (cp1 ?_)
  refine r_imul 4 rfl ?_
  refine r_aload_n 5 rfl rfl ?_
  refine r_get 6 rfl f_T_84 (hp_at rfl) rfl ?_
  refine r_iload_n 7 rfl rfl ?_
  refine r_iaload 8 rfl (hp_at rfl) (by decide) (by omega) (by omega) ?_
  refine r_iadd 9 rfl ?_
  refine r_iret 10 rfl rfl rfl ?_
  exact q_v hq (by unfold tso tmo; rfl)
theorem c_T_size {w : Int} (hw : rg w) (hA : rga A) (hq : Q (.returned (some (iv (if w = 0 then A 100 0 else if w = 1 then (if A 100 13 = 0 then 0 else A 100 12) else if w = 2 then (if A 100 32 = 0 then 0 else 1) else if w = 3 then (if A 100 32 = 0 then 0 else A 100 33) else -1)))) (hp K.n A R g t u)) : mx K M_T_size d [.ref (xa K.n 32), iv w] (hp K.n A R g t u) Q := by
  refine mx_in ok_T_size rfl (Nat.le_of_ble_eq_true rfl) ?_
  refine r_iload_n 0 rfl rfl ?_
  by_cases e0 : w = 0
  · subst e0
    refine r_tableIn (t := 32) 1 rfl hw (by decide) (by decide) rfl (by decide) ?_
    refine r_aload_n 2 rfl rfl ?_
    refine r_get 3 rfl f_T_99 (hp_at rfl) rfl ?_
    refine r_iret 4 rfl rfl rfl ?_
    exact q_v hq (by simp)
  by_cases e1 : w = 1
  · subst e1
    refine r_tableIn (t := 37) 1 rfl hw (by decide) (by decide) rfl (by decide) ?_
    refine r_aload_n 5 rfl rfl ?_
    refine r_get 6 rfl f_T_203 (hp_at rfl) rfl ?_
    refine r_if_eq (t := 51) 7 rfl (by decide) (by first | exact hA _ _ | exact ⟨by decide, by decide⟩ | assumption | exact ⟨by omega, by omega⟩) (fun c_41 => ?_) (fun c_41 => ?_)
    · refine r_iconst 11 rfl ?_
      refine r_iret 12 rfl rfl rfl ?_
      exact q_v hq (by first | (simp [*]; done) | simp_all)
    · refine r_aload_n 8 rfl rfl ?_
      refine r_get 9 rfl f_T_156 (hp_at rfl) rfl ?_
      refine r_goto (t := 52) 10 rfl (by decide) ?_
      refine r_iret 12 rfl rfl rfl ?_
      exact q_v hq (by first | (simp [*]; done) | simp_all)
  by_cases e2 : w = 2
  · subst e2
    refine r_tableIn (t := 53) 1 rfl hw (by decide) (by decide) rfl (by decide) ?_
    refine r_aload_n 13 rfl rfl ?_
    refine r_get 14 rfl f_T_207 (hp_at rfl) rfl ?_
    refine r_if_eq (t := 64) 15 rfl (by decide) (by first | exact hA _ _ | exact ⟨by decide, by decide⟩ | assumption | exact ⟨by omega, by omega⟩) (fun c_57 => ?_) (fun c_57 => ?_)
    · refine r_iconst 18 rfl ?_
      refine r_iret 19 rfl rfl rfl ?_
      exact q_v hq (by first | (simp [*]; done) | simp_all)
    · refine r_iconst 16 rfl ?_
      refine r_goto (t := 65) 17 rfl (by decide) ?_
      refine r_iret 19 rfl rfl rfl ?_
      exact q_v hq (by first | (simp [*]; done) | simp_all)
  by_cases e3 : w = 3
  · subst e3
    refine r_tableIn (t := 66) 1 rfl hw (by decide) (by decide) rfl (by decide) ?_
    refine r_aload_n 20 rfl rfl ?_
    refine r_get 21 rfl f_T_207 (hp_at rfl) rfl ?_
    refine r_if_eq (t := 80) 22 rfl (by decide) (by first | exact hA _ _ | exact ⟨by decide, by decide⟩ | assumption | exact ⟨by omega, by omega⟩) (fun c_70 => ?_) (fun c_70 => ?_)
    · refine r_iconst 26 rfl ?_
      refine r_iret 27 rfl rfl rfl ?_
      exact q_v hq (by first | (simp [*]; done) | simp_all)
    · refine r_aload_n 23 rfl rfl ?_
      refine r_get 24 rfl f_T_229 (hp_at rfl) rfl ?_
      refine r_goto (t := 81) 25 rfl (by decide) ?_
      refine r_iret 27 rfl rfl rfl ?_
      exact q_v hq (by first | (simp [*]; done) | simp_all)
  · refine r_tableOut (t := 82) 1 rfl hw (by omega) (by decide) ?_
    refine r_iconst 28 rfl ?_
    refine r_iret 29 rfl rfl rfl ?_
    exact q_v hq (by simp [e0, e1, e2, e3])
theorem c_T_part {r : Int} (hr : rg r) (hA : rga A) (hq : Q (.returned (some (iv (if r < 0 ∨ 3 < r ∨ A 100 13 = 0 then -1 else A 122 r)))) (hp K.n A R g t u)) : mx K M_T_part (d + 1) [.ref (xa K.n 32), iv r] (hp K.n A R g t u) Q := by
  refine mx_in ok_T_part rfl (Nat.le_of_ble_eq_true rfl) ?_
  refine r_iload_n 0 rfl rfl ?_
  refine r_iconst 1 rfl ?_
  refine r_calls2 2 rfl l_T_117 (Nat.le_of_ble_eq_true rfl) ?_
  refine c_T_outside hr ⟨by decide, by decide⟩ (cp1 ?_)
  have ho : tOut r 3 = if r < 0 ∨ 3 < r then 1 else 0 := rfl
  have hor : rg (tOut r 3) := by rw [ho]; split <;> exact ⟨by decide, by decide⟩
  refine r_if_ne (t := 15) 3 rfl (by decide) (by first | exact hA _ _ | exact ⟨by decide, by decide⟩ | assumption | exact ⟨by omega, by omega⟩) (fun c_5 => ?_) (fun c_5 => ?_)
  · refine r_iconst 7 rfl ?_
    refine r_goto (t := 25) 8 rfl (by decide) ?_
    refine r_iret 13 rfl rfl rfl ?_
    exact q_v hq (by by_cases h : r < 0 ∨ 3 < r <;> simp_all [tOut] <;> omega)
  · have hin : ¬ (r < 0 ∨ 3 < r) := by intro h; rw [ho, if_pos h] at c_5; omega
    refine r_aload_n 4 rfl rfl ?_
    refine r_get 5 rfl f_T_203 (hp_at rfl) rfl ?_
    refine r_if_ne (t := 19) 6 rfl (by decide) (by first | exact hA _ _ | exact ⟨by decide, by decide⟩ | assumption | exact ⟨by omega, by omega⟩) (fun c_12 => ?_) (fun c_12 => ?_)
    · have hin2 : ¬ (r < 0 ∨ 3 < r) := by first | exact hin | (intro h; rw [ho, if_pos h] at c_5; omega)
      refine r_aload_n 9 rfl rfl ?_
      refine r_get 10 rfl f_T_53 (hp_at rfl) rfl ?_
      refine r_iload_n 11 rfl rfl ?_
      refine r_iaload 12 rfl (hp_at rfl) (by decide) (by omega) (by omega) ?_
      refine r_iret 13 rfl rfl rfl ?_
      exact q_v hq (by by_cases h : r < 0 ∨ 3 < r <;> simp_all [tOut] <;> omega)
    · refine r_iconst 7 rfl ?_
      refine r_goto (t := 25) 8 rfl (by decide) ?_
      refine r_iret 13 rfl rfl rfl ?_
      exact q_v hq (by by_cases h : r < 0 ∨ 3 < r <;> simp_all [tOut] <;> omega)
end TW1


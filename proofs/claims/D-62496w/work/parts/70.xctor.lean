/-! the class: constructors -/
section XC70
variable {K : xk} {M : xm} {d : Nat} {Q : Outcome → xh → Prop} {A : Nat → Int → Int} {R : Nat → Int → Value} {g : Nat → Nat × List Value} {t u : Nat}
theorem gu_gu (g : Nat → Nat × List Value) (a : Nat) (c c' : Nat × List Value) : gu (gu g a c) a c' = gu g a c' := by
  funext q
  unfold gu
  split <;> rfl
theorem gu_id (g : Nat → Nat × List Value) (a : Nat) : gu g a (g a) = g := by
  funext q
  unfold gu
  split
  · rename_i h; rw [h]
  · rfl
theorem c_Global_init {a : Nat} {h : xh} (hq : Q (.returned none) h) : mx K M_Global_init (d + 1) [.ref a] h Q := by
  refine mx_in ok_Global_init rfl (Nat.le_of_ble_eq_true rfl) ?_
  refine r_aload_n 0 rfl rfl ?_
  refine r_objInit 1 rfl l_Global_1 oi_1 oi_2 (Nat.le_of_ble_eq_true rfl) ?_
  refine r_ret 2 rfl rfl ?_
  exact hq
theorem c_Local_init {a : Nat} {h : xh} (hq : Q (.returned none) h) : mx K M_Local_init (d + 1) [.ref a] h Q := by
  refine mx_in ok_Local_init rfl (Nat.le_of_ble_eq_true rfl) ?_
  refine r_aload_n 0 rfl rfl ?_
  refine r_objInit 1 rfl l_Local_1 oi_1 oi_2 (Nat.le_of_ble_eq_true rfl) ?_
  refine r_ret 2 rfl rfl ?_
  exact hq
theorem c_GlobalEnd_init {a : Nat}  (ha : K.n + 62 ≤ a) (hg : g a = (3, [])) (hq : Q (.returned none) (hp K.n A R (g) t u)) : mx K M_GlobalEnd_init (d + 2) [.ref a] (hp K.n A R g t u) Q := by
  refine mx_in ok_GlobalEnd_init rfl (Nat.le_of_ble_eq_true rfl) ?_
  refine r_aload_n 0 rfl rfl ?_
  refine r_calli0 1 rfl l_GlobalEnd_1 (Nat.le_of_ble_eq_true rfl) ?_
  refine c_Global_init (cp0 ?_)
  refine r_ret 2 rfl rfl ?_
  exact hq
theorem c_GlobalVariable_init {a : Nat} {x0 : Int} (ha : K.n + 62 ≤ a) (hg : g a = (4, [iv 0])) (hq : Q (.returned none) (hp K.n A R (gu g a (4, [iv x0])) t u)) : mx K M_GlobalVariable_init (d + 2) [.ref a, iv x0] (hp K.n A R g t u) Q := by
  refine mx_in ok_GlobalVariable_init rfl (Nat.le_of_ble_eq_true rfl) ?_
  refine r_aload_n 0 rfl rfl ?_
  refine r_calli0 1 rfl l_GlobalVariable_1 (Nat.le_of_ble_eq_true rfl) ?_
  refine c_Global_init (cp0 ?_)
  refine r_aload_n 2 rfl rfl ?_
  refine r_iload_n 3 rfl rfl ?_
  refine r_putFg 4 rfl f_GlobalVariable_7 rfl rfl g_GlobalVariable_7.2.2 (by omega) hg (by first | rfl | assumption) (by first | rfl | assumption) ?_
  refine r_ret 5 rfl rfl ?_
  exact hq
theorem c_GlobalLoop_init {a : Nat} {x0 : Int} {x1 : Nat} (ha : K.n + 62 ≤ a) (hg : g a = (5, [iv 0, .null])) (hq : Q (.returned none) (hp K.n A R (gu g a (5, [iv x0, .ref x1])) t u)) : mx K M_GlobalLoop_init (d + 2) [.ref a, iv x0, .ref x1] (hp K.n A R g t u) Q := by
  refine mx_in ok_GlobalLoop_init rfl (Nat.le_of_ble_eq_true rfl) ?_
  refine r_aload_n 0 rfl rfl ?_
  refine r_calli0 1 rfl l_GlobalLoop_1 (Nat.le_of_ble_eq_true rfl) ?_
  refine c_Global_init (cp0 ?_)
  refine r_aload_n 2 rfl rfl ?_
  refine r_iload_n 3 rfl rfl ?_
  refine r_putFg 4 rfl f_GlobalLoop_7 rfl rfl g_GlobalLoop_7.2.2 (by omega) hg (by first | rfl | assumption) (by first | rfl | assumption) ?_
  refine r_aload_n 5 rfl rfl ?_
  first | refine r_aload_n 6 rfl rfl ?_ | refine r_aload_nN 6 rfl rfl ?_
  refine r_putFg 7 rfl f_GlobalLoop_13 rfl rfl g_GlobalLoop_13.2.2 (by omega) (gu_s _ _ _) (by first | rfl | assumption) (by first | rfl | assumption) ?_
  rw [gu_gu]
  refine r_ret 8 rfl rfl ?_
  exact hq
theorem c_GlobalMessage_init {a : Nat} {x0 : Int} {x1 : Int} (ha : K.n + 62 ≤ a) (hg : g a = (6, [iv 0, iv 0, .null])) (hq : Q (.returned none) (hp K.n A R (gu g a (6, [iv x0, iv x1, .null])) t u)) : mx K M_GlobalMessage_init (d + 2) [.ref a, iv x0, iv x1] (hp K.n A R g t u) Q := by
  refine mx_in ok_GlobalMessage_init rfl (Nat.le_of_ble_eq_true rfl) ?_
  refine r_aload_n 0 rfl rfl ?_
  refine r_calli0 1 rfl l_GlobalMessage_1 (Nat.le_of_ble_eq_true rfl) ?_
  refine c_Global_init (cp0 ?_)
  refine r_aload_n 2 rfl rfl ?_
  refine r_iload_n 3 rfl rfl ?_
  refine r_putFg 4 rfl f_GlobalMessage_7 rfl rfl g_GlobalMessage_7.2.2 (by omega) hg (by first | rfl | assumption) (by first | rfl | assumption) ?_
  refine r_aload_n 5 rfl rfl ?_
  refine r_iload_n 6 rfl rfl ?_
  refine r_putFg 7 rfl f_GlobalMessage_13 rfl rfl g_GlobalMessage_13.2.2 (by omega) (gu_s _ _ _) (by first | rfl | assumption) (by first | rfl | assumption) ?_
  rw [gu_gu]
  refine r_ret 8 rfl rfl ?_
  exact hq
theorem c_GlobalBranch_init {a : Nat} {x0 : Int} {x1 : Int} {x2 : Nat} (ha : K.n + 62 ≤ a) (hg : g a = (7, [iv 0, iv 0, .null, .null])) (hq : Q (.returned none) (hp K.n A R (gu g a (7, [iv x0, iv x1, .ref x2, .null])) t u)) : mx K M_GlobalBranch_init (d + 1) [.ref a, iv x0, iv x1, .ref x2] (hp K.n A R g t u) Q := by
  refine mx_in ok_GlobalBranch_init rfl (Nat.le_of_ble_eq_true rfl) ?_
  refine r_aload_n 0 rfl rfl ?_
  refine r_objInit 1 rfl l_GlobalBranch_1 oi_1 oi_2 (Nat.le_of_ble_eq_true rfl) ?_
  refine r_aload_n 2 rfl rfl ?_
  refine r_iload_n 3 rfl rfl ?_
  refine r_putFg 4 rfl f_GlobalBranch_7 rfl rfl g_GlobalBranch_7.2.2 (by omega) hg (by first | rfl | assumption) (by first | rfl | assumption) ?_
  refine r_aload_n 5 rfl rfl ?_
  refine r_iload_n 6 rfl rfl ?_
  refine r_putFg 7 rfl f_GlobalBranch_13 rfl rfl g_GlobalBranch_13.2.2 (by omega) (gu_s _ _ _) (by first | rfl | assumption) (by first | rfl | assumption) ?_
  refine r_aload_n 8 rfl rfl ?_
  first | refine r_aload_n 9 rfl rfl ?_ | refine r_aload_nN 9 rfl rfl ?_
  refine r_putFg 10 rfl f_GlobalBranch_16 rfl rfl g_GlobalBranch_16.2.2 (by omega) (gu_s _ _ _) (by first | rfl | assumption) (by first | rfl | assumption) ?_
  rw [gu_gu, gu_gu]
  refine r_ret 11 rfl rfl ?_
  exact hq
theorem c_End_init {a : Nat}  (ha : K.n + 62 ≤ a) (hg : g a = (8, [])) (hq : Q (.returned none) (hp K.n A R (g) t u)) : mx K M_End_init (d + 2) [.ref a] (hp K.n A R g t u) Q := by
  refine mx_in ok_End_init rfl (Nat.le_of_ble_eq_true rfl) ?_
  refine r_aload_n 0 rfl rfl ?_
  refine r_calli0 1 rfl l_End_1 (Nat.le_of_ble_eq_true rfl) ?_
  refine c_Local_init (cp0 ?_)
  refine r_ret 2 rfl rfl ?_
  exact hq
theorem c_Variable_init {a : Nat} {x0 : Int} (ha : K.n + 62 ≤ a) (hg : g a = (9, [iv 0])) (hq : Q (.returned none) (hp K.n A R (gu g a (9, [iv x0])) t u)) : mx K M_Variable_init (d + 2) [.ref a, iv x0] (hp K.n A R g t u) Q := by
  refine mx_in ok_Variable_init rfl (Nat.le_of_ble_eq_true rfl) ?_
  refine r_aload_n 0 rfl rfl ?_
  refine r_calli0 1 rfl l_Variable_1 (Nat.le_of_ble_eq_true rfl) ?_
  refine c_Local_init (cp0 ?_)
  refine r_aload_n 2 rfl rfl ?_
  refine r_iload_n 3 rfl rfl ?_
  refine r_putFg 4 rfl f_Variable_7 rfl rfl g_Variable_7.2.2 (by omega) hg (by first | rfl | assumption) (by first | rfl | assumption) ?_
  refine r_ret 5 rfl rfl ?_
  exact hq
theorem c_Loop_init {a : Nat} {x0 : Int} {x1 : Nat} (ha : K.n + 62 ≤ a) (hg : g a = (10, [iv 0, .null])) (hq : Q (.returned none) (hp K.n A R (gu g a (10, [iv x0, .ref x1])) t u)) : mx K M_Loop_init (d + 2) [.ref a, iv x0, .ref x1] (hp K.n A R g t u) Q := by
  refine mx_in ok_Loop_init rfl (Nat.le_of_ble_eq_true rfl) ?_
  refine r_aload_n 0 rfl rfl ?_
  refine r_calli0 1 rfl l_Loop_1 (Nat.le_of_ble_eq_true rfl) ?_
  refine c_Local_init (cp0 ?_)
  refine r_aload_n 2 rfl rfl ?_
  refine r_iload_n 3 rfl rfl ?_
  refine r_putFg 4 rfl f_Loop_7 rfl rfl g_Loop_7.2.2 (by omega) hg (by first | rfl | assumption) (by first | rfl | assumption) ?_
  refine r_aload_n 5 rfl rfl ?_
  first | refine r_aload_n 6 rfl rfl ?_ | refine r_aload_nN 6 rfl rfl ?_
  refine r_putFg 7 rfl f_Loop_13 rfl rfl g_Loop_13.2.2 (by omega) (gu_s _ _ _) (by first | rfl | assumption) (by first | rfl | assumption) ?_
  rw [gu_gu]
  refine r_ret 8 rfl rfl ?_
  exact hq
theorem c_Choice_init {a : Nat} {x0 : Int} {x1 : Int} (hz0 : x0 = 0 ∨ x0 = 1) (ha : K.n + 62 ≤ a) (hg : g a = (11, [iv 0, iv 0, .null, .null])) (hq : Q (.returned none) (hp K.n A R (gu g a (11, [iv x0, iv x1, .null, .null])) t u)) : mx K M_Choice_init (d + 2) [.ref a, iv x0, iv x1] (hp K.n A R g t u) Q := by
  refine mx_in ok_Choice_init rfl (Nat.le_of_ble_eq_true rfl) ?_
  have hn0 : narrow .boolean (iv x0) = iv x0 := by rcases hz0 with e | e <;> rw [e] <;> rfl
  have hf0 : fits .boolean (iv x0) = true := by rcases hz0 with e | e <;> rw [e] <;> rfl
  refine r_aload_n 0 rfl rfl ?_
  refine r_calli0 1 rfl l_Choice_1 (Nat.le_of_ble_eq_true rfl) ?_
  refine c_Local_init (cp0 ?_)
  refine r_aload_n 2 rfl rfl ?_
  refine r_iload_n 3 rfl rfl ?_
  refine r_putFg 4 rfl f_Choice_7 rfl rfl g_Choice_7.2.2 (by omega) hg (by first | rfl | assumption) (by first | rfl | assumption) ?_
  refine r_aload_n 5 rfl rfl ?_
  refine r_iload_n 6 rfl rfl ?_
  refine r_putFg 7 rfl f_Choice_13 rfl rfl g_Choice_13.2.2 (by omega) (gu_s _ _ _) (by first | rfl | assumption) (by first | rfl | assumption) ?_
  rw [gu_gu]
  refine r_ret 8 rfl rfl ?_
  exact hq
theorem c_Branch_init {a : Nat} {x0 : Int} {x1 : Int} {x2 : Nat} (ha : K.n + 62 ≤ a) (hg : g a = (12, [iv 0, iv 0, .null, .null])) (hq : Q (.returned none) (hp K.n A R (gu g a (12, [iv x0, iv x1, .ref x2, .null])) t u)) : mx K M_Branch_init (d + 1) [.ref a, iv x0, iv x1, .ref x2] (hp K.n A R g t u) Q := by
  refine mx_in ok_Branch_init rfl (Nat.le_of_ble_eq_true rfl) ?_
  refine r_aload_n 0 rfl rfl ?_
  refine r_objInit 1 rfl l_Branch_1 oi_1 oi_2 (Nat.le_of_ble_eq_true rfl) ?_
  refine r_aload_n 2 rfl rfl ?_
  refine r_iload_n 3 rfl rfl ?_
  refine r_putFg 4 rfl f_Branch_7 rfl rfl g_Branch_7.2.2 (by omega) hg (by first | rfl | assumption) (by first | rfl | assumption) ?_
  refine r_aload_n 5 rfl rfl ?_
  refine r_iload_n 6 rfl rfl ?_
  refine r_putFg 7 rfl f_Branch_13 rfl rfl g_Branch_13.2.2 (by omega) (gu_s _ _ _) (by first | rfl | assumption) (by first | rfl | assumption) ?_
  refine r_aload_n 8 rfl rfl ?_
  first | refine r_aload_n 9 rfl rfl ?_ | refine r_aload_nN 9 rfl rfl ?_
  refine r_putFg 10 rfl f_Branch_16 rfl rfl g_Branch_16.2.2 (by omega) (gu_s _ _ _) (by first | rfl | assumption) (by first | rfl | assumption) ?_
  rw [gu_gu, gu_gu]
  refine r_ret 11 rfl rfl ?_
  exact hq
theorem c_Frame_init {a : Nat} {x0 : Int} {x1 : Value} (hv1 : x1 = .null ∨ ∃ b, x1 = .ref b) (ha : K.n + 62 ≤ a) (hg : g a = (13, [iv 0, .null, .null])) (hq : Q (.returned none) (hp K.n A R (gu g a (13, [iv x0, x1, .null])) t u)) : mx K M_Frame_init (d + 1) [.ref a, iv x0, x1] (hp K.n A R g t u) Q := by
  rcases hv1 with e | ⟨b, e⟩
  · subst e
    refine mx_in ok_Frame_init rfl (Nat.le_of_ble_eq_true rfl) ?_
    refine r_aload_n 0 rfl rfl ?_
    refine r_objInit 1 rfl l_Frame_1 oi_1 oi_2 (Nat.le_of_ble_eq_true rfl) ?_
    refine r_aload_n 2 rfl rfl ?_
    refine r_iload_n 3 rfl rfl ?_
    refine r_putFg 4 rfl f_Frame_7 rfl rfl g_Frame_7.2.2 (by omega) hg (by first | rfl | assumption) (by first | rfl | assumption) ?_
    refine r_aload_n 5 rfl rfl ?_
    first | refine r_aload_n 6 rfl rfl ?_ | refine r_aload_nN 6 rfl rfl ?_
    refine r_putFg 7 rfl f_Frame_13 rfl rfl g_Frame_13.2.2 (by omega) (gu_s _ _ _) (by first | rfl | assumption) (by first | rfl | assumption) ?_
    rw [gu_gu]
    refine r_ret 8 rfl rfl ?_
    exact hq
  · subst e
    refine mx_in ok_Frame_init rfl (Nat.le_of_ble_eq_true rfl) ?_
    refine r_aload_n 0 rfl rfl ?_
    refine r_objInit 1 rfl l_Frame_1 oi_1 oi_2 (Nat.le_of_ble_eq_true rfl) ?_
    refine r_aload_n 2 rfl rfl ?_
    refine r_iload_n 3 rfl rfl ?_
    refine r_putFg 4 rfl f_Frame_7 rfl rfl g_Frame_7.2.2 (by omega) hg (by first | rfl | assumption) (by first | rfl | assumption) ?_
    refine r_aload_n 5 rfl rfl ?_
    first | refine r_aload_n 6 rfl rfl ?_ | refine r_aload_nN 6 rfl rfl ?_
    refine r_putFg 7 rfl f_Frame_13 rfl rfl g_Frame_13.2.2 (by omega) (gu_s _ _ _) (by first | rfl | assumption) (by first | rfl | assumption) ?_
    rw [gu_gu]
    refine r_ret 8 rfl rfl ?_
    exact hq
theorem c_Step_init {a : Nat} {x0 : Int} {x1 : Int} {x2 : Nat} (ha : K.n + 62 ≤ a) (hg : g a = (14, [iv 0, iv 0, .null, .null])) (hq : Q (.returned none) (hp K.n A R (gu g a (14, [iv x0, iv x1, .ref x2, .null])) t u)) : mx K M_Step_init (d + 1) [.ref a, iv x0, iv x1, .ref x2] (hp K.n A R g t u) Q := by
  refine mx_in ok_Step_init rfl (Nat.le_of_ble_eq_true rfl) ?_
  refine r_aload_n 0 rfl rfl ?_
  refine r_objInit 1 rfl l_Step_1 oi_1 oi_2 (Nat.le_of_ble_eq_true rfl) ?_
  refine r_aload_n 2 rfl rfl ?_
  refine r_iload_n 3 rfl rfl ?_
  refine r_putFg 4 rfl f_Step_7 rfl rfl g_Step_7.2.2 (by omega) hg (by first | rfl | assumption) (by first | rfl | assumption) ?_
  refine r_aload_n 5 rfl rfl ?_
  refine r_iload_n 6 rfl rfl ?_
  refine r_putFg 7 rfl f_Step_13 rfl rfl g_Step_13.2.2 (by omega) (gu_s _ _ _) (by first | rfl | assumption) (by first | rfl | assumption) ?_
  refine r_aload_n 8 rfl rfl ?_
  first | refine r_aload_n 9 rfl rfl ?_ | refine r_aload_nN 9 rfl rfl ?_
  refine r_putFg 10 rfl f_Step_16 rfl rfl g_Step_16.2.2 (by omega) (gu_s _ _ _) (by first | rfl | assumption) (by first | rfl | assumption) ?_
  rw [gu_gu, gu_gu]
  refine r_ret 11 rfl rfl ?_
  exact hq
theorem c_State_init {a : Nat} {x0 : Int} {x1 : Int} {x2 : Int} (ha : K.n + 62 ≤ a) (hg : g a = (15, [iv 0, iv 0, iv 0, .null, .null, iv 0, .null])) (hq : Q (.returned none) (hp K.n A R (gu g a (15, [iv x0, iv x1, iv x2, .null, .null, iv 0, .null])) t u)) : mx K M_State_init (d + 1) [.ref a, iv x0, iv x1, iv x2] (hp K.n A R g t u) Q := by
  refine mx_in ok_State_init rfl (Nat.le_of_ble_eq_true rfl) ?_
  refine r_aload_n 0 rfl rfl ?_
  refine r_objInit 1 rfl l_State_1 oi_1 oi_2 (Nat.le_of_ble_eq_true rfl) ?_
  refine r_aload_n 2 rfl rfl ?_
  refine r_iload_n 3 rfl rfl ?_
  refine r_putFg 4 rfl f_State_7 rfl rfl g_State_7.2.2 (by omega) hg (by first | rfl | assumption) (by first | rfl | assumption) ?_
  refine r_aload_n 5 rfl rfl ?_
  refine r_iload_n 6 rfl rfl ?_
  refine r_putFg 7 rfl f_State_13 rfl rfl g_State_13.2.2 (by omega) (gu_s _ _ _) (by first | rfl | assumption) (by first | rfl | assumption) ?_
  refine r_aload_n 8 rfl rfl ?_
  refine r_iload_n 9 rfl rfl ?_
  refine r_putFg 10 rfl f_State_16 rfl rfl g_State_16.2.2 (by omega) (gu_s _ _ _) (by first | rfl | assumption) (by first | rfl | assumption) ?_
  rw [gu_gu, gu_gu]
  refine r_ret 11 rfl rfl ?_
  exact hq
theorem c_Machine_init {a : Nat}  (ha : K.n + 62 ≤ a) (hg : g a = (16, [.null, .null, iv 0])) (hq : Q (.returned none) (hp K.n A R (g) t u)) : mx K M_Machine_init (d + 1) [.ref a] (hp K.n A R g t u) Q := by
  refine mx_in ok_Machine_init rfl (Nat.le_of_ble_eq_true rfl) ?_
  refine r_aload_n 0 rfl rfl ?_
  refine r_objInit 1 rfl l_Machine_1 oi_1 oi_2 (Nat.le_of_ble_eq_true rfl) ?_
  refine r_ret 2 rfl rfl ?_
  exact hq
end XC70


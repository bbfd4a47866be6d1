/-! the class: cells made later; the reader's small methods -/
section XR68
variable {K : xk} {M : xm} {d : Nat} {Q : Outcome → xh → Prop} {A : Nat → Int → Int} {R : Nat → Int → Value} {g : Nat → Nat × List Value} {t u : Nat}
theorem hpg {a : Nat} {c : Nat × List Value} (ha : K.n + 62 ≤ a) (h : g a = c) : (hp K.n A R g t u).1 a = c := (hp_g ha).trans h
theorem gu_s (g : Nat → Nat × List Value) (a : Nat) (c : Nat × List Value) : gu g a c a = c := if_pos rfl
theorem gu_n (g : Nat → Nat × List Value) {a b : Nat} (c : Nat × List Value) (h : b ≠ a) : gu g a c b = g b := if_neg h
section
variable {pc : Nat} {L : List (Option Value)} {st : List Value}
theorem r_newg (j : Nat) {idx ci n : Nat} {fs : List Value} (hd : M.t[j]? = some (pc, .new idx, 3)) (hf : ncl M.y.cls idx ci) (hfs : dfl ci = fs) (hn : fs.length = n) (ht : K.n + 62 ≤ t) (b1 : t + 1 ≤ K.n + 600128) (b2 : u + n ≤ 7301098) (k : wx K M d Q (pc + 3) L (.ref t :: st) (hp K.n A R (gu g t (ci, fs)) (t + 1) (u + n))) : wx K M d Q pc L st (hp K.n A R g t u) :=
  r_new j hd hf hfs b1 (by rw [hn]; exact b2) (by rw [hp_new ht, hn]; exact k)
theorem r_getg (j : Nat) {idx ci kf a : Nat} {ty : FieldType} {fin : Bool} {fs : List Value} {v : Value} (hd : M.t[j]? = some (pc, .getfield idx, 3)) (hf : fld M.y.cls idx ci kf ty fin) (ha : K.n + 62 ≤ a) (hc : g a = (ci, fs)) (hv : fs[kf]? = some v) (k : wx K M d Q (pc + 3) L (v :: st) (hp K.n A R g t u)) : wx K M d Q pc L (.ref a :: st) (hp K.n A R g t u) := r_get j hd hf (hpg ha hc) hv k
theorem r_putg (j : Nat) {idx ci kf a : Nat} {ty : FieldType} {fs : List Value} {v : Value} (hd : M.t[j]? = some (pc, .putfield idx, 3)) (hf : fld M.y.cls idx ci kf ty false) (ha : K.n + 62 ≤ a) (hc : g a = (ci, fs)) (hn : narrow ty v = v) (hfit : fits ty v = true) (k : wx K M d Q (pc + 3) L st (hp K.n A R (gu g a (ci, fs.set kf v)) t u)) : wx K M d Q pc L (v :: .ref a :: st) (hp K.n A R g t u) := r_put j hd hf (hpg ha hc) hn hfit (by rw [hp_gset ha]; exact k)
theorem r_putFg (j : Nat) {idx ci kf a : Nat} {ty : FieldType} {fs : List Value} {v : Value} (hd : M.t[j]? = some (pc, .putfield idx, 3)) (hf : fld M.y.cls idx ci kf ty true) (hin : M.y.name = "<init>") (hown1 : (xc_cls[ci]?).map (·.1) = some M.y.cls) (hnn : ∀ r : vw_C, xc_cls[ci]? = some r → Cond.fieldLink M.y.cls idx r.1 (r.2.1 kf).2.1 (r.2.1 kf).2.2.1 ∈ lw_tbl) (ha : K.n + 62 ≤ a) (hc : g a = (ci, fs)) (hn : narrow ty v = v) (hfit : fits ty v = true) (k : wx K M d Q (pc + 3) L st (hp K.n A R (gu g a (ci, fs.set kf v)) t u)) : wx K M d Q pc L (v :: .ref a :: st) (hp K.n A R g t u) := r_putF j hd hf hin hown1 hnn (hpg ha hc) hn hfit (by rw [hp_gset ha]; exact k)
theorem r_throwg (j : Nat) {idx ic ci : Nat} (hd0 : M.t[j]? = some (pc, .new idx, 3)) (hd1 : M.t[j + 1]? = some (pc + 3, .dup, 1)) (hd2 : M.t[j + 2]? = some (pc + 4, .invokespecial ic, 3)) (hd3 : M.t[j + 3]? = some (pc + 7, .athrow, 1)) (hth : thr M.y.cls idx ic ci) (hx : M.x = []) (hsum : (st.map fun v => v.category).sum ≤ 8) (hdd : 6 ≤ d) (ht : K.n + 62 ≤ t) (b1 : t + 1 ≤ K.n + 600128) (b2 : u + 6 ≤ 7301098) (hq : Q (.threw t) (hp K.n A R (gu g t (ci, [])) (t + 1) (u + 6))) : wx K M d Q pc L st (hp K.n A R g t u) := r_throw j hd0 hd1 hd2 hd3 hth hx hsum hdd b1 b2 (by rw [hp_new ht]; exact hq)
end
/-- room for c more cells -/
def bud (K : xk) (t u c : Nat) : Prop := K.n + 62 ≤ t ∧ t + c ≤ K.n + 600128 ∧ u + 7 * (K.n + 600128) ≤ 7301098 + 7 * t
/-- an exception has been made -/
def xt (g : Nat → Nat × List Value) (t : Nat) : Nat → Nat × List Value := gu g t (30, [])
def xHere (A : Nat → Int → Int) : Int := if A 1 2 < A 1 1 then A 2 (A 1 2) else 0
/-- the reader's state -/
def xB (A : Nat → Int → Int) : Prop := rga A ∧ 0 ≤ A 1 2 ∧ A 1 1 ≤ 100 ∧ ∀ i, 0 ≤ i → i < A 1 1 → 0 ≤ A 2 i ∧ A 2 i < 65536
theorem c_R_here (hB : xB A) (hq : Q (.returned (some (iv (xHere A)))) (hp K.n A R g t u)) : mx K M_Reader_here d [.ref (xa K.n 1)] (hp K.n A R g t u) Q := by
  obtain ⟨hA, h0, h1, -⟩ := hB
  unfold xHere at hq
  refine mx_in ok_Reader_here rfl (Nat.le_of_ble_eq_true rfl) ?_
  by_cases c : A 1 2 < A 1 1
  · rw [if_pos c] at hq
    refine r_aload_n 0 rfl rfl ?_
    refine r_get 1 rfl f_Reader_23 (hp_at rfl) rfl ?_
    refine r_aload_n 2 rfl rfl ?_
    refine r_get 3 rfl f_Reader_30 (hp_at rfl) rfl ?_
    refine r_icmp_ge (t := 23) 4 rfl (by decide) (by first | exact hA _ _ | exact ⟨by decide, by decide⟩ | assumption | exact ⟨by omega, by omega⟩) (by first | exact hA _ _ | exact ⟨by decide, by decide⟩ | assumption | exact ⟨by omega, by omega⟩) (fun c_8 => by omega) (fun c_8 => ?_)
    refine r_aload_n 5 rfl rfl ?_
    refine r_get 6 rfl f_Reader_9 (hp_at rfl) rfl ?_
    refine r_aload_n 7 rfl rfl ?_
    refine r_get 8 rfl f_Reader_23 (hp_at rfl) rfl ?_
    refine r_caload 9 rfl (hp_at rfl) (by decide) (by omega) (by omega) ?_
    refine r_goto (t := 24) 10 rfl (by decide) ?_
    refine r_iret 12 rfl rfl rfl ?_
    exact hq
  · rw [if_neg c] at hq
    refine r_aload_n 0 rfl rfl ?_
    refine r_get 1 rfl f_Reader_23 (hp_at rfl) rfl ?_
    refine r_aload_n 2 rfl rfl ?_
    refine r_get 3 rfl f_Reader_30 (hp_at rfl) rfl ?_
    refine r_icmp_ge (t := 23) 4 rfl (by decide) (by first | exact hA _ _ | exact ⟨by decide, by decide⟩ | assumption | exact ⟨by omega, by omega⟩) (by first | exact hA _ _ | exact ⟨by decide, by decide⟩ | assumption | exact ⟨by omega, by omega⟩) (fun c_8 => ?_) (fun c_8 => by omega)
    refine r_iconst 11 rfl ?_
    refine r_iret 12 rfl rfl rfl ?_
    exact hq
theorem xHere_rg (hB : xB A) : 0 ≤ xHere A ∧ xHere A < 65536 := by
  unfold xHere
  split
  · exact hB.2.2.2 _ hB.2.1 (by assumption)
  · exact ⟨by decide, by decide⟩
theorem rg_xHere (hB : xB A) : rg (xHere A) := by
  unfold xHere
  split
  · exact hB.1 _ _
  · exact rg_0
def xAdv (A : Nat → Int → Int) : Nat → Int → Int := au A 1 2 (A 1 2 + 1)
theorem c_R_take {lo hi : Int} (hB : xB A) (hl : 0 ≤ lo ∧ lo < 1000) (hh : 0 ≤ hi ∧ hi < 1000) (hb : bud K t u 1)
    (ht : (xHere A < lo ∨ hi < xHere A) → Q (.threw t) (hp K.n A R (xt g t) (t + 1) (u + 6)))
    (hq : lo ≤ xHere A → xHere A ≤ hi → Q (.returned (some (iv (xHere A - lo)))) (hp K.n (xAdv A) R g t u)) : mx K M_Reader_take (d + 6) [.ref (xa K.n 1), iv lo, iv hi] (hp K.n A R g t u) Q := by
  have hr := rg_xHere hB
  have hA := hB.1
  obtain ⟨b0, b1, b2⟩ := hb
  refine mx_in ok_Reader_take rfl (Nat.le_of_ble_eq_true rfl) ?_
  by_cases c1 : xHere A < lo
  · have ht := ht (Or.inl c1)
    refine r_aload_n 0 rfl rfl ?_
    refine r_callv0 1 rfl l_Reader_33 (hp_at rfl) (Nat.le_of_ble_eq_true rfl) ?_
    refine c_R_here hB (cp1 ?_)
    refine r_istore_n 2 rfl (Nat.le_of_ble_eq_true rfl) ?_
    refine r_iload_n 3 rfl rfl ?_
    refine r_iload_n 4 rfl rfl ?_
    refine r_icmp_lt (t := 15) 5 rfl (by decide) (by first | exact hA _ _ | exact ⟨by decide, by decide⟩ | assumption | exact ⟨by omega, by omega⟩) (by first | exact hA _ _ | exact ⟨by decide, by decide⟩ | assumption | exact ⟨by omega, by omega⟩) (fun c_7 => ?_) (fun c_7 => by omega)
    refine r_throwg 9 rfl rfl rfl rfl t_Reader_37 rfl (Nat.le_of_ble_eq_true rfl) (by omega) (by omega) (by omega) (by omega) ?_
    exact ht
  by_cases c2 : hi < xHere A
  · have ht := ht (Or.inr c2)
    refine r_aload_n 0 rfl rfl ?_
    refine r_callv0 1 rfl l_Reader_33 (hp_at rfl) (Nat.le_of_ble_eq_true rfl) ?_
    refine c_R_here hB (cp1 ?_)
    refine r_istore_n 2 rfl (Nat.le_of_ble_eq_true rfl) ?_
    refine r_iload_n 3 rfl rfl ?_
    refine r_iload_n 4 rfl rfl ?_
    refine r_icmp_lt (t := 15) 5 rfl (by decide) (by first | exact hA _ _ | exact ⟨by decide, by decide⟩ | assumption | exact ⟨by omega, by omega⟩) (by first | exact hA _ _ | exact ⟨by decide, by decide⟩ | assumption | exact ⟨by omega, by omega⟩) (fun c_7 => by omega) (fun c_7 => ?_)
    refine r_iload_n 6 rfl rfl ?_
    refine r_iload_n 7 rfl rfl ?_
    refine r_icmp_le (t := 23) 8 rfl (by decide) (by first | exact hA _ _ | exact ⟨by decide, by decide⟩ | assumption | exact ⟨by omega, by omega⟩) (by first | exact hA _ _ | exact ⟨by decide, by decide⟩ | assumption | exact ⟨by omega, by omega⟩) (fun c_12 => by omega) (fun c_12 => ?_)
    refine r_throwg 9 rfl rfl rfl rfl t_Reader_37 rfl (Nat.le_of_ble_eq_true rfl) (by omega) (by omega) (by omega) (by omega) ?_
    exact ht
  have hq := hq (by omega) (by omega)
  refine r_aload_n 0 rfl rfl ?_
  refine r_callv0 1 rfl l_Reader_33 (hp_at rfl) (Nat.le_of_ble_eq_true rfl) ?_
  refine c_R_here hB (cp1 ?_)
  refine r_istore_n 2 rfl (Nat.le_of_ble_eq_true rfl) ?_
  refine r_iload_n 3 rfl rfl ?_
  refine r_iload_n 4 rfl rfl ?_
  refine r_icmp_lt (t := 15) 5 rfl (by decide) (by first | exact hA _ _ | exact ⟨by decide, by decide⟩ | assumption | exact ⟨by omega, by omega⟩) (by first | exact hA _ _ | exact ⟨by decide, by decide⟩ | assumption | exact ⟨by omega, by omega⟩) (fun c_7 => by omega) (fun c_7 => ?_)
  refine r_iload_n 6 rfl rfl ?_
  refine r_iload_n 7 rfl rfl ?_
  refine r_icmp_le (t := 23) 8 rfl (by decide) (by first | exact hA _ _ | exact ⟨by decide, by decide⟩ | assumption | exact ⟨by omega, by omega⟩) (by first | exact hA _ _ | exact ⟨by decide, by decide⟩ | assumption | exact ⟨by omega, by omega⟩) (fun c_12 => ?_) (fun c_12 => by omega)
  refine r_aload_n 13 rfl rfl ?_
  refine r_dup 14 rfl rfl ?_
  refine r_get 15 rfl f_Reader_23 (hp_at rfl) rfl ?_
  refine r_iconst 16 rfl ?_
  refine r_iadd 17 rfl ?_
  refine r_put 18 rfl f_Reader_23 (hp_at rfl) rfl rfl ?_
  rw [wR_2]
  refine r_iload_n 19 rfl rfl ?_
  refine r_iload_n 20 rfl rfl ?_
  refine r_isub 21 rfl ?_
  refine r_iret 22 rfl rfl rfl ?_
  exact hq
theorem c_R_sign {c : Int} (hB : xB A) (hl : 0 ≤ c ∧ c < 1000) (hb : bud K t u 1)
    (ht : xHere A ≠ c → Q (.threw t) (hp K.n A R (xt g t) (t + 1) (u + 6)))
    (hq : xHere A = c → Q (.returned none) (hp K.n (xAdv A) R g t u)) : mx K M_Reader_sign (d + 7) [.ref (xa K.n 1), iv c] (hp K.n A R g t u) Q := by
  refine mx_in ok_Reader_sign rfl (Nat.le_of_ble_eq_true rfl) ?_
  refine r_aload_n 0 rfl rfl ?_
  refine r_iload_n 1 rfl rfl ?_
  refine r_iload_n 2 rfl rfl ?_
  refine r_callv2 3 rfl l_Reader_40 (hp_at rfl) (Nat.le_of_ble_eq_true rfl) ?_
  refine c_R_take hB hl hl hb (fun h => cpt rfl (ht (by omega))) (fun h1 h2 => cp1 ?_)
  refine r_pop 4 rfl rfl ?_
  refine r_ret 5 rfl rfl ?_
  exact hq (by omega)
theorem c_R_variable (hB : xB A) (hb : bud K t u 1)
    (ht : (xHere A < 88 ∨ 90 < xHere A) → Q (.threw t) (hp K.n A R (xt g t) (t + 1) (u + 6)))
    (hq : 88 ≤ xHere A → xHere A ≤ 90 → Q (.returned (some (iv (xHere A - 88)))) (hp K.n (xAdv A) R g t u)) : mx K M_Reader_variable (d + 7) [.ref (xa K.n 1)] (hp K.n A R g t u) Q := by
  refine mx_in ok_Reader_variable rfl (Nat.le_of_ble_eq_true rfl) ?_
  refine r_aload_n 0 rfl rfl ?_
  refine r_bipush 1 rfl rfl ?_
  refine r_bipush 2 rfl rfl ?_
  refine r_callv2 3 rfl l_Reader_40 (hp_at rfl) (Nat.le_of_ble_eq_true rfl) ?_
  refine c_R_take hB ⟨by decide, by decide⟩ ⟨by decide, by decide⟩ hb (fun h => cpt rfl (ht h)) (fun h1 h2 => cp1 ?_)
  refine r_iret 4 rfl rfl rfl ?_
  exact hq h1 h2
theorem c_R_sort (hB : xB A) (hb : bud K t u 1)
    (ht : (xHere A < 48 ∨ 50 < xHere A) → Q (.threw t) (hp K.n A R (xt g t) (t + 1) (u + 6)))
    (hq : 48 ≤ xHere A → xHere A ≤ 50 → Q (.returned (some (iv (xHere A - 48)))) (hp K.n (xAdv A) R g t u)) : mx K M_Reader_sort (d + 7) [.ref (xa K.n 1)] (hp K.n A R g t u) Q := by
  refine mx_in ok_Reader_sort rfl (Nat.le_of_ble_eq_true rfl) ?_
  refine r_aload_n 0 rfl rfl ?_
  refine r_bipush 1 rfl rfl ?_
  refine r_bipush 2 rfl rfl ?_
  refine r_callv2 3 rfl l_Reader_40 (hp_at rfl) (Nat.le_of_ble_eq_true rfl) ?_
  refine c_R_take hB ⟨by decide, by decide⟩ ⟨by decide, by decide⟩ hb (fun h => cpt rfl (ht h)) (fun h1 h2 => cp1 ?_)
  refine r_iret 4 rfl rfl rfl ?_
  exact hq h1 h2
theorem c_R_other {r : Int} (hB : xB A) (hr : 0 ≤ r ∧ r < 4) (hb : bud K t u 1)
    (ht : (xHere A = 97 + r ∨ xHere A < 97 ∨ 100 < xHere A) → Q (.threw t) (hp K.n A R (xt g t) (t + 1) (u + 6)))
    (hq : xHere A ≠ 97 + r → 97 ≤ xHere A → xHere A ≤ 100 → Q (.returned (some (iv (xHere A - 97)))) (hp K.n (xAdv A) R g t u)) : mx K M_Reader_other (d + 7) [.ref (xa K.n 1), iv r] (hp K.n A R g t u) Q := by
  have hr' := rg_xHere hB
  have hA := hB.1
  have hb' := hb
  obtain ⟨b0, b1, b2⟩ := hb'
  refine mx_in ok_Reader_other rfl (Nat.le_of_ble_eq_true rfl) ?_
  by_cases c : xHere A = 97 + r
  · have ht := ht (Or.inl c)
    refine r_aload_n 0 rfl rfl ?_
    refine r_callv0 1 rfl l_Reader_33 (hp_at rfl) (Nat.le_of_ble_eq_true rfl) ?_
    refine c_R_here hB (cp1 ?_)
    refine r_bipush 2 rfl rfl ?_
    refine r_iload_n 3 rfl rfl ?_
    refine r_iadd 4 rfl ?_
    refine r_icmp_ne (t := 19) 5 rfl (by decide) (by first | exact hA _ _ | exact ⟨by decide, by decide⟩ | assumption | exact ⟨by omega, by omega⟩) (by first | exact hA _ _ | exact ⟨by decide, by decide⟩ | assumption | exact ⟨by omega, by omega⟩) (fun c_8 => by omega) (fun c_8 => ?_)
    refine r_throwg 6 rfl rfl rfl rfl t_Reader_37 rfl (Nat.le_of_ble_eq_true rfl) (by omega) (by omega) (by omega) (by omega) ?_
    exact ht
  · refine r_aload_n 0 rfl rfl ?_
    refine r_callv0 1 rfl l_Reader_33 (hp_at rfl) (Nat.le_of_ble_eq_true rfl) ?_
    refine c_R_here hB (cp1 ?_)
    refine r_bipush 2 rfl rfl ?_
    refine r_iload_n 3 rfl rfl ?_
    refine r_iadd 4 rfl ?_
    refine r_icmp_ne (t := 19) 5 rfl (by decide) (by first | exact hA _ _ | exact ⟨by decide, by decide⟩ | assumption | exact ⟨by omega, by omega⟩) (by first | exact hA _ _ | exact ⟨by decide, by decide⟩ | assumption | exact ⟨by omega, by omega⟩) (fun c_8 => ?_) (fun c_8 => by omega)
    refine r_aload_n 10 rfl rfl ?_
    refine r_bipush 11 rfl rfl ?_
    refine r_bipush 12 rfl rfl ?_
    refine r_callv2 13 rfl l_Reader_40 (hp_at rfl) (Nat.le_of_ble_eq_true rfl) ?_
    refine c_R_take hB ⟨by decide, by decide⟩ ⟨by decide, by decide⟩ hb (fun h => cpt rfl (ht (Or.inr h))) (fun h1 h2 => cp1 ?_)
    refine r_iret 14 rfl rfl rfl ?_
    exact hq c h1 h2
theorem c_R_end (hB : xB A) (hb : bud K t u 1)
    (ht : A 1 2 < A 1 1 → Q (.threw t) (hp K.n A R (xt g t) (t + 1) (u + 6)))
    (hq : A 1 1 ≤ A 1 2 → Q (.returned none) (hp K.n A R g t u)) : mx K M_Reader_end (d + 7) [.ref (xa K.n 1)] (hp K.n A R g t u) Q := by
  have hA := hB.1
  obtain ⟨b0, b1, b2⟩ := hb
  refine mx_in ok_Reader_end rfl (Nat.le_of_ble_eq_true rfl) ?_
  by_cases c : A 1 2 < A 1 1
  · have ht := ht c
    refine r_aload_n 0 rfl rfl ?_
    refine r_get 1 rfl f_Reader_23 (hp_at rfl) rfl ?_
    refine r_aload_n 2 rfl rfl ?_
    refine r_get 3 rfl f_Reader_30 (hp_at rfl) rfl ?_
    refine r_icmp_ge (t := 19) 4 rfl (by decide) (by first | exact hA _ _ | exact ⟨by decide, by decide⟩ | assumption | exact ⟨by omega, by omega⟩) (by first | exact hA _ _ | exact ⟨by decide, by decide⟩ | assumption | exact ⟨by omega, by omega⟩) (fun c_8 => by omega) (fun c_8 => ?_)
    refine r_throwg 5 rfl rfl rfl rfl t_Reader_37 rfl (Nat.le_of_ble_eq_true rfl) (by omega) (by omega) (by omega) (by omega) ?_
    exact ht
  · have hq := hq (by omega)
    refine r_aload_n 0 rfl rfl ?_
    refine r_get 1 rfl f_Reader_23 (hp_at rfl) rfl ?_
    refine r_aload_n 2 rfl rfl ?_
    refine r_get 3 rfl f_Reader_30 (hp_at rfl) rfl ?_
    refine r_icmp_ge (t := 19) 4 rfl (by decide) (by first | exact hA _ _ | exact ⟨by decide, by decide⟩ | assumption | exact ⟨by omega, by omega⟩) (by first | exact hA _ _ | exact ⟨by decide, by decide⟩ | assumption | exact ⟨by omega, by omega⟩) (fun c_8 => ?_) (fun c_8 => by omega)
    refine r_ret 9 rfl rfl ?_
    exact hq
theorem c_R_stands {v : Int} (hA : rga A) (v0 : 0 ≤ v) (v1 : v < 3) (hq : Q (.returned (some (iv (if 0 < A 3 v ∧ A 4 v ≠ 0 then 1 else 0)))) (hp K.n A R g t u)) : mx K M_Reader_stands d [.ref (xa K.n 1), iv v] (hp K.n A R g t u) Q := by
  refine mx_in ok_Reader_stands rfl (Nat.le_of_ble_eq_true rfl) ?_
  by_cases c1 : 0 < A 3 v
  · by_cases c2 : A 4 v = 0
    · rw [if_neg (fun h => h.2 c2)] at hq
      refine r_aload_n 0 rfl rfl ?_
      refine r_get 1 rfl f_Reader_15 (hp_at rfl) rfl ?_
      refine r_iload_n 2 rfl rfl ?_
      refine r_iaload 3 rfl (hp_at rfl) (by decide) (by omega) (by omega) ?_
      refine r_if_le (t := 22) 4 rfl (by decide) (by first | exact hA _ _ | exact ⟨by decide, by decide⟩ | assumption | exact ⟨by omega, by omega⟩) (fun c_6 => by omega) (fun c_6 => ?_)
      refine r_aload_n 5 rfl rfl ?_
      refine r_get 6 rfl f_Reader_19 (hp_at rfl) rfl ?_
      refine r_iload_n 7 rfl rfl ?_
      refine r_baload 8 rfl (hp_at rfl) (by decide) (by omega) (by omega) ?_
      refine r_if_eq (t := 22) 9 rfl (by decide) (by first | exact hA _ _ | exact ⟨by decide, by decide⟩ | assumption | exact ⟨by omega, by omega⟩) (fun c_15 => ?_) (fun c_15 => by omega)
      refine r_iconst 12 rfl ?_
      refine r_iret 13 rfl rfl (by first | rfl | assumption) ?_
      exact hq
    · rw [if_pos ⟨c1, c2⟩] at hq
      refine r_aload_n 0 rfl rfl ?_
      refine r_get 1 rfl f_Reader_15 (hp_at rfl) rfl ?_
      refine r_iload_n 2 rfl rfl ?_
      refine r_iaload 3 rfl (hp_at rfl) (by decide) (by omega) (by omega) ?_
      refine r_if_le (t := 22) 4 rfl (by decide) (by first | exact hA _ _ | exact ⟨by decide, by decide⟩ | assumption | exact ⟨by omega, by omega⟩) (fun c_6 => by omega) (fun c_6 => ?_)
      refine r_aload_n 5 rfl rfl ?_
      refine r_get 6 rfl f_Reader_19 (hp_at rfl) rfl ?_
      refine r_iload_n 7 rfl rfl ?_
      refine r_baload 8 rfl (hp_at rfl) (by decide) (by omega) (by omega) ?_
      refine r_if_eq (t := 22) 9 rfl (by decide) (by first | exact hA _ _ | exact ⟨by decide, by decide⟩ | assumption | exact ⟨by omega, by omega⟩) (fun c_15 => by omega) (fun c_15 => ?_)
      refine r_iconst 10 rfl ?_
      refine r_goto (t := 23) 11 rfl (by decide) ?_
      refine r_iret 13 rfl rfl (by first | rfl | assumption) ?_
      exact hq
  · rw [if_neg (fun h => c1 h.1)] at hq
    refine r_aload_n 0 rfl rfl ?_
    refine r_get 1 rfl f_Reader_15 (hp_at rfl) rfl ?_
    refine r_iload_n 2 rfl rfl ?_
    refine r_iaload 3 rfl (hp_at rfl) (by decide) (by omega) (by omega) ?_
    refine r_if_le (t := 22) 4 rfl (by decide) (by first | exact hA _ _ | exact ⟨by decide, by decide⟩ | assumption | exact ⟨by omega, by omega⟩) (fun c_6 => ?_) (fun c_6 => by omega)
    refine r_iconst 12 rfl ?_
    refine r_iret 13 rfl rfl (by first | rfl | assumption) ?_
    exact hq
theorem c_R_enter {v : Int} (hA : rga A) (v0 : 0 ≤ v) (v1 : v < 3) (h3 : A 3 v < 1000) (h4 : A 4 v = 0 ∨ A 4 v = 1) (hq : Q (.returned (some (iv (A 4 v)))) (hp K.n (au (au A 3 v (A 3 v + 1)) 4 v 0) R g t u)) : mx K M_Reader_enter d [.ref (xa K.n 1), iv v] (hp K.n A R g t u) Q := by
  have hn : narrow .boolean (iv (A 4 v)) = iv (A 4 v) := by rcases h4 with e | e <;> rw [e] <;> rfl
  refine mx_in ok_Reader_enter rfl (Nat.le_of_ble_eq_true rfl) ?_
  refine r_aload_n 0 rfl rfl ?_
  refine r_get 1 rfl f_Reader_19 (hp_at rfl) rfl ?_
  refine r_iload_n 2 rfl rfl ?_
  refine r_baload 3 rfl (hp_at rfl) (by decide) (by omega) (by omega) ?_
  refine r_istore_n 4 rfl (Nat.le_of_ble_eq_true rfl) ?_
  refine r_aload_n 5 rfl rfl ?_
  refine r_get 6 rfl f_Reader_15 (hp_at rfl) rfl ?_
  refine r_iload_n 7 rfl rfl ?_
  refine r_dup2 8 rfl rfl rfl ?_
  refine r_iaload 9 rfl (hp_at rfl) (by decide) (by omega) (by omega) ?_
  refine r_iconst 10 rfl ?_
  refine r_iadd 11 rfl ?_
  refine r_iastore 12 rfl (hp_at rfl) (by decide) (by omega) (by omega) ?_
  rw [ws_3]
  refine r_aload_n 13 rfl rfl ?_
  refine r_get 14 rfl f_Reader_19 (hp_at rfl) rfl ?_
  refine r_iload_n 15 rfl rfl ?_
  refine r_iconst 16 rfl ?_
  refine r_bastore 17 rfl (hp_at rfl) (by decide) (by omega) (by omega) rfl ?_
  rw [ws_4]
  refine r_iload_n 18 rfl rfl ?_
  refine r_iret 19 rfl rfl (by first | rfl | assumption) ?_
  exact hq
theorem c_R_leave {v w : Int} (hA : rga A) (v0 : 0 ≤ v) (v1 : v < 3) (h4 : w = 0 ∨ w = 1) (hq : Q (.returned none) (hp K.n (au (au A 3 v (A 3 v - 1)) 4 v w) R g t u)) : mx K M_Reader_leave d [.ref (xa K.n 1), iv v, iv w] (hp K.n A R g t u) Q := by
  refine mx_in ok_Reader_leave rfl (Nat.le_of_ble_eq_true rfl) ?_
  rcases h4 with e | e
  · subst e
    refine r_aload_n 0 rfl rfl ?_
    refine r_get 1 rfl f_Reader_15 (hp_at rfl) rfl ?_
    refine r_iload_n 2 rfl rfl ?_
    refine r_dup2 3 rfl rfl rfl ?_
    refine r_iaload 4 rfl (hp_at rfl) (by decide) (by omega) (by omega) ?_
    refine r_iconst 5 rfl ?_
    refine r_isub 6 rfl ?_
    refine r_iastore 7 rfl (hp_at rfl) (by decide) (by omega) (by omega) ?_
    rw [ws_3]
    refine r_aload_n 8 rfl rfl ?_
    refine r_get 9 rfl f_Reader_19 (hp_at rfl) rfl ?_
    refine r_iload_n 10 rfl rfl ?_
    refine r_iload_n 11 rfl rfl ?_
    refine r_bastore 12 rfl (hp_at rfl) (by decide) (by omega) (by omega) rfl ?_
    rw [ws_4]
    refine r_ret 13 rfl rfl ?_
    exact hq
  · subst e
    refine r_aload_n 0 rfl rfl ?_
    refine r_get 1 rfl f_Reader_15 (hp_at rfl) rfl ?_
    refine r_iload_n 2 rfl rfl ?_
    refine r_dup2 3 rfl rfl rfl ?_
    refine r_iaload 4 rfl (hp_at rfl) (by decide) (by omega) (by omega) ?_
    refine r_iconst 5 rfl ?_
    refine r_isub 6 rfl ?_
    refine r_iastore 7 rfl (hp_at rfl) (by decide) (by omega) (by omega) ?_
    rw [ws_3]
    refine r_aload_n 8 rfl rfl ?_
    refine r_get 9 rfl f_Reader_19 (hp_at rfl) rfl ?_
    refine r_iload_n 10 rfl rfl ?_
    refine r_iload_n 11 rfl rfl ?_
    refine r_bastore 12 rfl (hp_at rfl) (by decide) (by omega) (by omega) rfl ?_
    rw [ws_4]
    refine r_ret 13 rfl rfl ?_
    exact hq
end XR68


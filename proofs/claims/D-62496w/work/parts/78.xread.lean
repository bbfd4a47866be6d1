/-! the class: readGlobal, readLocal -/
theorem w_iae : Cond.classLink "RoleSessions" 131 "java/lang/IllegalArgumentException" ∈ lw_tbl := List.mem_append_right _ (List.mem_of_getElem? (i := 134) (by decide +kernel))
theorem w_uoe : Cond.classLink "RoleSessions" 13 "java/lang/UnsupportedOperationException" ∈ lw_tbl := List.mem_append_right _ (List.mem_of_getElem? (i := 352) (by decide +kernel))
theorem k_iae : Cond.castable "java/lang/IllegalArgumentException" "java/lang/IllegalArgumentException" ∈ lw_tbl := List.mem_append_right _ (List.mem_of_getElem? (i := 156) (by decide +kernel))
theorem k_uoe : Cond.castable "java/lang/UnsupportedOperationException" "java/lang/UnsupportedOperationException" ∈ lw_tbl := List.mem_append_right _ (List.mem_of_getElem? (i := 437) (by decide +kernel))
section XR78
variable {K : xk} {d : Nat} {Q : Outcome → xh → Prop} {A : Nat → Int → Int} {R : Nat → Int → Value} {g : Nat → Nat × List Value} {t u : Nat}
/-- the text -/
def xT (A : Nat → Int → Int) (cx : Int → Int) (len : Int) : Prop := rga A ∧ (A 1 1 = len ∧ 0 ≤ len ∧ len < 100) ∧ ∀ i, 0 ≤ i → i < len → A 2 i = cx i ∧ 0 ≤ A 2 i ∧ A 2 i < 65536
/-- reading failed at e -/
def xrE (K : xk) (g : Nat → Nat × List Value) (t : Nat) (A : Nat → Int → Int) (e : Int) (A' : Nat → Int → Int) (g' : Nat → Nat × List Value) (t' u' : Nat) : Prop := frX A A' ∧ A' 1 2 = e ∧ (∀ x, x < t → g' x = g x) ∧ t ≤ t' ∧ t' ≤ t + 102 ∧ u' + 7 * (K.n + 600128) ≤ 7301098 + 7 * t'
def xrS (K : xk) (g : Nat → Nat × List Value) (t : Nat) (A : Nat → Int → Int) (k : Int) (A' : Nat → Int → Int) (g' : Nat → Nat × List Value) (t' u' : Nat) : Prop := frX A A' ∧ A' 1 3 = k ∧ (∀ x, x < t → g' x = g x) ∧ t ≤ t' ∧ t' ≤ t + 102 ∧ u' + 7 * (K.n + 600128) ≤ 7301098 + 7 * t'
theorem xbegin {cx : Int → Int} {len : Int} {C : Nat → Int → Int} (hT : xT A cx len) (hb : bud K t u 103) (hC : fil (fil (au (au A 1 2 0) 1 3 0) 3 0 3 0) 4 0 3 0 = C) : xP K C cx len [] 0 0 t u ∧ frX A C := by
  obtain ⟨hA, ⟨h1, h2, h3⟩, h4⟩ := hT
  obtain ⟨b0, b1, b2⟩ := hb
  have Cr : ∀ (j : Nat) (i : Int), C j i = if j = 4 ∧ 0 ≤ i ∧ i < 3 then 0 else if j = 3 ∧ 0 ≤ i ∧ i < 3 then 0 else if j = 1 ∧ i = 3 then 0 else if j = 1 ∧ i = 2 then 0 else A j i := fun j i => by
    rw [← hC]
    unfold fil
    rw [au_ite, au_ite]
  have hCA : rga C := by rw [← hC]; exact rga_fil (rga_fil (rga_au (rga_au hA rg_0) rg_0) rg_0) rg_0
  have e1 : C 1 1 = len := by rw [Cr, if_neg (by omega), if_neg (by omega), if_neg (by omega), if_neg (by omega)]; exact h1
  have e2 : ∀ i, C 2 i = A 2 i := fun i => by rw [Cr, if_neg (by omega), if_neg (by omega), if_neg (by omega), if_neg (by omega)]
  have e3 : C 1 2 = 0 := by rw [Cr, if_neg (by omega), if_neg (by omega), if_neg (by omega), if_pos ⟨rfl, rfl⟩]
  have e4 : C 1 3 = 0 := by rw [Cr, if_neg (by omega), if_neg (by omega), if_pos ⟨rfl, rfl⟩]
  refine ⟨⟨⟨hCA, by omega, by omega, fun i i0 i1 => by rw [e2]; exact (h4 i i0 (by omega)).2⟩, e1, fun i i0 i1 => by rw [e2]; exact (h4 i i0 i1).1, ⟨e3, by omega, by omega⟩, ⟨e4, by show ((0 : Nat) : Int) ≤ 0; omega, by omega⟩, fun v v0 v1 => ⟨by rw [Cr, if_neg (by omega), if_pos ⟨rfl, v0, v1⟩]; rfl, Or.inl (by rw [Cr, if_pos ⟨rfl, v0, v1⟩]), fun h => (by cases h)⟩, b0, by omega, b2⟩, ⟨fun j i a b => ?_, hCA⟩⟩
  rw [Cr, if_neg (by omega), if_neg (by omega), if_neg (by omega), if_neg (by omega)]
theorem c_X_readGlobal {cx : Int → Int} {len : Int} (hT : xT A cx len) (hx : ∀ i, len ≤ i → cx i = -1) (hb : bud K t u 103)
    (herr : ∀ e A' g' t' u', rdR cx false len = .inl e → xrE K g t A e A' g' t' u' → Q (.returned (some .null)) (hp K.n A' R g' t' u'))
    (hok : ∀ τ k a A' g' t' u', rdR cx false len = .inr (τ, k) → xrS K g t A k A' g' t' u' → (gR g' t t' τ).1 a → Q (.returned (some (.ref a))) (hp K.n A' R g' t' u')) : mx K M_X_readGlobal (d + 214) [.ref (xa K.n 1)] (hp K.n A R g t u) Q := by
  have hA := hT.1
  generalize hC : fil (fil (au (au A 1 2 0) 1 3 0) 3 0 3 0) 4 0 3 0 = C
  obtain ⟨hP, hf⟩ := xbegin (K := K) (t := t) (u := u) hT hb hC
  have hl := hT.2.1
  obtain ⟨b0, b1, b2⟩ := hb
  have caught : ∀ (a : Nat) (L1 : Option Value) (A' : Nat → Int → Int) (g' : Nat → Nat × List Value) (t' u' : Nat), Q (.returned (some .null)) (hp K.n A' R g' t' u') → wx K M_X_readGlobal (d + 214) Q 15 [some (.ref (xa K.n 1)), L1] [.ref a] (hp K.n A' R g' t' u') := by
    intro a L1 A' g' t' u' fin
    first | refine r_astore_n 9 rfl (Nat.le_of_ble_eq_true rfl) ?_ | refine r_astore_nN 9 rfl (Nat.le_of_ble_eq_true rfl) ?_
    refine r_null 10 rfl ?_
    refine r_aret 11 rfl rfl (by first | exact Or.inl rfl | exact Or.inr ⟨_, rfl⟩) ?_
    exact fin
  refine mx_in ok_X_readGlobal rfl (Nat.le_of_ble_eq_true rfl) ?_
  refine r_aload_n 0 rfl rfl ?_
  refine r_callv0 1 rfl l_X_125 (hp_at rfl) (Nat.le_of_ble_eq_true rfl) ?_
  refine c_R_begin hA (cp0 ?_)
  rw [hC]
  refine r_aload_n 2 rfl rfl ?_
  refine r_calls1 3 rfl l_X_40 (Nat.le_of_ble_eq_true rfl) ?_
  refine (okXG_all hx 100).1 [] 0 0 (fun _ => false) C g t u (d + 213) _ hP (by omega) (by omega) (fun e a A' g' t' u' hpr hE => ?_) (fun τ p' k' a A' g' t' u' hpr hS hR => cp1 ?_)
  · obtain ⟨q1, q2, q3, q4, q5, q6, q7⟩ := hE
    have he := (pr_er cx false len hx 100 [] 0 0 (fun _ => false) (by omega)).1 _ hpr
    refine cpc "java/lang/IllegalArgumentException" rfl ⟨by decide, by decide⟩ (by decide) w_iae (hpg q4.2.1 q4.1) (by decide) (by decide) k_iae (caught a _ A' g' t' u' (herr e A' g' t' u' (by unfold rdR; rw [hpr]) ⟨hf.tr q1, q2, fun x h => q3 x h (by omega), q5, by omega, q7⟩))
  · obtain ⟨q1, q2, q3, q4, q5, q6, q7, q8⟩ := hS
    have hp1 := (pr_le cx false len hx 100 _ _ _ _).1 _ _ _ hpr
    have hB' : xB A' := ⟨q1.2, by have := (pr_ok cx false 100 [] 0 0 (fun _ => false) (by omega) (by omega)).1 _ _ _ hpr; omega, by rw [q1.1 1 1 (by omega) (by omega), hP.2.1]; omega, fun i i0 i1 => by rw [q1.1 1 1 (by omega) (by omega)] at i1; rw [q1.1 2 i (by omega) (by omega)]; exact hP.1.2.2.2 i i0 i1⟩
    have e11 : A' 1 1 = len := by rw [q1.1 1 1 (by omega) (by omega)]; exact hP.2.1
    have hbud : bud K t' u' 1 := ⟨by omega, by omega, q8⟩
    first | refine r_astore_n 4 rfl (Nat.le_of_ble_eq_true rfl) ?_ | refine r_astore_nN 4 rfl (Nat.le_of_ble_eq_true rfl) ?_
    refine r_aload_n 5 rfl rfl ?_
    refine r_callv0 6 rfl l_X_128 (hp_at rfl) (Nat.le_of_ble_eq_true rfl) ?_
    refine c_R_end hB' hbud (fun h => ?_) (fun h => cp0 ?_)
    · refine cpc "java/lang/IllegalArgumentException" rfl ⟨by decide, by decide⟩ (by decide) w_iae (hpg (by omega) (xt_s g' t')) (by decide) (by decide) k_iae (caught t' _ A' (xt g' t') (t' + 1) (u' + 6) (herr p' A' (xt g' t') (t' + 1) (u' + 6) (by unfold rdR; rw [hpr]; exact if_pos (by omega)) ⟨hf.tr q1, q3, fun x h => by rw [xt_n g' (by omega)]; exact q5 x h (by omega), by omega, by omega, ubs q8 (by decide)⟩))
    · have fin := hok τ k' a A' g' t' u' (by unfold rdR; rw [hpr]; exact if_neg (by omega)) ⟨hf.tr q1, q4, fun x h => q5 x h (by omega), q6, by omega, q8⟩ hR
      first | refine r_aload_n 7 rfl rfl ?_ | refine r_aload_nN 7 rfl rfl ?_
      refine r_aret 8 rfl rfl (by first | exact Or.inl rfl | exact Or.inr ⟨_, rfl⟩) ?_
      exact fin
theorem c_X_readLocal {cx : Int → Int} {len : Int} (hT : xT A cx len) (hx : ∀ i, len ≤ i → cx i = -1) (hb : bud K t u 103)
    (herr : ∀ e A' g' t' u', rdR cx true len = .inl e → xrE K g t A e A' g' t' u' → Q (.returned (some .null)) (hp K.n A' R g' t' u'))
    (hok : ∀ τ k a A' g' t' u', rdR cx true len = .inr (τ, k) → xrS K g t A k A' g' t' u' → (lR g' t t' τ).1 a → Q (.returned (some (.ref a))) (hp K.n A' R g' t' u')) : mx K M_X_readLocal (d + 214) [.ref (xa K.n 1)] (hp K.n A R g t u) Q := by
  have hA := hT.1
  generalize hC : fil (fil (au (au A 1 2 0) 1 3 0) 3 0 3 0) 4 0 3 0 = C
  obtain ⟨hP, hf⟩ := xbegin (K := K) (t := t) (u := u) hT hb hC
  have hl := hT.2.1
  obtain ⟨b0, b1, b2⟩ := hb
  have caught : ∀ (a : Nat) (L1 : Option Value) (A' : Nat → Int → Int) (g' : Nat → Nat × List Value) (t' u' : Nat), Q (.returned (some .null)) (hp K.n A' R g' t' u') → wx K M_X_readLocal (d + 214) Q 15 [some (.ref (xa K.n 1)), L1] [.ref a] (hp K.n A' R g' t' u') := by
    intro a L1 A' g' t' u' fin
    first | refine r_astore_n 9 rfl (Nat.le_of_ble_eq_true rfl) ?_ | refine r_astore_nN 9 rfl (Nat.le_of_ble_eq_true rfl) ?_
    refine r_null 10 rfl ?_
    refine r_aret 11 rfl rfl (by first | exact Or.inl rfl | exact Or.inr ⟨_, rfl⟩) ?_
    exact fin
  refine mx_in ok_X_readLocal rfl (Nat.le_of_ble_eq_true rfl) ?_
  refine r_aload_n 0 rfl rfl ?_
  refine r_callv0 1 rfl l_X_125 (hp_at rfl) (Nat.le_of_ble_eq_true rfl) ?_
  refine c_R_begin hA (cp0 ?_)
  rw [hC]
  refine r_aload_n 2 rfl rfl ?_
  refine r_calls1 3 rfl l_X_104 (Nat.le_of_ble_eq_true rfl) ?_
  refine (okXL_all hx 100).1 [] 0 0 (fun _ => false) C g t u (d + 213) _ hP (by omega) (by omega) (fun e a A' g' t' u' hpr hE => ?_) (fun τ p' k' a A' g' t' u' hpr hS hR => cp1 ?_)
  · obtain ⟨q1, q2, q3, q4, q5, q6, q7⟩ := hE
    have he := (pr_er cx true len hx 100 [] 0 0 (fun _ => false) (by omega)).1 _ hpr
    refine cpc "java/lang/IllegalArgumentException" rfl ⟨by decide, by decide⟩ (by decide) w_iae (hpg q4.2.1 q4.1) (by decide) (by decide) k_iae (caught a _ A' g' t' u' (herr e A' g' t' u' (by unfold rdR; rw [hpr]) ⟨hf.tr q1, q2, fun x h => q3 x h (by omega), q5, by omega, q7⟩))
  · obtain ⟨q1, q2, q3, q4, q5, q6, q7, q8⟩ := hS
    have hp1 := (pr_le cx true len hx 100 _ _ _ _).1 _ _ _ hpr
    have hB' : xB A' := ⟨q1.2, by have := (pr_ok cx true 100 [] 0 0 (fun _ => false) (by omega) (by omega)).1 _ _ _ hpr; omega, by rw [q1.1 1 1 (by omega) (by omega), hP.2.1]; omega, fun i i0 i1 => by rw [q1.1 1 1 (by omega) (by omega)] at i1; rw [q1.1 2 i (by omega) (by omega)]; exact hP.1.2.2.2 i i0 i1⟩
    have e11 : A' 1 1 = len := by rw [q1.1 1 1 (by omega) (by omega)]; exact hP.2.1
    have hbud : bud K t' u' 1 := ⟨by omega, by omega, q8⟩
    first | refine r_astore_n 4 rfl (Nat.le_of_ble_eq_true rfl) ?_ | refine r_astore_nN 4 rfl (Nat.le_of_ble_eq_true rfl) ?_
    refine r_aload_n 5 rfl rfl ?_
    refine r_callv0 6 rfl l_X_128 (hp_at rfl) (Nat.le_of_ble_eq_true rfl) ?_
    refine c_R_end hB' hbud (fun h => ?_) (fun h => cp0 ?_)
    · refine cpc "java/lang/IllegalArgumentException" rfl ⟨by decide, by decide⟩ (by decide) w_iae (hpg (by omega) (xt_s g' t')) (by decide) (by decide) k_iae (caught t' _ A' (xt g' t') (t' + 1) (u' + 6) (herr p' A' (xt g' t') (t' + 1) (u' + 6) (by unfold rdR; rw [hpr]; exact if_pos (by omega)) ⟨hf.tr q1, q3, fun x h => by rw [xt_n g' (by omega)]; exact q5 x h (by omega), by omega, by omega, ubs q8 (by decide)⟩))
    · have fin := hok τ k' a A' g' t' u' (by unfold rdR; rw [hpr]; exact if_neg (by omega)) ⟨hf.tr q1, q4, fun x h => q5 x h (by omega), q6, by omega, q8⟩ hR
      first | refine r_aload_n 7 rfl rfl ?_ | refine r_aload_nN 7 rfl rfl ?_
      refine r_aret 8 rfl rfl (by first | exact Or.inl rfl | exact Or.inr ⟨_, rfl⟩) ?_
      exact fin
end XR78


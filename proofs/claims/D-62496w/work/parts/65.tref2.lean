/-! the twin: refines, whole -/
section TW65
variable {K : xk} {M : xm} {d : Nat} {Q : Outcome → xh → Prop} {R : Nat → Int → Value} {g : Nat → Nat × List Value} {t u : Nat}
theorem rfn_s (M P : Nat → Int → Int → Int) (f : Nat) (w : List (Int × Int)) (k : Nat) : rfn M P (f + 1) w k = match w[k]? with
    | none => true
    | some p => match suit M P p.1 p.2 with
      | none => false
      | some l => rfn M P f (addP w l) (k + 1) := rfl
theorem rf_out {A : Nat → Int → Int} {m p N N' : Int} (m0 : 0 ≤ m) (m1 : m < 9) (p0 : 0 ≤ p) (p1 : p < 9) (hM : mOK (tM A m) N) (hP : mOK (tM A p) N') (hN : N ≤ 30) (hN' : N' ≤ 30) :
    ∀ (f k : Nat) (B : Nat → Int → Int) (w : List (Int × Int)), fRf A B → wl B w → wok N N' w → 900 < k + f → (k : Int) < 2000 →
      (∀ B', fRf A B' → Q (.returned (some (iv (if rfn (tM A m) (tM A p) f w k = true then 1 else 0)))) (hp K.n B' R g t u)) →
      wx K M_T_refines (d + 1) Q 70 [some (.ref (xa K.n 32)), some (iv m), some (iv p), some (iv k), none, none, none, none, none, none, none, none, none] [] (hp K.n B R g t u) := by
  intro f
  induction f with
  | zero =>
    intro k B w hf hw hok hk hk2 hq
    have hA := hf.2
    have hlen := wok_len hok hN hN'
    have e18 := hw.1
    have fin := hq B hf
    refine r_iload_n 44 rfl rfl ?_
    refine r_aload_n 45 rfl rfl ?_
    refine r_get 46 rfl f_T_166 (hp_at rfl) rfl ?_
    refine r_icmp_ge (t := 344) 47 rfl (by decide) (by first | exact hA _ _ | exact ⟨by decide, by decide⟩ | assumption | exact ⟨by omega, by omega⟩) (by first | exact hA _ _ | exact ⟨by decide, by decide⟩ | assumption | exact ⟨by omega, by omega⟩) (fun c_75 => ?_) (fun c_75 => by omega)
    refine r_iconst 192 rfl ?_
    refine r_iret 193 rfl rfl (by first | rfl | assumption) ?_
    exact fin
  | succ f ih =>
    intro k B w hf hw hok hk hk2 hq
    have hA := hf.2
    have hlen := wok_len hok hN hN'
    have e18 := hw.1
    have bs : ∀ jj i, 123 ≤ jj → jj ≤ 128 → B jj i = A jj i := fun jj i _ _ => hf.1 _ _ (by omega) (by omega) (by omega) (by omega)
    rw [rfn_s] at hq
    cases hk' : w[k]? with
    | none =>
      rw [hk'] at hq
      have hlt : w.length ≤ k := List.getElem?_eq_none_iff.mp hk'
      have fin := hq B hf
      refine r_iload_n 44 rfl rfl ?_
      refine r_aload_n 45 rfl rfl ?_
      refine r_get 46 rfl f_T_166 (hp_at rfl) rfl ?_
      refine r_icmp_ge (t := 344) 47 rfl (by decide) (by first | exact hA _ _ | exact ⟨by decide, by decide⟩ | assumption | exact ⟨by omega, by omega⟩) (by first | exact hA _ _ | exact ⟨by decide, by decide⟩ | assumption | exact ⟨by omega, by omega⟩) (fun c_75 => ?_) (fun c_75 => by omega)
      refine r_iconst 192 rfl ?_
      refine r_iret 193 rfl rfl (by first | rfl | assumption) ?_
      exact fin
    | some q =>
      obtain ⟨a, b⟩ := q
      rw [hk'] at hq
      replace hq : ∀ B', fRf A B' → Q (.returned (some (iv (if (match suit (tM A m) (tM A p) a b with
          | none => false
          | some l => rfn (tM A m) (tM A p) f (addP w l) (k + 1)) = true then 1 else 0)))) (hp K.n B' R g t u) := hq
      obtain ⟨hlt, -⟩ := List.getElem?_eq_some_iff.mp hk'
      obtain ⟨⟨a0, a1⟩, b0, b1⟩ := hok.2 (a, b) (List.mem_of_getElem? hk')
      replace a0 : 0 ≤ a := a0
      replace a1 : a < N := a1
      replace b0 : 0 ≤ b := b0
      replace b1 : b < N' := b1
      obtain ⟨w1, w2⟩ := hw.2.1 k (a, b) hk'
      replace w1 : B 119 k = a := w1
      replace w2 : B 120 k = b := w2
      have oa := hM a a0 a1
      have ob := hP b b0 b1
      have k1 : B 123 (31 * m + a) = A 123 (31 * m + a) := bs _ _ (by decide) (by decide)
      have k2 : B 123 (31 * p + b) = A 123 (31 * p + b) := bs _ _ (by decide) (by decide)
      have k3 : B 124 (31 * m + a) = A 124 (31 * m + a) := bs _ _ (by decide) (by decide)
      have k4 : B 124 (31 * p + b) = A 124 (31 * p + b) := bs _ _ (by decide) (by decide)
      have es : suit (tM A m) (tM A p) a b = if A 123 (31 * m + a) ≠ A 123 (31 * p + b) ∨ A 124 (31 * m + a) ≠ A 124 (31 * p + b) then none else if A 123 (31 * m + a) = 1 then nxL (tM A m) (tM A p) a b (A 125 (31 * m + a)).toNat 0 else (nxL (tM A p) (tM A m) b a (A 125 (31 * p + b)).toNat 0).map (List.map swp) := rfl
      have oa4 : 0 ≤ A 125 (31 * m + a) ∧ A 125 (31 * m + a) ≤ 6 := oa.2.2.2.1
      have ob4 : 0 ≤ A 125 (31 * p + b) ∧ A 125 (31 * p + b) ≤ 6 := ob.2.2.2.1
      by_cases hkd : A 123 (31 * m + a) = A 123 (31 * p + b)
      case neg =>
        rw [es, if_pos (Or.inl hkd)] at hq
        have fin := hq B hf
        refine r_iload_n 44 rfl rfl ?_
        refine r_aload_n 45 rfl rfl ?_
        refine r_get 46 rfl f_T_166 (hp_at rfl) rfl ?_
        refine r_icmp_ge (t := 344) 47 rfl (by decide) (by first | exact hA _ _ | exact ⟨by decide, by decide⟩ | assumption | exact ⟨by omega, by omega⟩) (by first | exact hA _ _ | exact ⟨by decide, by decide⟩ | assumption | exact ⟨by omega, by omega⟩) (fun c_75 => by omega) (fun c_75 => ?_)
        refine r_bipush 48 rfl rfl ?_
        refine r_iload_n 49 rfl rfl ?_
        refine r_imul 50 rfl ?_
        refine r_aload_n 51 rfl rfl ?_
        refine r_get 52 rfl f_T_44 (hp_at rfl) rfl ?_
        refine r_iload_n 53 rfl rfl ?_
        refine r_iaload 54 rfl (hp_at rfl) (by decide) (by omega) (by omega) ?_
        rw [w1]
        refine r_iadd 55 rfl ?_
        refine r_istore 56 rfl (Nat.le_of_ble_eq_true rfl) ?_
        refine r_bipush 57 rfl rfl ?_
        refine r_iload_n 58 rfl rfl ?_
        refine r_imul 59 rfl ?_
        refine r_aload_n 60 rfl rfl ?_
        refine r_get 61 rfl f_T_47 (hp_at rfl) rfl ?_
        refine r_iload_n 62 rfl rfl ?_
        refine r_iaload 63 rfl (hp_at rfl) (by decide) (by omega) (by omega) ?_
        rw [w2]
        refine r_iadd 64 rfl ?_
        refine r_istore 65 rfl (Nat.le_of_ble_eq_true rfl) ?_
        refine r_aload_n 66 rfl rfl ?_
        refine r_get 67 rfl f_T_56 (hp_at rfl) rfl ?_
        refine r_iload 68 rfl rfl ?_
        refine r_iaload 69 rfl (hp_at rfl) (by decide) (by omega) (by omega) ?_
        refine r_aload_n 70 rfl rfl ?_
        refine r_get 71 rfl f_T_56 (hp_at rfl) rfl ?_
        refine r_iload 72 rfl rfl ?_
        refine r_iaload 73 rfl (hp_at rfl) (by decide) (by omega) (by omega) ?_
        refine r_icmp_ne (t := 138) 74 rfl (by decide) (by first | exact hA _ _ | exact ⟨by decide, by decide⟩ | assumption | exact ⟨by omega, by omega⟩) (by first | exact hA _ _ | exact ⟨by decide, by decide⟩ | assumption | exact ⟨by omega, by omega⟩) (fun c_118 => ?_) (fun c_118 => by omega)
        refine r_iconst 84 rfl ?_
        refine r_iret 85 rfl rfl (by first | rfl | assumption) ?_
        exact fin
      by_cases hpt : A 124 (31 * m + a) = A 124 (31 * p + b)
      case neg =>
        rw [es, if_pos (Or.inr hpt)] at hq
        have fin := hq B hf
        refine r_iload_n 44 rfl rfl ?_
        refine r_aload_n 45 rfl rfl ?_
        refine r_get 46 rfl f_T_166 (hp_at rfl) rfl ?_
        refine r_icmp_ge (t := 344) 47 rfl (by decide) (by first | exact hA _ _ | exact ⟨by decide, by decide⟩ | assumption | exact ⟨by omega, by omega⟩) (by first | exact hA _ _ | exact ⟨by decide, by decide⟩ | assumption | exact ⟨by omega, by omega⟩) (fun c_75 => by omega) (fun c_75 => ?_)
        refine r_bipush 48 rfl rfl ?_
        refine r_iload_n 49 rfl rfl ?_
        refine r_imul 50 rfl ?_
        refine r_aload_n 51 rfl rfl ?_
        refine r_get 52 rfl f_T_44 (hp_at rfl) rfl ?_
        refine r_iload_n 53 rfl rfl ?_
        refine r_iaload 54 rfl (hp_at rfl) (by decide) (by omega) (by omega) ?_
        rw [w1]
        refine r_iadd 55 rfl ?_
        refine r_istore 56 rfl (Nat.le_of_ble_eq_true rfl) ?_
        refine r_bipush 57 rfl rfl ?_
        refine r_iload_n 58 rfl rfl ?_
        refine r_imul 59 rfl ?_
        refine r_aload_n 60 rfl rfl ?_
        refine r_get 61 rfl f_T_47 (hp_at rfl) rfl ?_
        refine r_iload_n 62 rfl rfl ?_
        refine r_iaload 63 rfl (hp_at rfl) (by decide) (by omega) (by omega) ?_
        rw [w2]
        refine r_iadd 64 rfl ?_
        refine r_istore 65 rfl (Nat.le_of_ble_eq_true rfl) ?_
        refine r_aload_n 66 rfl rfl ?_
        refine r_get 67 rfl f_T_56 (hp_at rfl) rfl ?_
        refine r_iload 68 rfl rfl ?_
        refine r_iaload 69 rfl (hp_at rfl) (by decide) (by omega) (by omega) ?_
        refine r_aload_n 70 rfl rfl ?_
        refine r_get 71 rfl f_T_56 (hp_at rfl) rfl ?_
        refine r_iload 72 rfl rfl ?_
        refine r_iaload 73 rfl (hp_at rfl) (by decide) (by omega) (by omega) ?_
        refine r_icmp_ne (t := 138) 74 rfl (by decide) (by first | exact hA _ _ | exact ⟨by decide, by decide⟩ | assumption | exact ⟨by omega, by omega⟩) (by first | exact hA _ _ | exact ⟨by decide, by decide⟩ | assumption | exact ⟨by omega, by omega⟩) (fun c_118 => by omega) (fun c_118 => ?_)
        refine r_aload_n 75 rfl rfl ?_
        refine r_get 76 rfl f_T_59 (hp_at rfl) rfl ?_
        refine r_iload 77 rfl rfl ?_
        refine r_iaload 78 rfl (hp_at rfl) (by decide) (by omega) (by omega) ?_
        refine r_aload_n 79 rfl rfl ?_
        refine r_get 80 rfl f_T_59 (hp_at rfl) rfl ?_
        refine r_iload 81 rfl rfl ?_
        refine r_iaload 82 rfl (hp_at rfl) (by decide) (by omega) (by omega) ?_
        refine r_icmp_eq (t := 140) 83 rfl (by decide) (by first | exact hA _ _ | exact ⟨by decide, by decide⟩ | assumption | exact ⟨by omega, by omega⟩) (by first | exact hA _ _ | exact ⟨by decide, by decide⟩ | assumption | exact ⟨by omega, by omega⟩) (fun c_135 => by omega) (fun c_135 => ?_)
        refine r_iconst 84 rfl ?_
        refine r_iret 85 rfl rfl (by first | rfl | assumption) ?_
        exact fin
      have hne : ¬ (A 123 (31 * m + a) ≠ A 123 (31 * p + b) ∨ A 124 (31 * m + a) ≠ A 124 (31 * p + b)) := fun h => by
        rcases h with h | h
        · exact h hkd
        · exact h hpt
      rw [es, if_neg hne] at hq
      have nx : ∀ (v4 v5 v6 v7 v8 : Value) (l : List (Int × Int)) (B' : Nat → Int → Int), suit (tM A m) (tM A p) a b = some l → fRf A B' → wl B' (addP w l) → wok N N' (addP w l) → wx K M_T_refines (d + 1) Q 338 [some (.ref (xa K.n 32)), some (iv m), some (iv p), some (iv k), some v4, some v5, some v6, some v7, some v8, none, none, none, none] [] (hp K.n B' R g t u) := by
        intro v4 v5 v6 v7 v8 l B' h1 h2 h3 h4
        rw [es, if_neg hne] at h1
        rw [h1] at hq
        have n1 := ih (k + 1) B' (addP w l) h2 h3 h4 (by omega) (by have := wok_len hok hN hN'; omega) hq
        rw [show ((k + 1 : Nat) : Int) = (k : Int) + 1 by omega] at n1
        have hn1 : wx K M_T_refines (d + 1) Q 70 [some (.ref (xa K.n 32)), some (iv m), some (iv p), some (iv ((k : Int) + 1)), some v4, some v5, some v6, some v7, some v8, none, none, none, none] [] (hp K.n B' R g t u) := wx_t (pre := [some (.ref (xa K.n 32)), some (iv m), some (iv p), some (iv ((k : Int) + 1))]) (tl := [some v4, some v5, some v6, some v7, some v8, none, none, none, none]) n1
        refine r_iinc 190 rfl rfl ?_
        refine r_goto (t := 70) 191 rfl (by decide) ?_
        exact hn1
      by_cases h1 : A 123 (31 * m + a) = 1
      · rw [if_pos h1] at hq
        have n2 := rf_in (K := K) (d := d) (Q := Q) (R := R) (g := g) (t := t) (u := u) (A := A) (m := m) (p := p) (k := k) (sw := 1) (mg := m) (x := a) (mh := p) (y := b) (N := N) (N' := N') (v4 := iv (31 * m + a)) (v5 := iv (31 * p + b)) (Or.inr rfl) m0 m1 p0 p1 a0 (by omega) b0 (by omega) oa ob hN hN' hN hN' (fun x y x0 x1 y0 y1 => ⟨⟨x0, x1⟩, y0, y1⟩) (A 125 (31 * m + a)).toNat 0 B w (by omega) (by omega) hf hw hok (fun h B' hB' => by
            have := hq B' hB'
            rw [h] at this
            exact this) (fun l B' e1 e2 e3 e4 => by
            have el : l.map (pq 1) = l := by
              have : pq 1 = id := funext fun q => if_pos rfl
              rw [this, List.map_id]
            rw [el] at e3 e4
            exact nx _ _ _ _ _ l B' (by rw [es, if_neg hne, if_pos h1]; exact e1) e2 e3 e4)
        refine r_iload_n 44 rfl rfl ?_
        refine r_aload_n 45 rfl rfl ?_
        refine r_get 46 rfl f_T_166 (hp_at rfl) rfl ?_
        refine r_icmp_ge (t := 344) 47 rfl (by decide) (by first | exact hA _ _ | exact ⟨by decide, by decide⟩ | assumption | exact ⟨by omega, by omega⟩) (by first | exact hA _ _ | exact ⟨by decide, by decide⟩ | assumption | exact ⟨by omega, by omega⟩) (fun c_75 => by omega) (fun c_75 => ?_)
        refine r_bipush 48 rfl rfl ?_
        refine r_iload_n 49 rfl rfl ?_
        refine r_imul 50 rfl ?_
        refine r_aload_n 51 rfl rfl ?_
        refine r_get 52 rfl f_T_44 (hp_at rfl) rfl ?_
        refine r_iload_n 53 rfl rfl ?_
        refine r_iaload 54 rfl (hp_at rfl) (by decide) (by omega) (by omega) ?_
        rw [w1]
        refine r_iadd 55 rfl ?_
        refine r_istore 56 rfl (Nat.le_of_ble_eq_true rfl) ?_
        refine r_bipush 57 rfl rfl ?_
        refine r_iload_n 58 rfl rfl ?_
        refine r_imul 59 rfl ?_
        refine r_aload_n 60 rfl rfl ?_
        refine r_get 61 rfl f_T_47 (hp_at rfl) rfl ?_
        refine r_iload_n 62 rfl rfl ?_
        refine r_iaload 63 rfl (hp_at rfl) (by decide) (by omega) (by omega) ?_
        rw [w2]
        refine r_iadd 64 rfl ?_
        refine r_istore 65 rfl (Nat.le_of_ble_eq_true rfl) ?_
        refine r_aload_n 66 rfl rfl ?_
        refine r_get 67 rfl f_T_56 (hp_at rfl) rfl ?_
        refine r_iload 68 rfl rfl ?_
        refine r_iaload 69 rfl (hp_at rfl) (by decide) (by omega) (by omega) ?_
        refine r_aload_n 70 rfl rfl ?_
        refine r_get 71 rfl f_T_56 (hp_at rfl) rfl ?_
        refine r_iload 72 rfl rfl ?_
        refine r_iaload 73 rfl (hp_at rfl) (by decide) (by omega) (by omega) ?_
        refine r_icmp_ne (t := 138) 74 rfl (by decide) (by first | exact hA _ _ | exact ⟨by decide, by decide⟩ | assumption | exact ⟨by omega, by omega⟩) (by first | exact hA _ _ | exact ⟨by decide, by decide⟩ | assumption | exact ⟨by omega, by omega⟩) (fun c_118 => by omega) (fun c_118 => ?_)
        refine r_aload_n 75 rfl rfl ?_
        refine r_get 76 rfl f_T_59 (hp_at rfl) rfl ?_
        refine r_iload 77 rfl rfl ?_
        refine r_iaload 78 rfl (hp_at rfl) (by decide) (by omega) (by omega) ?_
        refine r_aload_n 79 rfl rfl ?_
        refine r_get 80 rfl f_T_59 (hp_at rfl) rfl ?_
        refine r_iload 81 rfl rfl ?_
        refine r_iaload 82 rfl (hp_at rfl) (by decide) (by omega) (by omega) ?_
        refine r_icmp_eq (t := 140) 83 rfl (by decide) (by first | exact hA _ _ | exact ⟨by decide, by decide⟩ | assumption | exact ⟨by omega, by omega⟩) (by first | exact hA _ _ | exact ⟨by decide, by decide⟩ | assumption | exact ⟨by omega, by omega⟩) (fun c_135 => ?_) (fun c_135 => by omega)
        refine r_aload_n 86 rfl rfl ?_
        refine r_get 87 rfl f_T_56 (hp_at rfl) rfl ?_
        refine r_iload 88 rfl rfl ?_
        refine r_iaload 89 rfl (hp_at rfl) (by decide) (by omega) (by omega) ?_
        refine r_iconst 90 rfl ?_
        refine r_icmp_ne (t := 155) 91 rfl (by decide) (by first | exact hA _ _ | exact ⟨by decide, by decide⟩ | assumption | exact ⟨by omega, by omega⟩) (by first | exact hA _ _ | exact ⟨by decide, by decide⟩ | assumption | exact ⟨by omega, by omega⟩) (fun c_148 => by omega) (fun c_148 => ?_)
        refine r_iconst 92 rfl ?_
        refine r_goto (t := 156) 93 rfl (by decide) ?_
        refine r_istore 95 rfl (Nat.le_of_ble_eq_true rfl) ?_
        refine r_iload 96 rfl rfl ?_
        refine r_if_eq (t := 168) 97 rfl (by decide) (by first | exact hA _ _ | exact ⟨by decide, by decide⟩ | assumption | exact ⟨by omega, by omega⟩) (fun c_160 => by omega) (fun c_160 => ?_)
        refine r_iload 98 rfl rfl ?_
        refine r_goto (t := 170) 99 rfl (by decide) ?_
        refine r_istore 101 rfl (Nat.le_of_ble_eq_true rfl) ?_
        refine r_iload 102 rfl rfl ?_
        refine r_if_eq (t := 182) 103 rfl (by decide) (by first | exact hA _ _ | exact ⟨by decide, by decide⟩ | assumption | exact ⟨by omega, by omega⟩) (fun c_174 => by omega) (fun c_174 => ?_)
        refine r_iload 104 rfl rfl ?_
        refine r_goto (t := 184) 105 rfl (by decide) ?_
        refine r_istore 107 rfl (Nat.le_of_ble_eq_true rfl) ?_
        refine r_iconst 108 rfl ?_
        refine r_istore 109 rfl (Nat.le_of_ble_eq_true rfl) ?_
        exact n2
      · rw [if_neg h1] at hq
        have n2 := rf_in (K := K) (d := d) (Q := Q) (R := R) (g := g) (t := t) (u := u) (A := A) (m := m) (p := p) (k := k) (sw := 0) (mg := p) (x := b) (mh := m) (y := a) (N := N) (N' := N') (v4 := iv (31 * m + a)) (v5 := iv (31 * p + b)) (Or.inl rfl) p0 p1 m0 m1 b0 (by omega) a0 (by omega) ob oa hN hN' hN' hN (fun x y x0 x1 y0 y1 => ⟨⟨y0, y1⟩, x0, x1⟩) (A 125 (31 * p + b)).toNat 0 B w (by omega) (by omega) hf hw hok (fun h B' hB' => by
            have := hq B' hB'
            rw [h] at this
            exact this) (fun l B' e1 e2 e3 e4 => by
            have el : l.map (pq 0) = l.map swp := by
              have : pq 0 = swp := funext fun q => if_neg (by decide)
              rw [this]
            rw [el] at e3 e4
            exact nx _ _ _ _ _ (l.map swp) B' (by rw [es, if_neg hne, if_neg h1, e1]; rfl) e2 e3 e4)
        refine r_iload_n 44 rfl rfl ?_
        refine r_aload_n 45 rfl rfl ?_
        refine r_get 46 rfl f_T_166 (hp_at rfl) rfl ?_
        refine r_icmp_ge (t := 344) 47 rfl (by decide) (by first | exact hA _ _ | exact ⟨by decide, by decide⟩ | assumption | exact ⟨by omega, by omega⟩) (by first | exact hA _ _ | exact ⟨by decide, by decide⟩ | assumption | exact ⟨by omega, by omega⟩) (fun c_75 => by omega) (fun c_75 => ?_)
        refine r_bipush 48 rfl rfl ?_
        refine r_iload_n 49 rfl rfl ?_
        refine r_imul 50 rfl ?_
        refine r_aload_n 51 rfl rfl ?_
        refine r_get 52 rfl f_T_44 (hp_at rfl) rfl ?_
        refine r_iload_n 53 rfl rfl ?_
        refine r_iaload 54 rfl (hp_at rfl) (by decide) (by omega) (by omega) ?_
        rw [w1]
        refine r_iadd 55 rfl ?_
        refine r_istore 56 rfl (Nat.le_of_ble_eq_true rfl) ?_
        refine r_bipush 57 rfl rfl ?_
        refine r_iload_n 58 rfl rfl ?_
        refine r_imul 59 rfl ?_
        refine r_aload_n 60 rfl rfl ?_
        refine r_get 61 rfl f_T_47 (hp_at rfl) rfl ?_
        refine r_iload_n 62 rfl rfl ?_
        refine r_iaload 63 rfl (hp_at rfl) (by decide) (by omega) (by omega) ?_
        rw [w2]
        refine r_iadd 64 rfl ?_
        refine r_istore 65 rfl (Nat.le_of_ble_eq_true rfl) ?_
        refine r_aload_n 66 rfl rfl ?_
        refine r_get 67 rfl f_T_56 (hp_at rfl) rfl ?_
        refine r_iload 68 rfl rfl ?_
        refine r_iaload 69 rfl (hp_at rfl) (by decide) (by omega) (by omega) ?_
        refine r_aload_n 70 rfl rfl ?_
        refine r_get 71 rfl f_T_56 (hp_at rfl) rfl ?_
        refine r_iload 72 rfl rfl ?_
        refine r_iaload 73 rfl (hp_at rfl) (by decide) (by omega) (by omega) ?_
        refine r_icmp_ne (t := 138) 74 rfl (by decide) (by first | exact hA _ _ | exact ⟨by decide, by decide⟩ | assumption | exact ⟨by omega, by omega⟩) (by first | exact hA _ _ | exact ⟨by decide, by decide⟩ | assumption | exact ⟨by omega, by omega⟩) (fun c_118 => by omega) (fun c_118 => ?_)
        refine r_aload_n 75 rfl rfl ?_
        refine r_get 76 rfl f_T_59 (hp_at rfl) rfl ?_
        refine r_iload 77 rfl rfl ?_
        refine r_iaload 78 rfl (hp_at rfl) (by decide) (by omega) (by omega) ?_
        refine r_aload_n 79 rfl rfl ?_
        refine r_get 80 rfl f_T_59 (hp_at rfl) rfl ?_
        refine r_iload 81 rfl rfl ?_
        refine r_iaload 82 rfl (hp_at rfl) (by decide) (by omega) (by omega) ?_
        refine r_icmp_eq (t := 140) 83 rfl (by decide) (by first | exact hA _ _ | exact ⟨by decide, by decide⟩ | assumption | exact ⟨by omega, by omega⟩) (by first | exact hA _ _ | exact ⟨by decide, by decide⟩ | assumption | exact ⟨by omega, by omega⟩) (fun c_135 => ?_) (fun c_135 => by omega)
        refine r_aload_n 86 rfl rfl ?_
        refine r_get 87 rfl f_T_56 (hp_at rfl) rfl ?_
        refine r_iload 88 rfl rfl ?_
        refine r_iaload 89 rfl (hp_at rfl) (by decide) (by omega) (by omega) ?_
        refine r_iconst 90 rfl ?_
        refine r_icmp_ne (t := 155) 91 rfl (by decide) (by first | exact hA _ _ | exact ⟨by decide, by decide⟩ | assumption | exact ⟨by omega, by omega⟩) (by first | exact hA _ _ | exact ⟨by decide, by decide⟩ | assumption | exact ⟨by omega, by omega⟩) (fun c_148 => ?_) (fun c_148 => by omega)
        refine r_iconst 94 rfl ?_
        refine r_istore 95 rfl (Nat.le_of_ble_eq_true rfl) ?_
        refine r_iload 96 rfl rfl ?_
        refine r_if_eq (t := 168) 97 rfl (by decide) (by first | exact hA _ _ | exact ⟨by decide, by decide⟩ | assumption | exact ⟨by omega, by omega⟩) (fun c_160 => ?_) (fun c_160 => by omega)
        refine r_iload 100 rfl rfl ?_
        refine r_istore 101 rfl (Nat.le_of_ble_eq_true rfl) ?_
        refine r_iload 102 rfl rfl ?_
        refine r_if_eq (t := 182) 103 rfl (by decide) (by first | exact hA _ _ | exact ⟨by decide, by decide⟩ | assumption | exact ⟨by omega, by omega⟩) (fun c_174 => ?_) (fun c_174 => by omega)
        refine r_iload 106 rfl rfl ?_
        refine r_istore 107 rfl (Nat.le_of_ble_eq_true rfl) ?_
        refine r_iconst 108 rfl ?_
        refine r_istore 109 rfl (Nat.le_of_ble_eq_true rfl) ?_
        exact n2
theorem c_T_refines {A : Nat → Int → Int} {m p : Int} (hA : rga A) (m0 : 0 ≤ m) (m1 : m < 9) (p0 : 0 ≤ p) (p1 : p < 9) (hM : mOK (tM A m) (A 122 m)) (hP : mOK (tM A p) (A 122 p)) (hN0 : 0 ≤ A 122 m) (hN : A 122 m ≤ 30) (hN0' : 0 ≤ A 122 p) (hN' : A 122 p ≤ 30)
    (hq : ∀ B, fRf A B → Q (.returned (some (iv (if A 122 m ≠ 0 ∧ A 122 p ≠ 0 ∧ refP (tM A m) (tM A p) = true then 1 else 0)))) (hp K.n B R g t u)) : mx K M_T_refines (d + 1) [.ref (xa K.n 32), iv m, iv p] (hp K.n A R g t u) Q := by
  have rf0 : fRf A A := ⟨fun _ _ _ _ _ _ => rfl, hA⟩
  refine mx_in ok_T_refines rfl (Nat.le_of_ble_eq_true rfl) ?_
  by_cases h1 : A 122 m = 0
  · have fin := hq A rf0
    rw [if_neg (fun h => h.1 h1)] at fin
    refine r_aload_n 0 rfl rfl ?_
    refine r_get 1 rfl f_T_53 (hp_at rfl) rfl ?_
    refine r_iload_n 2 rfl rfl ?_
    refine r_iaload 3 rfl (hp_at rfl) (by decide) (by omega) (by omega) ?_
    refine r_if_eq (t := 18) 4 rfl (by decide) (by first | exact hA _ _ | exact ⟨by decide, by decide⟩ | assumption | exact ⟨by omega, by omega⟩) (fun c_6 => ?_) (fun c_6 => by omega)
    refine r_iconst 10 rfl ?_
    refine r_iret 11 rfl rfl (by first | rfl | assumption) ?_
    exact fin
  by_cases h2 : A 122 p = 0
  · have fin := hq A rf0
    rw [if_neg (fun h => h.2.1 h2)] at fin
    refine r_aload_n 0 rfl rfl ?_
    refine r_get 1 rfl f_T_53 (hp_at rfl) rfl ?_
    refine r_iload_n 2 rfl rfl ?_
    refine r_iaload 3 rfl (hp_at rfl) (by decide) (by omega) (by omega) ?_
    refine r_if_eq (t := 18) 4 rfl (by decide) (by first | exact hA _ _ | exact ⟨by decide, by decide⟩ | assumption | exact ⟨by omega, by omega⟩) (fun c_6 => by omega) (fun c_6 => ?_)
    refine r_aload_n 5 rfl rfl ?_
    refine r_get 6 rfl f_T_53 (hp_at rfl) rfl ?_
    refine r_iload_n 7 rfl rfl ?_
    refine r_iaload 8 rfl (hp_at rfl) (by decide) (by omega) (by omega) ?_
    refine r_if_ne (t := 20) 9 rfl (by decide) (by first | exact hA _ _ | exact ⟨by decide, by decide⟩ | assumption | exact ⟨by omega, by omega⟩) (fun c_15 => by omega) (fun c_15 => ?_)
    refine r_iconst 10 rfl ?_
    refine r_iret 11 rfl rfl (by first | rfl | assumption) ?_
    exact fin
  generalize hC : au (au (au (au (fil A 131 0 961 0) 100 18 1) 119 0 0) 120 0 0) 131 0 1 = C
  have Cr : ∀ (j : Nat) (i : Int), C j i = if j = 131 ∧ i = 0 then 1 else if j = 120 ∧ i = 0 then 0 else if j = 119 ∧ i = 0 then 0 else if j = 100 ∧ i = 18 then 1 else if j = 131 ∧ 0 ≤ i ∧ i < 961 then 0 else A j i := fun j i => by rw [← hC, au_ite, au_ite, au_ite, au_ite]; rfl
  have hCA : rga C := by rw [← hC]; exact rga_au (rga_au (rga_au (rga_au (rga_fil hA rg_0) ⟨by decide, by decide⟩) rg_0) rg_0) ⟨by decide, by decide⟩
  have fC : fRf A C := ⟨fun j i a b c e => by rw [Cr, if_neg (by omega), if_neg (by omega), if_neg (by omega), if_neg (by omega), if_neg (by omega)], hCA⟩
  have wC : wl C [(0, 0)] := by
    refine ⟨by rw [Cr, if_neg (by omega), if_neg (by omega), if_neg (by omega), if_pos ⟨rfl, rfl⟩]; rfl, fun i q hq' => ?_, fun a b a0 a1 b0 b1 => ?_⟩
    · cases i with
      | zero => cases hq'; exact ⟨by rw [Cr, if_neg (by omega), if_neg (by omega), if_pos ⟨rfl, rfl⟩], by rw [Cr, if_neg (by omega), if_pos ⟨rfl, rfl⟩]⟩
      | succ i => cases hq'
    · rw [Cr, List.mem_singleton]
      by_cases e : a = 0 ∧ b = 0
      · rw [if_pos (by omega), e.1, e.2]
        exact ⟨fun _ => rfl, fun _ => by decide⟩
      · rw [if_neg (by omega), if_neg (by omega), if_neg (by omega), if_neg (by omega), if_pos (by omega)]
        exact ⟨fun h => absurd rfl h, fun h => by cases h; exact absurd ⟨rfl, rfl⟩ e⟩
  have main := rf_out (K := K) (d := d) (Q := Q) (R := R) (g := g) (t := t) (u := u) m0 m1 p0 p1 hM hP hN hN' 1000 0 C [(0, 0)] fC wC ⟨by simp, fun q hq' => by rw [List.mem_singleton] at hq'; rw [hq']; exact ⟨⟨by decide, by show (0 : Int) < _; omega⟩, by decide, by show (0 : Int) < _; omega⟩⟩ (by omega) (by omega) (fun B' hB' => by
    have := hq B' hB'
    unfold refP at this
    by_cases e : rfn (tM A m) (tM A p) 1000 [(0, 0)] 0 = true
    · rw [if_pos ⟨h1, h2, e⟩] at this; rw [if_pos e]; exact this
    · rw [if_neg (fun h => e h.2.2)] at this; rw [if_neg e]; exact this)
  have clr : ∀ (c : Nat) (k : Int), 0 ≤ k → k + c = 961 → wx K M_T_refines (d + 1) Q 22 [some (.ref (xa K.n 32)), some (iv m), some (iv p), some (iv k), none, none, none, none, none, none, none, none, none] [] (hp K.n (fil A 131 0 k 0) R g t u) := by
    intro c
    induction c with
    | zero =>
      intro k k0 hk
      have ek : k = 961 := by omega
      subst ek
      have hA := rga_fil hA (j := 131) (lo := 0) (hi := 961) rg_0
      refine r_iload_n 14 rfl rfl ?_
      refine r_sipush 15 rfl rfl ?_
      refine r_icmp_ge (t := 42) 16 rfl (by decide) (by first | exact hA _ _ | exact ⟨by decide, by decide⟩ | assumption | exact ⟨by omega, by omega⟩) (by first | exact hA _ _ | exact ⟨by decide, by decide⟩ | assumption | exact ⟨by omega, by omega⟩) (fun c_26 => ?_) (fun c_26 => by omega)
      refine r_aload_n 24 rfl rfl ?_
      refine r_iconst 25 rfl ?_
      refine r_put 26 rfl f_T_166 (hp_at rfl) rfl rfl ?_
      rw [wT_18]
      refine r_aload_n 27 rfl rfl ?_
      refine r_get 28 rfl f_T_44 (hp_at rfl) rfl ?_
      refine r_iconst 29 rfl ?_
      refine r_iconst 30 rfl ?_
      refine r_iastore 31 rfl (hp_at rfl) (by decide) (by omega) (by omega) ?_
      rw [ws_119]
      refine r_aload_n 32 rfl rfl ?_
      refine r_get 33 rfl f_T_47 (hp_at rfl) rfl ?_
      refine r_iconst 34 rfl ?_
      refine r_iconst 35 rfl ?_
      refine r_iastore 36 rfl (hp_at rfl) (by decide) (by omega) (by omega) ?_
      rw [ws_120]
      refine r_aload_n 37 rfl rfl ?_
      refine r_get 38 rfl f_T_80 (hp_at rfl) rfl ?_
      refine r_iconst 39 rfl ?_
      refine r_iconst 40 rfl ?_
      refine r_bastore 41 rfl (hp_at rfl) (by decide) (by omega) (by omega) rfl ?_
      rw [ws_131]
      rw [hC]
      refine r_iconst 42 rfl ?_
      refine r_istore_n 43 rfl (Nat.le_of_ble_eq_true rfl) ?_
      exact main
    | succ c ih =>
      intro k k0 hk
      have nx := ih (k + 1) (by omega) (by omega)
      have hA := rga_fil hA (j := 131) (lo := 0) (hi := k) rg_0
      refine r_iload_n 14 rfl rfl ?_
      refine r_sipush 15 rfl rfl ?_
      refine r_icmp_ge (t := 42) 16 rfl (by decide) (by first | exact hA _ _ | exact ⟨by decide, by decide⟩ | assumption | exact ⟨by omega, by omega⟩) (by first | exact hA _ _ | exact ⟨by decide, by decide⟩ | assumption | exact ⟨by omega, by omega⟩) (fun c_26 => by omega) (fun c_26 => ?_)
      refine r_aload_n 17 rfl rfl ?_
      refine r_get 18 rfl f_T_80 (hp_at rfl) rfl ?_
      refine r_iload_n 19 rfl rfl ?_
      refine r_iconst 20 rfl ?_
      refine r_bastore 21 rfl (hp_at rfl) (by decide) (by omega) (by omega) rfl ?_
      rw [ws_131]
      rw [fil_step _ _ _ k0]
      refine r_iinc 22 rfl rfl ?_
      refine r_goto (t := 22) 23 rfl (by decide) ?_
      exact nx
  have nx := clr 961 0 (by omega) (by omega)
  rw [fil_0] at nx
  refine r_aload_n 0 rfl rfl ?_
  refine r_get 1 rfl f_T_53 (hp_at rfl) rfl ?_
  refine r_iload_n 2 rfl rfl ?_
  refine r_iaload 3 rfl (hp_at rfl) (by decide) (by omega) (by omega) ?_
  refine r_if_eq (t := 18) 4 rfl (by decide) (by first | exact hA _ _ | exact ⟨by decide, by decide⟩ | assumption | exact ⟨by omega, by omega⟩) (fun c_6 => by omega) (fun c_6 => ?_)
  refine r_aload_n 5 rfl rfl ?_
  refine r_get 6 rfl f_T_53 (hp_at rfl) rfl ?_
  refine r_iload_n 7 rfl rfl ?_
  refine r_iaload 8 rfl (hp_at rfl) (by decide) (by omega) (by omega) ?_
  refine r_if_ne (t := 20) 9 rfl (by decide) (by first | exact hA _ _ | exact ⟨by decide, by decide⟩ | assumption | exact ⟨by omega, by omega⟩) (fun c_15 => ?_) (fun c_15 => by omega)
  refine r_iconst 12 rfl ?_
  refine r_istore_n 13 rfl (Nat.le_of_ble_eq_true rfl) ?_
  exact nx
end TW65


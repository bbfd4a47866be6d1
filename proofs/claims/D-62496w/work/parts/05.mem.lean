/-! memory: fields, arrays, new -/
def xty (r : vw_C) (k : Nat) : FieldType := (parseFieldDescriptor (r.2.1 k).2.2.1).getD .int
theorem xc_of {ci : Nat} {r : vw_C} (h : xc_cls[ci]? = some r) : (∀ k, k < r.2.2 → parseFieldDescriptor (r.2.1 k).2.2.1 = some (xty r k)) ∧ (∀ a, a < r.2.2 → ∀ b, b < r.2.2 → a ≠ b → (r.2.1 a).2.1 ≠ (r.2.1 b).2.1) ∧ (∀ w ∈ u_ws r.1 r.2.1 r.2.2, w ∈ lw_tbl) ∧ Cond.instantiable r.1 r.2.2 ∈ lw_tbl ∧ Cond.initialized r.1 ∈ lw_tbl := by
  have h1 := List.all_eq_true.mp xc_okall r (List.mem_of_getElem? h)
  simp only [xc_ok, Bool.and_eq_true, List.all_eq_true, List.mem_range, decide_eq_true_eq] at h1
  obtain ⟨⟨⟨h2, h3⟩, h4⟩, h5⟩ := h1
  refine ⟨fun k hk => ?_, fun a ha b hb hne e => ?_, h3, h4, h5⟩
  · have := (h2 k hk).1
    unfold xty
    cases hp : parseFieldDescriptor (r.2.1 k).2.2.1 with
    | none => rw [hp] at this; cases this
    | some t => rfl
  · have := (h2 a ha).2 b hb
    simp [hne, e] at this
/-- the words of a class, at a state of the run -/
theorem xkn.lw {K : xk} {U : State} (h : xkn K U) {args : Array Value} : ∀ w ∈ lw_tbl.filter wd_ok, w.before args U = true := fun w hw => h.w (List.mem_filter.mp hw).1 (List.mem_filter.mp hw).2
theorem wd_lay (C : String) (T : u_T) (k : Nat) : wd_ok (u_lay C T k) = true := by
  unfold u_lay
  split <;> rfl
theorem xc_lay {ci : Nat} {r : vw_C} (h : xc_cls[ci]? = some r) : ∀ w ∈ u_ws r.1 r.2.1 r.2.2, w ∈ lw_tbl.filter wd_ok := fun w hw => by
  refine List.mem_filter.mpr ⟨(xc_of h).2.2.1 w hw, ?_⟩
  obtain ⟨k, -, rfl⟩ := List.mem_map.mp hw
  exact wd_lay _ _ _
/-- entry idx of own's pool names the field k of class ci, of type ty -/
def fld (own : String) (idx ci k : Nat) (ty : FieldType) (fin : Bool) : Prop := ∃ r : vw_C, xc_cls[ci]? = some r ∧ k < r.2.2 ∧ (r.2.1 k).1 = r.1 ∧ 0 < ci ∧ ci < 20 ∧ (r.2.1 k).2.2.2 = fin ∧ parseFieldDescriptor (r.2.1 k).2.2.1 = some ty ∧
  (Cond.fieldLink own idx r.1 (r.2.1 k).2.1 (r.2.1 k).2.2.1 ∈ lw_tbl ∨ ∃ host, Cond.fieldLinkNest own idx r.1 (r.2.1 k).2.1 (r.2.1 k).2.2.1 host ∈ lw_tbl)
def av (n : Nat) (f : Int → Value) : List Value := (List.range n).map (fun j : Nat => f (Int.ofNat j))
def fu {α : Type} (f : Int → α) (i : Int) (v : α) : Int → α := fun q => if q = i then v else f q
theorem av_len (n : Nat) (f : Int → Value) : (av n f).length = n := by simp [av]
theorem av_get {n j : Nat} (f : Int → Value) (h : j < n) : (av n f)[j]? = some (f j) := by simp [av, h]
theorem av_V {n j : Nat} (f : Int → Value) (h : j < n) : vp_V (av n f) j = f j := by
  unfold vp_V
  rw [List.getD_eq_getElem?_getD, av_get f h]
  rfl
theorem av_set {n : Nat} (f : Int → Value) {i : Int} (h : 0 ≤ i) (v : Value) : (av n f).set i.toNat v = av n (fu f i v) := by
  apply List.ext_getElem?
  intro j
  by_cases hj : j < n
  · rw [av_get _ hj]
    by_cases e : j = i.toNat
    · subst e
      rw [List.getElem?_set_self (by rw [av_len]; exact hj)]
      simp [fu, Int.toNat_of_nonneg h]
    · rw [List.getElem?_set_ne (fun q => e q.symm), av_get _ hj]
      have : ¬ (j : Int) = i := fun q => e (by omega)
      simp [fu, this]
  · rw [List.getElem?_eq_none (by rw [List.length_set, av_len]; omega), List.getElem?_eq_none (by rw [av_len]; omega)]
theorem arrV_congr {cA : ClassId} {n : Nat} {f g : Nat → Value} (h : ∀ j, j < n → f j = g j) : arrV cA n f = arrV cA n g := by
  unfold arrV
  congr 1
  apply Array.ext
  · simp
  · intro i h1 h2
    simp at h1
    simp [h i h1]
theorem xcr_av {K : xk} {ci n a : Nat} {f : Int → Value} {H : Heap} (h1 : ¬ ci < 20) (h2 : ci < 30) : xcr K (ci, av n f) a H ↔ H[a]? = some (arrV (K.dC ci) n (fun j => f j)) := by
  unfold xcr
  rw [if_neg h1, if_pos h2, av_len, arrV_congr (f := vp_V (av n f)) (g := fun j => f j) (fun j hj => av_V f hj)]
theorem fu_store {cA : ClassId} {n : Nat} {f : Int → Value} {i : Int} (h : 0 ≤ i) (v : Value) : (arrV cA n (fun j => f j)).setSlot i.toNat v = arrV cA n (fun j => fu f i v j) := by
  rw [arrV_store]
  refine arrV_congr fun j _ => ?_
  unfold updV fu
  by_cases e : j = i.toNat
  · rw [if_pos e, if_pos (by omega)]
  · rw [if_neg e, if_neg (by omega)]
theorem ix_cl {i : Int} (h0 : 0 ≤ i) (h1 : i < 2147483648) : (Int32.ofInt i).toNatClampNeg = i.toNat := by
  unfold Int32.toNatClampNeg
  rw [rg_t ⟨by omega, h1⟩]
theorem ix_in {i : Int} {n : Nat} (h0 : 0 ≤ i) (h1 : i < n) (hn : n < 2147483648) : ¬ (Int32.ofInt i < 0 ∨ n ≤ (Int32.ofInt i).toNatClampNeg) := by
  rw [ix_cl h0 (by omega)]
  rintro (h | h)
  · have := (iv_lt (a := i) (b := 0) ⟨by omega, by omega⟩ rg_0).mp h
    omega
  · omega
section MEM
variable {K : xk} {M : xm} {d : Nat} {Q : Outcome → xh → Prop} {pc : Nat} {L : List (Option Value)} {st : List Value} {h : xh}
theorem r_get (j : Nat) {idx ci kf a : Nat} {ty : FieldType} {fin : Bool} {fs : List Value} {v : Value} (hd : M.t[j]? = some (pc, .getfield idx, 3)) (hf : fld M.y.cls idx ci kf ty fin) (hc : h.1 a = (ci, fs)) (hv : fs[kf]? = some v) (k : wx K M d Q (pc + 3) L (v :: st) h) : wx K M d Q pc L (.ref a :: st) h := by
  intro s m args below meth c H locs h0 ls A hH h1 h2 hl hL
  obtain ⟨r, hr, hk, hown, hz, h20, -, -, hlink⟩ := hf
  have hcell := (hH.cell hc (Nat.pos_iff_ne_zero.mp hz)).2.obj h20
  obtain ⟨r', hr', -, hob⟩ := hcell
  cases hr.symm.trans hr'
  have hP : va_P (K.dC, K.dI) xc_cls [(a, .inr (ci, fs))] H := fun k q hq => by
    have hz : k < 1 := (List.getElem?_eq_some_iff.mp hq).1
    rw [show k = 0 by omega] at hq
    cases hq
    exact ⟨r, hr, hob⟩
  have hK : va_K (K.dC, K.dI) xc_cls [] s := ⟨A.kn.1, fun k q h => by simp at h⟩
  have go : W K.p K.l K.e (xroom K d h0) s m args below meth c H locs (h.2.1 - h0.2.1) (h.2.2 - h0.2.2) (mq K below s h0 Q) (F0 m (pc + 3) ls (v :: st)) := k s m args below meth c H locs h0 ls A hH h1 h2 hl hL
  rcases hlink with hlink | ⟨host, hlink⟩
  · exact va_get (D := (K.dC, K.dI)) (C := r.1) (T := r.2.1) (N := r.2.2) A.ex A.bt (A.kn.lw (args := args)) (xc_lay hr) A.ow hK hP 0 rfl hr kf hk (A.kn.w hlink rfl) (fun x hx => by rw [hown] at hx; exact hx) hv (A.dc hd) go
  · exact va_getN (D := (K.dC, K.dI)) (C := r.1) (T := r.2.1) (N := r.2.2) A.ex A.bt (A.kn.lw (args := args)) (xc_lay hr) A.ow hK hP 0 rfl hr kf hk (A.kn.w hlink rfl) (fun x hx => by rw [hown] at hx; exact hx) hv (A.dc hd) go
theorem put_end {a ci kf : Nat} {fs : List Value} {v : Value} {r : vw_C} {s : State} {H H' : Heap} {cell : Cell} (hkn : xkn K s) (hH : xhr K h H) (hc : h.1 a = (ci, fs)) (hz : 0 < ci) (h20 : ci < 20) (hr : xc_cls[ci]? = some r) (hk : kf < r.2.2)
    (q1 : H[a]? = some cell) (e1 : H'[a]? = some (cell.setSlot (K.dI ci kf) v)) (e2 : H'.size = H.size) (e3 : ∀ q, q ≠ a → H'[q]? = H[q]?) : xhr K (h.set a (ci, fs.set kf v)) H' := by
  have hcell := hH.cell hc (Nat.pos_iff_ne_zero.mp hz)
  refine hH.put hcell.1 e2 e3 ?_
  obtain ⟨r', hr', hlen, cell', p1, p2, p3, p4⟩ := hcell.2.obj h20
  cases hr.symm.trans hr'
  cases q1.symm.trans p1
  unfold xcr
  rw [if_pos h20]
  have hap := va_apart (own := r.1) (hkn.lw (args := #[])) (xc_lay hr) (xty r) (xc_of hr).1 (xc_of hr).2.1 (D := (K.dC, K.dI)) (tys := []) ⟨hkn.1, fun k q h => by simp at h⟩ hr
  exact ⟨r, hr, by show (fs.set kf v).length = _; rw [List.length_set]; exact hlen, t_OB.to (V := updV (vp_V fs) kf v) ⟨_, e1, p2, p3, t_set p4 hap hk v⟩ (fun j _ => vp_updV_set (by omega) v j)⟩
theorem r_put (j : Nat) {idx ci kf a : Nat} {ty : FieldType} {fs : List Value} {v : Value} (hd : M.t[j]? = some (pc, .putfield idx, 3)) (hf : fld M.y.cls idx ci kf ty false) (hc : h.1 a = (ci, fs)) (hn : narrow ty v = v) (hfit : fits ty v = true) (k : wx K M d Q (pc + 3) L st (h.set a (ci, fs.set kf v))) : wx K M d Q pc L (v :: .ref a :: st) h := by
  intro s m args below meth c H locs h0 ls A hH h1 h2 hl hL
  obtain ⟨r, hr, hk, hown, hz, h20, hfin, hty, hlink⟩ := hf
  have hcell := hH.cell hc (Nat.pos_iff_ne_zero.mp hz)
  obtain ⟨r', hr', hlen, cell, q1, q2, q3, q4⟩ := hcell.2.obj h20
  cases hr.symm.trans hr'
  obtain ⟨hS, hfc, kC, hkC, hkind⟩ := A.kn.1 ci _ hr
  obtain ⟨cf, kf', fi, f, hi, hsl⟩ := hS kf hk
  have hlay := A.kn.lw (args := args) _ (xc_lay hr _ (u_in_lay hk))
  unfold u_lay at hlay
  rw [if_neg (by rw [hfin]; decide)] at hlay
  have hst := (u_facts hfc hkC (u_lays (A.kn.lw (args := args)) (xc_lay hr) hk) hi).1
  have h6 := u_store hfc hkC hkind hlay hi hty hn hfit
  have go : ∀ H' : Heap, H'[a]? = some (cell.setSlot f.slot v) → H'.size = H.size → (∀ q, q ≠ a → H'[q]? = H[q]?) → W K.p K.l K.e (xroom K d h0) s m args below meth c H' (locs ++ [⟨a, f.slot⟩]) (h.2.1 - h0.2.1) (h.2.2 - h0.2.2) (mq K below s h0 Q) (F0 m (pc + 3) ls st) := fun H' e1 e2 e3 => by
    rw [hsl] at e1
    refine k s m args below meth c H' _ h0 ls A (put_end A.kn hH hc hz h20 hr hk q1 e1 e2 e3) h1 h2 (fun q hq => ?_) hL
    rcases List.mem_append.mp hq with hq | hq
    · exact hl q hq
    · rw [List.mem_singleton.mp hq]; exact hcell.1
  rw [hown] at hi
  rcases hlink with hlink | ⟨host, hlink⟩
  · exact W.putK A.ex A.bt (f := f) ⟨A.ow, A.kn.w hlink rfl, ⟨_, _, _, hi⟩, hst⟩ (by rw [q2]; exact h6) q1 q3 (by rw [hsl]; exact k2_hasslot (q4 kf hk)) rfl rfl (A.dc hd) go
  · exact va_WputK A.ex A.bt (f := f) A.ow (A.kn.w hlink rfl) hi hst (by rw [q2]; exact h6) q1 q3 (by rw [hsl]; exact k2_hasslot (q4 kf hk)) rfl rfl (A.dc hd) go
theorem r_putF (j : Nat) {idx ci kf a : Nat} {ty : FieldType} {fs : List Value} {v : Value} (hd : M.t[j]? = some (pc, .putfield idx, 3)) (hf : fld M.y.cls idx ci kf ty true) (hin : M.y.name = "<init>") (hown1 : (xc_cls[ci]?).map (·.1) = some M.y.cls) (hnn : ∀ r : vw_C, xc_cls[ci]? = some r → Cond.fieldLink M.y.cls idx r.1 (r.2.1 kf).2.1 (r.2.1 kf).2.2.1 ∈ lw_tbl) (hc : h.1 a = (ci, fs)) (hn : narrow ty v = v) (hfit : fits ty v = true) (k : wx K M d Q (pc + 3) L st (h.set a (ci, fs.set kf v))) : wx K M d Q pc L (v :: .ref a :: st) h := by
  intro s m args below meth c H locs h0 ls A hH h1 h2 hl hL
  obtain ⟨r, hr, hk, hown, hz, h20, hfin, hty, -⟩ := hf
  have hlink := hnn r hr
  rw [hr] at hown1
  have hown1 : r.1 = M.y.cls := Option.some.inj hown1
  have hcell := hH.cell hc (Nat.pos_iff_ne_zero.mp hz)
  obtain ⟨r', hr', hlen, cell, q1, q2, q3, q4⟩ := hcell.2.obj h20
  cases hr.symm.trans hr'
  obtain ⟨hS, hfc, kC, hkC, hkind⟩ := A.kn.1 ci _ hr
  obtain ⟨cf, kf', fi, f, hi, hsl⟩ := hS kf hk
  have hlay := A.kn.lw (args := args) _ (xc_lay hr _ (u_in_lay hk))
  unfold u_lay at hlay
  rw [if_pos hfin] at hlay
  have hst := (u_facts hfc hkC (u_lays (A.kn.lw (args := args)) (xc_lay hr) hk) hi).1
  have hcf : m.cls = cf := by
    obtain ⟨_, _, c', _, _, _, -, -, hf', -, -, -, hown2, -⟩ := Cond.laysFinal_spec hlay
    have e1 : c' = cf := by have := hi.symm.trans hf'; simp at this; exact this.1.symm
    rw [hown, hown1] at hown2
    rw [← e1]; exact Option.some.inj (A.ow.symm.trans hown2)
  have h6 := u_fits hfc hkC hkind (Or.inr hlay) hi hty hn hfit
  have go : ∀ H' : Heap, H'[a]? = some (cell.setSlot f.slot v) → H'.size = H.size → (∀ q, q ≠ a → H'[q]? = H[q]?) → W K.p K.l K.e (xroom K d h0) s m args below meth c H' (locs ++ [⟨a, f.slot⟩]) (h.2.1 - h0.2.1) (h.2.2 - h0.2.2) (mq K below s h0 Q) (F0 m (pc + 3) ls st) := fun H' e1 e2 e3 => by
    rw [hsl] at e1
    refine k s m args below meth c H' _ h0 ls A (put_end A.kn hH hc hz h20 hr hk q1 e1 e2 e3) h1 h2 (fun q hq => ?_) hL
    rcases List.mem_append.mp hq with hq | hq
    · exact hl q hq
    · rw [List.mem_singleton.mp hq]; exact hcell.1
  rw [hown] at hi
  exact W.putFinK A.ex A.bt A.ow (A.kn.w hlink rfl) hi hst hcf (A.nm.trans hin) (by rw [q2]; exact h6) q1 q3 (by rw [hsl]; exact k2_hasslot (q4 kf hk)) rfl rfl (A.dc hd) go
end MEM

/-! THE MACHINE LAYER: an abstract heap, its tie to the machine's, words that move -/
abbrev xm : Type := MethodName × ByteArray × Nat × Option FieldType × List (Nat × Nat × Nat × Nat) × List (Nat × Instr × Nat)
abbrev xm.y (M : xm) : MethodName := M.1
abbrev xm.b (M : xm) : ByteArray := M.2.1
abbrev xm.n (M : xm) : Nat := M.2.2.1
abbrev xm.r (M : xm) : Option FieldType := M.2.2.2.1
abbrev xm.x (M : xm) : List (Nat × Nat × Nat × Nat) := M.2.2.2.2.1
abbrev xm.t (M : xm) : List (Nat × Instr × Nat) := M.2.2.2.2.2
/-- program, launch, surroundings, class numbers, slots, where the law's own cells begin, the heap at its entry -/
abbrev xk : Type := Program × Launch × Env × (Nat → ClassId) × (Nat → Nat → Nat) × Nat × Heap
abbrev xk.p (K : xk) : Program := K.1
abbrev xk.l (K : xk) : Launch := K.2.1
abbrev xk.e (K : xk) : Env := K.2.2.1
abbrev xk.dC (K : xk) : Nat → ClassId := K.2.2.2.1
abbrev xk.dI (K : xk) : Nat → Nat → Nat := K.2.2.2.2.1
abbrev xk.n (K : xk) : Nat := K.2.2.2.2.2.1
abbrev xk.h (K : xk) : Heap := K.2.2.2.2.2.2
/-- cells by address (class number, fields or elements; class 0: nothing known), the next address, slots used -/
abbrev xh : Type := (Nat → Nat × List Value) × Nat × Nat
def xh.set (h : xh) (a : Nat) (c : Nat × List Value) : xh := (fun q => if q = a then c else h.1 q, h.2.1, h.2.2)
def xh.new (h : xh) (c : Nat × List Value) (n : Nat) : xh := (fun q => if q = h.2.1 then c else h.1 q, h.2.1 + 1, h.2.2 + n)
def xcr (K : xk) (q : Nat × List Value) (a : Nat) (H : Heap) : Prop :=
  if q.1 < 20 then ∃ r : vw_C, xc_cls[q.1]? = some r ∧ q.2.length = r.2.2 ∧ t_OB a (K.dC q.1) r.2.2 (K.dI q.1) H (vp_V q.2)
  else if q.1 < 30 then H[a]? = some (arrV (K.dC q.1) q.2.length (vp_V q.2))
  else ∃ cell : Cell, H[a]? = some cell ∧ cell.cls = K.dC q.1 ∧ cell.vm.isStatics = false
def xhr (K : xk) (h : xh) (H : Heap) : Prop :=
  H.size = h.2.1 ∧ K.n ≤ h.2.1 ∧ (∀ a, a < K.n → H[a]? = K.h[a]?) ∧ (∀ a, (h.1 a).1 ≠ 0 → K.n ≤ a ∧ xcr K (h.1 a) a H) ∧ h.2.1 ≤ K.n + 600128 ∧ h.2.2 ≤ 7301098
/-- a static of the JDK's that holds a reference or null, in a cell from before the law -/
def xst (K : xk) (q : String × String × String) (U : State) : Prop := ∃ (c : ClassId) (k : Class) (i : Nat) (f : Field) (a : Nat) (cell : Cell) (v : Value), U.vm.findClass q.1 = some c ∧ U.fieldFound? q.1 q.2.1 q.2.2 = some (c, k, i, f) ∧ f.isStatic = true ∧ k.statics = some a ∧ K.h[a]? = some cell ∧ a < K.n ∧ cell.vm.isStatics = true ∧ cell.cls = c ∧ f.slot < cell.slots.size ∧ k.staticTypes[f.slot]? = some f.type ∧ cell.slots[f.slot]? = some v ∧ (v = .null ∨ ∃ t, v = .ref t)
theorem xst.moved {K : xk} {q : String × String × String} {u U : State} (hvm : u.vm.Alike U.vm) (h : xst K q u) : xst K q U := by
  obtain ⟨c, k, i, f, a, cell, v, h1, h2, h3, h4, h5, h6, h7, h8, h9, h10, h11⟩ := h
  obtain ⟨k', hi', he⟩ := State.fieldFound?_setVm hvm h2
  exact ⟨c, k', i, f, a, cell, v, by rw [hvm.findClass]; exact h1, hi', h3, by rw [he]; exact h4, h5, h6, h7, h8, h9, by rw [he]; exact h10, h11⟩
theorem xst.words {K : xk} {q : String × String × String} {U : State} (h : xst K q U) (hh : ∀ a, a < K.n → U.heap[a]? = K.h[a]?) {args : Array Value} : (Cond.laysStatic q.1 q.2.1 q.2.2).before args U = true ∧ (Cond.isRef (.static q.1 q.2.1 q.2.2)).before args U = true := by
  obtain ⟨c, k, i, f, a, cell, v, h1, h2, h3, h4, h5, h6, h7, h8, h9, h10, h11, h12⟩ := h
  have h5' : U.heap[a]? = some cell := by rw [hh a h6]; exact h5
  constructor
  · simp [Cond.before, Cond.holds, Cond.value, h1, h2, h3, h4, h5', h7, h8, h9, h10]
  · rcases h12 with rfl | ⟨t, rfl⟩ <;> simp [Cond.before, Cond.holds, Cond.value, Term.eval, State.fieldNamed?, h2, h3, h4, h5', h7, h11]
theorem xst.of {K : xk} {q : String × String × String} {s : State} {args : Array Value} (hl : (Cond.laysStatic q.1 q.2.1 q.2.2).before args s = true) (hr : (Cond.isRef (.static q.1 q.2.1 q.2.2)).before args s = true) (hh : K.h = s.heap) (hn : K.n = s.heap.size) : xst K q s := by
  obtain ⟨c, k, i, f, a, cell, hc, hi, hst, ha, hcell, hs, hcls, hlt, hty⟩ := Cond.laysStatic_spec hl
  refine ⟨c, k, i, f, a, cell, _, hc, hi, hst, ha, by rw [hh]; exact hcell, by rw [hn]; exact (Array.getElem?_eq_some_iff.mp hcell).1, hs, hcls, hlt, hty, Array.getElem?_eq_getElem hlt, ?_⟩
  simp [Cond.before, Cond.holds, Cond.value, Term.eval, State.fieldNamed?, hi, hst, ha, hcell, hs, hlt] at hr
  cases hv : cell.slots[f.slot] with
  | null => exact Or.inl rfl
  | ref t => exact Or.inr ⟨t, rfl⟩
  | _ => rw [hv] at hr; simp at hr
/-- what holds in every state of the run, tables alone -/
def xkn (K : xk) (U : State) : Prop :=
  (∀ (ci : Nat) (r : vw_C), xc_cls[ci]? = some r → u_Kn U r.1 r.2.1 r.2.2 (K.dC ci) (K.dI ci)) ∧
  (∀ q : Nat × FieldType, q ∈ xc_arr → ArrOfT U (K.dC q.1) q.2 ∧ va_RA U (K.dC q.1) q.2) ∧
  (∀ w ∈ lw_tbl, wd_ok w = true → w.before #[] U = true) ∧
  (∀ q ∈ xc_neg, va_Nc q.1 q.2 U) ∧
  (∀ q ∈ xc_exc, U.vm.findClass q.2 = some (K.dC q.1)) ∧
  (∀ q ∈ xc_sta, xst K q U)
theorem wd_move {w : Cond} (hk : wd_ok w = true) {s U : State} {a a' : Array Value} (hW : s.WarmedH U.vm) (h : w.before a s = true) : w.before a' U = true := by
  have base : ∀ w : Cond, (w.onTables && w.keeps) = true → w.before a s = true → w.before a' U = true := fun w hw h => word_at hW (Or.inl hw) h
  have face : ∀ w : Cond, w.onTables = true → w.faceAtom = true → w.before a s = true → w.before a' U = true := fun w h1 h2 h => by
    have h3 := Cond.faceAtom_setVm (args := a) hW.alike w h2 h
    have h4 := Cond.onTables_vm (A := a) (A' := a') (U := s) (U' := U) U.vm w h1
    rw [h4] at h3
    rwa [State.setVm_self] at h3
  cases w
  case fieldLinkNest => exact va_Nw.use rfl (va_Nw.warmF hW (va_Nw.of rfl h))
  case methodLinkNest => exact va_Nw.use rfl (va_Nw.warmM hW (va_Nw.of rfl h))
  case declares => exact face _ rfl rfl h
  case castable => exact face _ rfl rfl h
  case privateMethod => exact face _ rfl rfl h
  case arrayClass ty => exact word_at hW (Or.inr ⟨ty, rfl⟩) h
  case arrayOver ty =>
    cases ty
    case object C => exact va_AO.use (va_AO.moved hW.alike (va_AO.of h))
    all_goals exact absurd hk (by simp [wd_ok, Cond.onTables])
  all_goals exact base _ hk h
theorem ArrOfT_moved {u U : State} (hvm : u.vm.Alike U.vm) {cA : ClassId} {ty : FieldType} (h : ArrOfT u cA ty) : ArrOfT U cA ty := fun n f => State.isArrayOf_alike hvm (h n f)
theorem xkn.moved {K : xk} {U V : State} (hW : U.WarmedH V.vm) (h : xkn K U) : xkn K V := by
  obtain ⟨h1, h2, h3, h4, h5, h6⟩ := h
  exact ⟨fun ci r hr => u_Kn_moved hW.alike (h1 ci r hr), fun q hq => ⟨ArrOfT_moved hW.alike (h2 q hq).1, va_RA.moved hW.alike (h2 q hq).2⟩,
    fun w hw hk => wd_move hk hW (h3 w hw hk), fun q hq => va_Nc.moved hW.alike (h4 q hq), fun q hq => by rw [hW.alike.findClass]; exact h5 q hq, fun q hq => (h6 q hq).moved hW.alike⟩
theorem xkn.w {K : xk} {U : State} (h : xkn K U) {w : Cond} (hw : w ∈ lw_tbl) (hk : wd_ok w = true) {args : Array Value} : w.before args U = true := wd_move hk (State.WarmedH.refl U) (h.2.2.1 w hw hk)
/-! cells -/
theorem xcr.kept {K : xk} {q : Nat × List Value} {a : Nat} {H H1 : Heap} (h : xcr K q a H) (e : H1[a]? = H[a]?) : xcr K q a H1 := by
  unfold xcr at h ⊢
  split
  · rename_i hc
    rw [if_pos hc] at h
    obtain ⟨r, h1, h2, h3⟩ := h
    exact ⟨r, h1, h2, h3.kept e⟩
  · rename_i hc
    rw [if_neg hc] at h
    split
    · rename_i hc2
      rw [if_pos hc2] at h
      rw [e]; exact h
    · rename_i hc2
      rw [if_neg hc2] at h
      obtain ⟨cell, h1, h2⟩ := h
      exact ⟨cell, by rw [e]; exact h1, h2⟩
theorem xcr.lt {K : xk} {q : Nat × List Value} {a : Nat} {H : Heap} (h : xcr K q a H) : a < H.size := by
  unfold xcr at h
  split at h
  · obtain ⟨r, -, -, cell, h1, -⟩ := h
    exact (Array.getElem?_eq_some_iff.mp h1).1
  · split at h
    · exact (Array.getElem?_eq_some_iff.mp h).1
    · obtain ⟨cell, h1, -⟩ := h
      exact (Array.getElem?_eq_some_iff.mp h1).1
theorem xcr.obj {K : xk} {ci : Nat} {fs : List Value} {a : Nat} {H : Heap} (h : xcr K (ci, fs) a H) (hc : ci < 20) : ∃ r : vw_C, xc_cls[ci]? = some r ∧ fs.length = r.2.2 ∧ t_OB a (K.dC ci) r.2.2 (K.dI ci) H (vp_V fs) := by
  unfold xcr at h
  rwa [if_pos hc] at h
theorem xcr.arr {K : xk} {ci : Nat} {fs : List Value} {a : Nat} {H : Heap} (h : xcr K (ci, fs) a H) (hc : ¬ ci < 20) (hd : ci < 30) : H[a]? = some (arrV (K.dC ci) fs.length (vp_V fs)) := by
  unfold xcr at h
  rwa [if_neg hc, if_pos hd] at h
theorem xcr.any {K : xk} {q : Nat × List Value} {a : Nat} {H : Heap} (h : xcr K q a H) : ∃ cell : Cell, H[a]? = some cell ∧ cell.cls = K.dC q.1 ∧ cell.vm.isStatics = false := by
  unfold xcr at h
  split at h
  · obtain ⟨r, -, -, cell, h1, h2, h3, -⟩ := h
    exact ⟨cell, h1, h2, by rw [h3]; rfl⟩
  · split at h
    · exact ⟨_, h, rfl, rfl⟩
    · exact h
theorem xhr.cell {K : xk} {h : xh} {H : Heap} (hH : xhr K h H) {a : Nat} {q : Nat × List Value} (e : h.1 a = q) (hz : q.1 ≠ 0) : K.n ≤ a ∧ xcr K q a H := by
  have := hH.2.2.2.1 a (by rw [e]; exact hz)
  rwa [e] at this
theorem xhr.put {K : xk} {h : xh} {H H1 : Heap} (hH : xhr K h H) {a : Nat} {c : Nat × List Value} (ha : K.n ≤ a) (z : H1.size = H.size) (o : ∀ q, q ≠ a → H1[q]? = H[q]?) (hc : xcr K c a H1) : xhr K (h.set a c) H1 := by
  obtain ⟨h1, h2, h3, h4, h5⟩ := hH
  refine ⟨by rw [z]; exact h1, h2, fun q hq => ?_, fun q hq => ?_, h5⟩
  · rw [o q (by omega)]; exact h3 q hq
  · by_cases e : q = a
    · subst e
      simp only [xh.set, if_true] at hq ⊢
      exact ⟨ha, hc⟩
    · simp only [xh.set, if_neg e] at hq ⊢
      exact ⟨(h4 q hq).1, (h4 q hq).2.kept (o q e)⟩
theorem xhr.push {K : xk} {h : xh} {H H1 : Heap} (hH : xhr K h H) {c : Nat × List Value} {n : Nat} (z : H1.size = h.2.1 + 1) (o : ∀ q, q < h.2.1 → H1[q]? = H[q]?) (b1 : h.2.1 + 1 ≤ K.n + 600128) (b2 : h.2.2 + n ≤ 7301098) (hc : xcr K c h.2.1 H1) : xhr K (h.new c n) H1 := by
  obtain ⟨h1, h2, h3, h4, -⟩ := hH
  refine ⟨z, by show K.n ≤ h.2.1 + 1; omega, fun q hq => ?_, fun q hq => ?_, b1, b2⟩
  · rw [o q (by omega)]; exact h3 q hq
  · by_cases e : q = h.2.1
    · subst e
      simp only [xh.new, if_true] at hq ⊢
      exact ⟨h2, hc⟩
    · simp only [xh.new, if_neg e] at hq ⊢
      have h5 := h4 q hq
      exact ⟨h5.1, h5.2.kept (o q (by have := h5.2.lt; omega))⟩

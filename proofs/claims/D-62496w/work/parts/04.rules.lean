/-! THE WALK: wx, its rules -/
def iv (z : Int) : Value := .int (Int32.ofInt z)
def rg (z : Int) : Prop := -2147483648 ≤ z ∧ z < 2147483648
theorem rg_t {z : Int} (h : rg z) : (Int32.ofInt z).toInt = z := Int32.toInt_ofInt_of_le (by have := h.1; omega) (by have := h.2; omega)
theorem rg_of (x : Int32) : rg x.toInt := ⟨by have := x.le_toInt; omega, by have := x.toInt_lt; omega⟩
theorem iv_of (x : Int32) : Value.int x = iv x.toInt := by unfold iv; rw [Int32.ofInt_toInt]
theorem iv_lt {a b : Int} (ha : rg a) (hb : rg b) : Int32.ofInt a < Int32.ofInt b ↔ a < b := by rw [Int32.lt_iff_toInt_lt, rg_t ha, rg_t hb]
theorem iv_le {a b : Int} (ha : rg a) (hb : rg b) : Int32.ofInt a ≤ Int32.ofInt b ↔ a ≤ b := by rw [Int32.le_iff_toInt_le, rg_t ha, rg_t hb]
theorem iv_eq {a b : Int} (ha : rg a) (hb : rg b) : Int32.ofInt a = Int32.ofInt b ↔ a = b := by rw [← Int32.toInt_inj, rg_t ha, rg_t hb]
theorem iv_cat (z : Int) : (iv z).category = 1 := rfl
theorem rg_0 : rg 0 := ⟨by decide, by decide⟩
theorem iv_z : Int32.ofInt 0 = 0 := rfl
/-- locals: what is known of them -/
def lrel (ls : Array Slot) (L : List (Option Value)) (n : Nat) : Prop :=
  ls.size = n ∧ lv_wf ls ∧ L.length = n ∧ (∀ (i : Nat) (v : Value), L[i]? = some (some v) → ls[i]? = some (.val v)) ∧ ∀ (i : Nat) (v : Value), L[i]? = some (some v) → v.category = 1
def lvl (L : List (Option Value)) : List (Nat × Value) := (List.range L.length).filterMap fun i => (L[i]?).join.map fun v => (i, v)
theorem mem_lvl {L : List (Option Value)} {i : Nat} {v : Value} : (i, v) ∈ lvl L ↔ L[i]? = some (some v) := by
  unfold lvl
  rw [List.mem_filterMap]
  constructor
  · rintro ⟨j, hj, h⟩
    cases h1 : L[j]? with
    | none => simp [h1] at h
    | some o =>
      cases o with
      | none => simp [h1] at h
      | some w =>
        simp [h1] at h
        obtain ⟨rfl, rfl⟩ := h
        exact h1
  · intro h
    exact ⟨i, List.mem_range.mpr (List.getElem?_eq_some_iff.mp h).1, by simp [h]⟩
theorem lrel.has {ls : Array Slot} {L : List (Option Value)} {n : Nat} (h : lrel ls L n) : lv_has ls n (lvl L) := ⟨h.1, h.2.1, fun q hq => h.2.2.2.1 q.1 q.2 (mem_lvl.mp hq)⟩
theorem lrel.set {ls : Array Slot} {L : List (Option Value)} {n i : Nat} {x : Value} (h : lrel ls L n) (hx : x.category = 1) {ls' : Array Slot}
    (h' : lv_has ls' n ((i, x) :: (lvl L).filter (fun q => !(q.1 == i) && !(q.1 + 1 == i && q.2.category == 2)))) : lrel ls' (L.set i (some x)) n := by
  refine ⟨h'.1, h'.2.1, by rw [List.length_set]; exact h.2.2.1, fun j v hj => ?_, fun j v hj => ?_⟩
  · by_cases e : j = i
    · subst e
      rw [List.getElem?_set_self' ] at hj
      cases h1 : L[j]? with
      | none => simp [h1] at hj
      | some w => simp [h1] at hj; subst hj; exact h'.2.2 _ List.mem_cons_self
    · rw [List.getElem?_set_ne (fun q => e q.symm)] at hj
      refine h'.2.2 (j, v) (List.mem_cons_of_mem _ (List.mem_filter.mpr ⟨mem_lvl.mpr hj, ?_⟩))
      simp [e, h.2.2.2.2 j v hj]
  · by_cases e : j = i
    · subst e
      rw [List.getElem?_set_self'] at hj
      cases h1 : L[j]? with
      | none => simp [h1] at hj
      | some w => simp [h1] at hj; subst hj; exact hx
    · rw [List.getElem?_set_ne (fun q => e q.symm)] at hj
      exact h.2.2.2.2 j v hj
/-- a method as the tables have it -/
def cw (M : xm) : Cond := match M.x with
  | [] => .code M.y M.b M.n M.r
  | x :: xs => .codeWith M.y M.b M.n M.r (x :: xs)
def okm (M : xm) : Prop := cw M ∈ lw_tbl ∧ (∀ q ∈ M.t, decode M.b q.1 = .ok q.2) ∧ M.n ≤ 13 ∧ plainName M.y.cls = true ∧ Cond.initialized M.y.cls ∈ lw_tbl
/-- an activation of the method M -/
def xact (K : xk) (M : xm) (s : State) (m : MethodId) (meth : Method) (c : Code) (h0 : xh) : Prop :=
  K.p.tables.exec = Jvm.exec ∧ c.code = M.b ∧ meth.sig.returnType = M.r ∧ meth.locks = false ∧ c.maxLocals = M.n ∧ s.vm.findClass M.y.cls = some m.cls ∧ meth.name = M.y.name ∧ c.exceptionTable.toList = tableOf M.x ∧ xkn K s ∧ K.e.platform.stackTraces = false ∧ xhr K h0 s.heap ∧ okm M
theorem xact.ex {K : xk} {M : xm} {s : State} {m : MethodId} {meth : Method} {c : Code} {h0 : xh} (A : xact K M s m meth c h0) : K.p.tables.exec = Jvm.exec := A.1
theorem xact.bt {K : xk} {M : xm} {s : State} {m : MethodId} {meth : Method} {c : Code} {h0 : xh} (A : xact K M s m meth c h0) : c.code = M.b := A.2.1
theorem xact.rt {K : xk} {M : xm} {s : State} {m : MethodId} {meth : Method} {c : Code} {h0 : xh} (A : xact K M s m meth c h0) : meth.sig.returnType = M.r := A.2.2.1
theorem xact.lk {K : xk} {M : xm} {s : State} {m : MethodId} {meth : Method} {c : Code} {h0 : xh} (A : xact K M s m meth c h0) : meth.locks = false := A.2.2.2.1
theorem xact.ml {K : xk} {M : xm} {s : State} {m : MethodId} {meth : Method} {c : Code} {h0 : xh} (A : xact K M s m meth c h0) : c.maxLocals = M.n := A.2.2.2.2.1
theorem xact.ow {K : xk} {M : xm} {s : State} {m : MethodId} {meth : Method} {c : Code} {h0 : xh} (A : xact K M s m meth c h0) : s.vm.findClass M.y.cls = some m.cls := A.2.2.2.2.2.1
theorem xact.nm {K : xk} {M : xm} {s : State} {m : MethodId} {meth : Method} {c : Code} {h0 : xh} (A : xact K M s m meth c h0) : meth.name = M.y.name := A.2.2.2.2.2.2.1
theorem xact.tb {K : xk} {M : xm} {s : State} {m : MethodId} {meth : Method} {c : Code} {h0 : xh} (A : xact K M s m meth c h0) : c.exceptionTable.toList = tableOf M.x := A.2.2.2.2.2.2.2.1
theorem xact.kn {K : xk} {M : xm} {s : State} {m : MethodId} {meth : Method} {c : Code} {h0 : xh} (A : xact K M s m meth c h0) : xkn K s := A.2.2.2.2.2.2.2.2.1
theorem xact.tr {K : xk} {M : xm} {s : State} {m : MethodId} {meth : Method} {c : Code} {h0 : xh} (A : xact K M s m meth c h0) : K.e.platform.stackTraces = false := A.2.2.2.2.2.2.2.2.2.1
theorem xact.h0 {K : xk} {M : xm} {s : State} {m : MethodId} {meth : Method} {c : Code} {h0 : xh} (A : xact K M s m meth c h0) : xhr K h0 s.heap := A.2.2.2.2.2.2.2.2.2.2.1
theorem xact.ok {K : xk} {M : xm} {s : State} {m : MethodId} {meth : Method} {c : Code} {h0 : xh} (A : xact K M s m meth c h0) : okm M := A.2.2.2.2.2.2.2.2.2.2.2
theorem xact.dc {K : xk} {M : xm} {s : State} {m : MethodId} {meth : Method} {c : Code} {h0 : xh} (A : xact K M s m meth c h0) {j pc n : Nat} {i : Instr} (hd : M.t[j]? = some (pc, i, n)) : decode M.b pc = .ok (i, n) := A.ok.2.1 (pc, i, n) (List.mem_of_getElem? hd)
def xroom (K : xk) (d : Nat) (h0 : xh) : Room := { frames := d, cells := K.n + 600128 - h0.2.1, slots := 7301098 - h0.2.2, locals := 41 * d }
/-- the end of an activation -/
def mq (K : xk) (below : List Frame) (s : State) (h0 : xh) (Q : Outcome → xh → Prop) : State → Prop := fun t =>
  ∃ (o : Outcome) (h' : xh), t.status = .running ∧ Ended t below o ∧ Q o h' ∧ xhr K h' t.heap ∧ h0.2.1 ≤ h'.2.1 ∧ h0.2.2 ≤ h'.2.2 ∧ s.WarmedH t.vm ∧ ∃ L : List Loc, (∀ q ∈ L, K.n ≤ q.base) ∧ s.sameButNew ({ t with vm := s.vm } : State) L (h'.2.1 - h0.2.1) (h'.2.2 - h0.2.2)
def wx (K : xk) (M : xm) (d : Nat) (Q : Outcome → xh → Prop) (pc : Nat) (L : List (Option Value)) (st : List Value) (h : xh) : Prop :=
  ∀ (s : State) (m : MethodId) (args : Array Value) (below : List Frame) (meth : Method) (c : Code) (H : Heap) (locs : List Loc) (h0 : xh) (ls : Array Slot), xact K M s m meth c h0 → xhr K h H → h0.2.1 ≤ h.2.1 → h0.2.2 ≤ h.2.2 → (∀ q ∈ locs, K.n ≤ q.base) → lrel ls L M.n →
    W K.p K.l K.e (xroom K d h0) s m args below meth c H locs (h.2.1 - h0.2.1) (h.2.2 - h0.2.2) (mq K below s h0 Q) (F0 m pc ls st)
theorem xdiv {a b : Int} (ha : 0 ≤ a) (ha2 : a < 2147483648) (hb : 0 < b) (hb2 : b < 2147483648) : Int32.ofInt a / Int32.ofInt b = Int32.ofInt (a / b) := by
  have h1 : rg a := ⟨by omega, ha2⟩
  have h2 : rg b := ⟨by omega, hb2⟩
  have h5 : a / b ≤ a := Int.ediv_le_self b ha
  have h6 : 0 ≤ a / b := Int.ediv_nonneg ha (by omega)
  have h3 : rg (a / b) := ⟨by omega, by omega⟩
  rw [← Int32.toInt_inj, rg_t h3, Int32.toInt_div_of_ne_right _ _ (fun e => by
    have := congrArg Int32.toInt e
    rw [rg_t h2] at this
    have h4 : (-1 : Int32).toInt = -1 := by decide
    omega), rg_t h1, rg_t h2, Int.tdiv_eq_ediv_of_nonneg ha]
theorem xrem {a b : Int} (ha : 0 ≤ a) (ha2 : a < 2147483648) (hb : 0 < b) (hb2 : b < 2147483648) : Int32.ofInt a - Int32.ofInt a / Int32.ofInt b * Int32.ofInt b = Int32.ofInt (a % b) := by
  rw [xdiv ha ha2 hb hb2, ← Int32.ofInt_mul, ← Int32.ofInt_sub, Int.emod_def, Int.mul_comm (a / b) b]
section RULES
variable {K : xk} {M : xm} {d : Nat} {Q : Outcome → xh → Prop} {pc : Nat} {L : List (Option Value)} {st : List Value} {h : xh}
theorem r_iconst (j : Nat) {n : Int} (hd : M.t[j]? = some (pc, .iconst n, 1)) (k : wx K M d Q (pc + 1) L (iv n :: st) h) : wx K M d Q pc L st h := by
  intro s m args below meth c H locs h0 ls A hH h1 h2 hl hL
  refine lv_iconst A.ex A.bt (A.dc hd) rfl ?_
  exact k s m args below meth c H locs h0 ls A hH h1 h2 hl hL
theorem r_bipush (j : Nat) {n : Int} (hd : M.t[j]? = some (pc, .bipush n, 2)) (hn : (Int8.ofInt n).toInt32 = Int32.ofInt n) (k : wx K M d Q (pc + 2) L (iv n :: st) h) : wx K M d Q pc L st h := by
  intro s m args below meth c H locs h0 ls A hH h1 h2 hl hL
  refine lv_bipush A.ex A.bt (A.dc hd) hn ?_
  exact k s m args below meth c H locs h0 ls A hH h1 h2 hl hL
theorem r_sipush (j : Nat) {n : Int} (hd : M.t[j]? = some (pc, .sipush n, 3)) (hn : (Int16.ofInt n).toInt32 = Int32.ofInt n) (k : wx K M d Q (pc + 3) L (iv n :: st) h) : wx K M d Q pc L st h := by
  intro s m args below meth c H locs h0 ls A hH h1 h2 hl hL
  refine lv_sipush A.ex A.bt (A.dc hd) hn ?_
  exact k s m args below meth c H locs h0 ls A hH h1 h2 hl hL
theorem r_null (j : Nat) (hd : M.t[j]? = some (pc, .aconst_null, 1)) (k : wx K M d Q (pc + 1) L (.null :: st) h) : wx K M d Q pc L st h := by
  intro s m args below meth c H locs h0 ls A hH h1 h2 hl hL
  refine lv_null A.ex A.bt (A.dc hd) ?_
  exact k s m args below meth c H locs h0 ls A hH h1 h2 hl hL
theorem r_iload_n (j : Nat) {i : Fin 4} {z : Int} (hd : M.t[j]? = some (pc, .iload_n i, 1)) (hv : L[(i : Nat)]? = some (some (iv z))) (k : wx K M d Q (pc + 1) L (iv z :: st) h) : wx K M d Q pc L st h := by
  intro s m args below meth c H locs h0 ls A hH h1 h2 hl hL
  refine lv_iload_n A.ex A.bt (A.dc hd) rfl (hL.2.2.2.1 _ _ hv) ?_
  exact k s m args below meth c H locs h0 ls A hH h1 h2 hl hL
theorem r_iload (j : Nat) {i : Nat} {z : Int} (hd : M.t[j]? = some (pc, .iload i, 2)) (hv : L[i]? = some (some (iv z))) (k : wx K M d Q (pc + 2) L (iv z :: st) h) : wx K M d Q pc L st h := by
  intro s m args below meth c H locs h0 ls A hH h1 h2 hl hL
  refine lv_iload A.ex A.bt (A.dc hd) (hL.2.2.2.1 _ _ hv) ?_
  exact k s m args below meth c H locs h0 ls A hH h1 h2 hl hL
theorem r_aload_n (j : Nat) {i : Fin 4} {a : Nat} (hd : M.t[j]? = some (pc, .aload_n i, 1)) (hv : L[(i : Nat)]? = some (some (.ref a))) (k : wx K M d Q (pc + 1) L (.ref a :: st) h) : wx K M d Q pc L st h := by
  intro s m args below meth c H locs h0 ls A hH h1 h2 hl hL
  refine lv_aload_n A.ex A.bt (A.dc hd) rfl (hL.2.2.2.1 _ _ hv) ?_
  exact k s m args below meth c H locs h0 ls A hH h1 h2 hl hL
theorem r_aload_nN (j : Nat) {i : Fin 4} (hd : M.t[j]? = some (pc, .aload_n i, 1)) (hv : L[(i : Nat)]? = some (some .null)) (k : wx K M d Q (pc + 1) L (.null :: st) h) : wx K M d Q pc L st h := by
  intro s m args below meth c H locs h0 ls A hH h1 h2 hl hL
  refine lv_aload_nN A.ex A.bt (A.dc hd) rfl (hL.2.2.2.1 _ _ hv) ?_
  exact k s m args below meth c H locs h0 ls A hH h1 h2 hl hL
theorem r_aload (j : Nat) {i : Nat} {a : Nat} (hd : M.t[j]? = some (pc, .aload i, 2)) (hv : L[i]? = some (some (.ref a))) (k : wx K M d Q (pc + 2) L (.ref a :: st) h) : wx K M d Q pc L st h := by
  intro s m args below meth c H locs h0 ls A hH h1 h2 hl hL
  refine lv_aload A.ex A.bt (A.dc hd) (hL.2.2.2.1 _ _ hv) ?_
  exact k s m args below meth c H locs h0 ls A hH h1 h2 hl hL
theorem r_aloadN (j : Nat) {i : Nat} (hd : M.t[j]? = some (pc, .aload i, 2)) (hv : L[i]? = some (some .null)) (k : wx K M d Q (pc + 2) L (.null :: st) h) : wx K M d Q pc L st h := by
  intro s m args below meth c H locs h0 ls A hH h1 h2 hl hL
  refine lv_aloadN A.ex A.bt (A.dc hd) (hL.2.2.2.1 _ _ hv) ?_
  exact k s m args below meth c H locs h0 ls A hH h1 h2 hl hL
theorem r_istore_n (j : Nat) {i : Fin 4} {z : Int} (hd : M.t[j]? = some (pc, .istore_n i, 1)) (hi : (i : Nat) < L.length) (k : wx K M d Q (pc + 1) (L.set (i : Nat) (some (iv z))) st h) : wx K M d Q pc L (iv z :: st) h := by
  intro s m args below meth c H locs h0 ls A hH h1 h2 hl hL
  refine lv_istore_n A.ex A.bt (A.dc hd) rfl hL.has (hL.2.2.1 ▸ hi) rfl (fun ls' hL' => ?_)
  exact k s m args below meth c H locs h0 ls' A hH h1 h2 hl (hL.set rfl hL')
theorem r_istore (j : Nat) {i : Nat} {z : Int} (hd : M.t[j]? = some (pc, .istore i, 2)) (hi : i < L.length) (k : wx K M d Q (pc + 2) (L.set i (some (iv z))) st h) : wx K M d Q pc L (iv z :: st) h := by
  intro s m args below meth c H locs h0 ls A hH h1 h2 hl hL
  refine lv_istore A.ex A.bt (A.dc hd) hL.has (hL.2.2.1 ▸ hi) rfl (fun ls' hL' => ?_)
  exact k s m args below meth c H locs h0 ls' A hH h1 h2 hl (hL.set rfl hL')
theorem r_astore_n (j : Nat) {i : Fin 4} {a : Nat} (hd : M.t[j]? = some (pc, .astore_n i, 1)) (hi : (i : Nat) < L.length) (k : wx K M d Q (pc + 1) (L.set (i : Nat) (some (.ref a))) st h) : wx K M d Q pc L (.ref a :: st) h := by
  intro s m args below meth c H locs h0 ls A hH h1 h2 hl hL
  refine lv_astore_n A.ex A.bt (A.dc hd) rfl hL.has (hL.2.2.1 ▸ hi) rfl (fun ls' hL' => ?_)
  exact k s m args below meth c H locs h0 ls' A hH h1 h2 hl (hL.set rfl hL')
theorem r_astore_nN (j : Nat) {i : Fin 4} (hd : M.t[j]? = some (pc, .astore_n i, 1)) (hi : (i : Nat) < L.length) (k : wx K M d Q (pc + 1) (L.set (i : Nat) (some (.null))) st h) : wx K M d Q pc L (.null :: st) h := by
  intro s m args below meth c H locs h0 ls A hH h1 h2 hl hL
  refine lv_astore_nN A.ex A.bt (A.dc hd) rfl hL.has (hL.2.2.1 ▸ hi) rfl (fun ls' hL' => ?_)
  exact k s m args below meth c H locs h0 ls' A hH h1 h2 hl (hL.set rfl hL')
theorem r_astore (j : Nat) {i : Nat} {a : Nat} (hd : M.t[j]? = some (pc, .astore i, 2)) (hi : i < L.length) (k : wx K M d Q (pc + 2) (L.set i (some (.ref a))) st h) : wx K M d Q pc L (.ref a :: st) h := by
  intro s m args below meth c H locs h0 ls A hH h1 h2 hl hL
  refine lv_astore A.ex A.bt (A.dc hd) hL.has (hL.2.2.1 ▸ hi) rfl (fun ls' hL' => ?_)
  exact k s m args below meth c H locs h0 ls' A hH h1 h2 hl (hL.set rfl hL')
theorem r_astoreN (j : Nat) {i : Nat} (hd : M.t[j]? = some (pc, .astore i, 2)) (hi : i < L.length) (k : wx K M d Q (pc + 2) (L.set i (some (.null))) st h) : wx K M d Q pc L (.null :: st) h := by
  intro s m args below meth c H locs h0 ls A hH h1 h2 hl hL
  refine lv_astoreN A.ex A.bt (A.dc hd) hL.has (hL.2.2.1 ▸ hi) rfl (fun ls' hL' => ?_)
  exact k s m args below meth c H locs h0 ls' A hH h1 h2 hl (hL.set rfl hL')
theorem r_iinc (j : Nat) {i : Nat} {n z : Int} (hd : M.t[j]? = some (pc, .iinc i n, 3)) (hv : L[i]? = some (some (iv z))) (k : wx K M d Q (pc + 3) (L.set i (some (iv (z + n)))) st h) : wx K M d Q pc L st h := by
  intro s m args below meth c H locs h0 ls A hH h1 h2 hl hL
  obtain ⟨q, hq⟩ := List.getElem?_of_mem (mem_lvl.mpr hv)
  refine lv_iinc (v := Int32.ofInt (z + n)) A.ex A.bt (A.dc hd) hL.has hq (Int32.ofInt_add z n).symm (hL.2.2.1 ▸ (List.getElem?_eq_some_iff.mp hv).1) rfl (fun ls' hL' => ?_)
  exact k s m args below meth c H locs h0 ls' A hH h1 h2 hl (hL.set rfl hL')
theorem r_iadd (j : Nat) {a b : Int} (hd : M.t[j]? = some (pc, .iadd, 1)) (k : wx K M d Q (pc + 1) L (iv (a + b) :: st) h) : wx K M d Q pc L (iv b :: iv a :: st) h := by
  intro s m args below meth c H locs h0 ls A hH h1 h2 hl hL
  refine lv_iadd A.ex A.bt (A.dc hd) ?_
  rw [← Int32.ofInt_add]
  exact k s m args below meth c H locs h0 ls A hH h1 h2 hl hL
theorem r_isub (j : Nat) {a b : Int} (hd : M.t[j]? = some (pc, .isub, 1)) (k : wx K M d Q (pc + 1) L (iv (a - b) :: st) h) : wx K M d Q pc L (iv b :: iv a :: st) h := by
  intro s m args below meth c H locs h0 ls A hH h1 h2 hl hL
  refine lv_isub A.ex A.bt (A.dc hd) ?_
  rw [← Int32.ofInt_sub]
  exact k s m args below meth c H locs h0 ls A hH h1 h2 hl hL
theorem r_imul (j : Nat) {a b : Int} (hd : M.t[j]? = some (pc, .imul, 1)) (k : wx K M d Q (pc + 1) L (iv (a * b) :: st) h) : wx K M d Q pc L (iv b :: iv a :: st) h := by
  intro s m args below meth c H locs h0 ls A hH h1 h2 hl hL
  refine lv_imul A.ex A.bt (A.dc hd) ?_
  rw [← Int32.ofInt_mul]
  exact k s m args below meth c H locs h0 ls A hH h1 h2 hl hL
theorem r_idiv (j : Nat) {a b : Int} (hd : M.t[j]? = some (pc, .idiv, 1)) (ha : 0 ≤ a) (ha2 : a < 2147483648) (hb : 0 < b) (hb2 : b < 2147483648) (k : wx K M d Q (pc + 1) L (iv (a / b) :: st) h) : wx K M d Q pc L (iv b :: iv a :: st) h := by
  intro s m args below meth c H locs h0 ls A hH h1 h2 hl hL
  refine lv_idiv A.ex A.bt (A.dc hd) (fun e => ?_) ?_
  · have := (iv_eq (a := b) (b := 0) ⟨by omega, hb2⟩ rg_0).mp e
    omega
  rw [xdiv ha ha2 hb hb2]
  exact k s m args below meth c H locs h0 ls A hH h1 h2 hl hL
theorem r_irem (j : Nat) {a b : Int} (hd : M.t[j]? = some (pc, .irem, 1)) (ha : 0 ≤ a) (ha2 : a < 2147483648) (hb : 0 < b) (hb2 : b < 2147483648) (k : wx K M d Q (pc + 1) L (iv (a % b) :: st) h) : wx K M d Q pc L (iv b :: iv a :: st) h := by
  intro s m args below meth c H locs h0 ls A hH h1 h2 hl hL
  refine lv_irem A.ex A.bt (A.dc hd) (fun e => ?_) ?_
  · have := (iv_eq (a := b) (b := 0) ⟨by omega, hb2⟩ rg_0).mp e
    omega
  rw [xrem ha ha2 hb hb2]
  exact k s m args below meth c H locs h0 ls A hH h1 h2 hl hL
theorem r_iand (j : Nat) {a b : Int} (z : Int) (hd : M.t[j]? = some (pc, .iand, 1)) (hz : Int32.ofInt a &&& Int32.ofInt b = Int32.ofInt z) (k : wx K M d Q (pc + 1) L (iv z :: st) h) : wx K M d Q pc L (iv b :: iv a :: st) h := by
  intro s m args below meth c H locs h0 ls A hH h1 h2 hl hL
  refine lv_iand A.ex A.bt (A.dc hd) ?_
  rw [hz]
  exact k s m args below meth c H locs h0 ls A hH h1 h2 hl hL
theorem r_ior (j : Nat) {a b : Int} (z : Int) (hd : M.t[j]? = some (pc, .ior, 1)) (hz : Int32.ofInt a ||| Int32.ofInt b = Int32.ofInt z) (k : wx K M d Q (pc + 1) L (iv z :: st) h) : wx K M d Q pc L (iv b :: iv a :: st) h := by
  intro s m args below meth c H locs h0 ls A hH h1 h2 hl hL
  refine lv_ior A.ex A.bt (A.dc hd) ?_
  rw [hz]
  exact k s m args below meth c H locs h0 ls A hH h1 h2 hl hL
theorem r_ixor (j : Nat) {a b : Int} (z : Int) (hd : M.t[j]? = some (pc, .ixor, 1)) (hz : Int32.ofInt a ^^^ Int32.ofInt b = Int32.ofInt z) (k : wx K M d Q (pc + 1) L (iv z :: st) h) : wx K M d Q pc L (iv b :: iv a :: st) h := by
  intro s m args below meth c H locs h0 ls A hH h1 h2 hl hL
  refine lv_ixor A.ex A.bt (A.dc hd) ?_
  rw [hz]
  exact k s m args below meth c H locs h0 ls A hH h1 h2 hl hL
theorem r_ishl (j : Nat) {a b : Int} (z : Int) (hd : M.t[j]? = some (pc, .ishl, 1)) (hz : Int32.ofInt a <<< (Int32.ofInt b &&& 31) = Int32.ofInt z) (k : wx K M d Q (pc + 1) L (iv z :: st) h) : wx K M d Q pc L (iv b :: iv a :: st) h := by
  intro s m args below meth c H locs h0 ls A hH h1 h2 hl hL
  refine lv_ishl A.ex A.bt (A.dc hd) ?_
  rw [hz]
  exact k s m args below meth c H locs h0 ls A hH h1 h2 hl hL
theorem r_ishr (j : Nat) {a b : Int} (z : Int) (hd : M.t[j]? = some (pc, .ishr, 1)) (hz : Int32.ofInt a >>> (Int32.ofInt b &&& 31) = Int32.ofInt z) (k : wx K M d Q (pc + 1) L (iv z :: st) h) : wx K M d Q pc L (iv b :: iv a :: st) h := by
  intro s m args below meth c H locs h0 ls A hH h1 h2 hl hL
  refine lv_ishr A.ex A.bt (A.dc hd) ?_
  rw [hz]
  exact k s m args below meth c H locs h0 ls A hH h1 h2 hl hL
theorem r_i2c (j : Nat) {a : Int} (z : Int) (hd : M.t[j]? = some (pc, .i2c, 1)) (hz : ((Int32.ofInt a).toUInt32 % 65536).toInt32 = Int32.ofInt z) (k : wx K M d Q (pc + 1) L (iv z :: st) h) : wx K M d Q pc L (iv a :: st) h := by
  intro s m args below meth c H locs h0 ls A hH h1 h2 hl hL
  refine lv_i2c A.ex A.bt (A.dc hd) hz ?_
  exact k s m args below meth c H locs h0 ls A hH h1 h2 hl hL
theorem r_dup (j : Nat) {v : Value} (hd : M.t[j]? = some (pc, .dup, 1)) (hv : v.category = 1) (k : wx K M d Q (pc + 1) L (v :: v :: st) h) : wx K M d Q pc L (v :: st) h := by
  intro s m args below meth c H locs h0 ls A hH h1 h2 hl hL
  refine lv_dup A.ex A.bt (A.dc hd) hv ?_
  exact k s m args below meth c H locs h0 ls A hH h1 h2 hl hL
theorem r_pop (j : Nat) {v : Value} (hd : M.t[j]? = some (pc, .pop, 1)) (hv : v.category = 1) (k : wx K M d Q (pc + 1) L st h) : wx K M d Q pc L (v :: st) h := by
  intro s m args below meth c H locs h0 ls A hH h1 h2 hl hL
  refine lv_pop A.ex A.bt (A.dc hd) hv ?_
  exact k s m args below meth c H locs h0 ls A hH h1 h2 hl hL
theorem r_dup2 (j : Nat) {v w : Value} (hd : M.t[j]? = some (pc, .dup2, 1)) (hv : v.category = 1) (hw : w.category = 1) (k : wx K M d Q (pc + 1) L (v :: w :: v :: w :: st) h) : wx K M d Q pc L (v :: w :: st) h := by
  intro s m args below meth c H locs h0 ls A hH h1 h2 hl hL
  refine lv_dup2_11 A.ex A.bt (A.dc hd) hv hw ?_
  exact k s m args below meth c H locs h0 ls A hH h1 h2 hl hL
theorem r_dup_x1 (j : Nat) {v w : Value} (hd : M.t[j]? = some (pc, .dup_x1, 1)) (hv : v.category = 1) (hw : w.category = 1) (k : wx K M d Q (pc + 1) L (v :: w :: v :: st) h) : wx K M d Q pc L (v :: w :: st) h := by
  intro s m args below meth c H locs h0 ls A hH h1 h2 hl hL
  refine lv_dup_x1 A.ex A.bt (A.dc hd) hv hw ?_
  exact k s m args below meth c H locs h0 ls A hH h1 h2 hl hL
theorem r_dup_x2 (j : Nat) {v w u : Value} (hd : M.t[j]? = some (pc, .dup_x2, 1)) (hv : v.category = 1) (hw : w.category = 1) (hu : u.category = 1) (k : wx K M d Q (pc + 1) L (v :: w :: u :: v :: st) h) : wx K M d Q pc L (v :: w :: u :: st) h := by
  intro s m args below meth c H locs h0 ls A hH h1 h2 hl hL
  refine lv_dup_x2 A.ex A.bt (A.dc hd) hv hw hu ?_
  exact k s m args below meth c H locs h0 ls A hH h1 h2 hl hL
theorem r_goto (j : Nat) {off : Int} {t : Nat} (hd : M.t[j]? = some (pc, .goto off, 3)) (ht : (pc : Int) + off = (t : Int)) (k : wx K M d Q t L st h) : wx K M d Q pc L st h := by
  intro s m args below meth c H locs h0 ls A hH h1 h2 hl hL
  refine lv_goto A.ex A.bt (A.dc hd) ht ?_
  exact k s m args below meth c H locs h0 ls A hH h1 h2 hl hL
theorem r_icmp_lt (j : Nat) {a b off : Int} {t : Nat} (hd : M.t[j]? = some (pc, .if_icmp .lt off, 3)) (ht : (pc : Int) + off = (t : Int)) (ha : rg a) (hb : rg b) (kt : a < b → wx K M d Q t L st h) (kf : ¬ (a < b) → wx K M d Q (pc + 3) L st h) : wx K M d Q pc L (iv b :: iv a :: st) h := by
  intro s m args below meth c H locs h0 ls A hH h1 h2 hl hL
  refine lv_icmp_lt A.ex A.bt (A.dc hd) ht (fun q => ?_) (fun q => ?_)
  · exact kt ((iv_lt ha hb).mp q) s m args below meth c H locs h0 ls A hH h1 h2 hl hL
  · exact kf (fun e => q ((iv_lt ha hb).mpr e)) s m args below meth c H locs h0 ls A hH h1 h2 hl hL
theorem r_icmp_ge (j : Nat) {a b off : Int} {t : Nat} (hd : M.t[j]? = some (pc, .if_icmp .ge off, 3)) (ht : (pc : Int) + off = (t : Int)) (ha : rg a) (hb : rg b) (kt : b ≤ a → wx K M d Q t L st h) (kf : ¬ (b ≤ a) → wx K M d Q (pc + 3) L st h) : wx K M d Q pc L (iv b :: iv a :: st) h := by
  intro s m args below meth c H locs h0 ls A hH h1 h2 hl hL
  refine lv_icmp_ge A.ex A.bt (A.dc hd) ht (fun q => ?_) (fun q => ?_)
  · exact kt ((iv_le hb ha).mp q) s m args below meth c H locs h0 ls A hH h1 h2 hl hL
  · exact kf (fun e => q ((iv_le hb ha).mpr e)) s m args below meth c H locs h0 ls A hH h1 h2 hl hL
theorem r_icmp_gt (j : Nat) {a b off : Int} {t : Nat} (hd : M.t[j]? = some (pc, .if_icmp .gt off, 3)) (ht : (pc : Int) + off = (t : Int)) (ha : rg a) (hb : rg b) (kt : b < a → wx K M d Q t L st h) (kf : ¬ (b < a) → wx K M d Q (pc + 3) L st h) : wx K M d Q pc L (iv b :: iv a :: st) h := by
  intro s m args below meth c H locs h0 ls A hH h1 h2 hl hL
  refine lv_icmp_gt A.ex A.bt (A.dc hd) ht (fun q => ?_) (fun q => ?_)
  · exact kt ((iv_lt hb ha).mp q) s m args below meth c H locs h0 ls A hH h1 h2 hl hL
  · exact kf (fun e => q ((iv_lt hb ha).mpr e)) s m args below meth c H locs h0 ls A hH h1 h2 hl hL
theorem r_icmp_le (j : Nat) {a b off : Int} {t : Nat} (hd : M.t[j]? = some (pc, .if_icmp .le off, 3)) (ht : (pc : Int) + off = (t : Int)) (ha : rg a) (hb : rg b) (kt : a ≤ b → wx K M d Q t L st h) (kf : ¬ (a ≤ b) → wx K M d Q (pc + 3) L st h) : wx K M d Q pc L (iv b :: iv a :: st) h := by
  intro s m args below meth c H locs h0 ls A hH h1 h2 hl hL
  refine lv_icmp_le A.ex A.bt (A.dc hd) ht (fun q => ?_) (fun q => ?_)
  · exact kt ((iv_le ha hb).mp q) s m args below meth c H locs h0 ls A hH h1 h2 hl hL
  · exact kf (fun e => q ((iv_le ha hb).mpr e)) s m args below meth c H locs h0 ls A hH h1 h2 hl hL
theorem r_icmp_eq (j : Nat) {a b off : Int} {t : Nat} (hd : M.t[j]? = some (pc, .if_icmp .eq off, 3)) (ht : (pc : Int) + off = (t : Int)) (ha : rg a) (hb : rg b) (kt : a = b → wx K M d Q t L st h) (kf : ¬ (a = b) → wx K M d Q (pc + 3) L st h) : wx K M d Q pc L (iv b :: iv a :: st) h := by
  intro s m args below meth c H locs h0 ls A hH h1 h2 hl hL
  refine lv_icmp_eq A.ex A.bt (A.dc hd) ht (fun q => ?_) (fun q => ?_)
  · exact kt ((iv_eq ha hb).mp q) s m args below meth c H locs h0 ls A hH h1 h2 hl hL
  · exact kf (fun e => q ((iv_eq ha hb).mpr e)) s m args below meth c H locs h0 ls A hH h1 h2 hl hL
theorem r_icmp_ne (j : Nat) {a b off : Int} {t : Nat} (hd : M.t[j]? = some (pc, .if_icmp .ne off, 3)) (ht : (pc : Int) + off = (t : Int)) (ha : rg a) (hb : rg b) (kt : a ≠ b → wx K M d Q t L st h) (kf : a = b → wx K M d Q (pc + 3) L st h) : wx K M d Q pc L (iv b :: iv a :: st) h := by
  intro s m args below meth c H locs h0 ls A hH h1 h2 hl hL
  refine lv_icmp_ne A.ex A.bt (A.dc hd) ht (fun q => ?_) (fun q => ?_)
  · exact kt (fun e => q ((iv_eq ha hb).mpr e)) s m args below meth c H locs h0 ls A hH h1 h2 hl hL
  · exact kf ((iv_eq ha hb).mp q) s m args below meth c H locs h0 ls A hH h1 h2 hl hL
theorem r_if_lt (j : Nat) {a off : Int} {t : Nat} (hd : M.t[j]? = some (pc, .ifCond .lt off, 3)) (ht : (pc : Int) + off = (t : Int)) (ha : rg a) (kt : a < 0 → wx K M d Q t L st h) (kf : ¬ (a < 0) → wx K M d Q (pc + 3) L st h) : wx K M d Q pc L (iv a :: st) h := by
  intro s m args below meth c H locs h0 ls A hH h1 h2 hl hL
  refine lv_if_lt A.ex A.bt (A.dc hd) ht (fun q => ?_) (fun q => ?_)
  · exact kt ((iv_lt ha rg_0).mp q) s m args below meth c H locs h0 ls A hH h1 h2 hl hL
  · exact kf (fun e => q ((iv_lt ha rg_0).mpr e)) s m args below meth c H locs h0 ls A hH h1 h2 hl hL
theorem r_if_ge (j : Nat) {a off : Int} {t : Nat} (hd : M.t[j]? = some (pc, .ifCond .ge off, 3)) (ht : (pc : Int) + off = (t : Int)) (ha : rg a) (kt : 0 ≤ a → wx K M d Q t L st h) (kf : ¬ (0 ≤ a) → wx K M d Q (pc + 3) L st h) : wx K M d Q pc L (iv a :: st) h := by
  intro s m args below meth c H locs h0 ls A hH h1 h2 hl hL
  refine lv_if_ge A.ex A.bt (A.dc hd) ht (fun q => ?_) (fun q => ?_)
  · exact kt ((iv_le rg_0 ha).mp q) s m args below meth c H locs h0 ls A hH h1 h2 hl hL
  · exact kf (fun e => q ((iv_le rg_0 ha).mpr e)) s m args below meth c H locs h0 ls A hH h1 h2 hl hL
theorem r_if_gt (j : Nat) {a off : Int} {t : Nat} (hd : M.t[j]? = some (pc, .ifCond .gt off, 3)) (ht : (pc : Int) + off = (t : Int)) (ha : rg a) (kt : 0 < a → wx K M d Q t L st h) (kf : ¬ (0 < a) → wx K M d Q (pc + 3) L st h) : wx K M d Q pc L (iv a :: st) h := by
  intro s m args below meth c H locs h0 ls A hH h1 h2 hl hL
  refine lv_if_gt A.ex A.bt (A.dc hd) ht (fun q => ?_) (fun q => ?_)
  · exact kt ((iv_lt rg_0 ha).mp q) s m args below meth c H locs h0 ls A hH h1 h2 hl hL
  · exact kf (fun e => q ((iv_lt rg_0 ha).mpr e)) s m args below meth c H locs h0 ls A hH h1 h2 hl hL
theorem r_if_le (j : Nat) {a off : Int} {t : Nat} (hd : M.t[j]? = some (pc, .ifCond .le off, 3)) (ht : (pc : Int) + off = (t : Int)) (ha : rg a) (kt : a ≤ 0 → wx K M d Q t L st h) (kf : ¬ (a ≤ 0) → wx K M d Q (pc + 3) L st h) : wx K M d Q pc L (iv a :: st) h := by
  intro s m args below meth c H locs h0 ls A hH h1 h2 hl hL
  refine lv_if_le A.ex A.bt (A.dc hd) ht (fun q => ?_) (fun q => ?_)
  · exact kt ((iv_le ha rg_0).mp q) s m args below meth c H locs h0 ls A hH h1 h2 hl hL
  · exact kf (fun e => q ((iv_le ha rg_0).mpr e)) s m args below meth c H locs h0 ls A hH h1 h2 hl hL
theorem r_if_eq (j : Nat) {a off : Int} {t : Nat} (hd : M.t[j]? = some (pc, .ifCond .eq off, 3)) (ht : (pc : Int) + off = (t : Int)) (ha : rg a) (kt : a = 0 → wx K M d Q t L st h) (kf : ¬ (a = 0) → wx K M d Q (pc + 3) L st h) : wx K M d Q pc L (iv a :: st) h := by
  intro s m args below meth c H locs h0 ls A hH h1 h2 hl hL
  refine lv_if_eq A.ex A.bt (A.dc hd) ht (fun q => ?_) (fun q => ?_)
  · exact kt ((iv_eq ha rg_0).mp q) s m args below meth c H locs h0 ls A hH h1 h2 hl hL
  · exact kf (fun e => q ((iv_eq ha rg_0).mpr e)) s m args below meth c H locs h0 ls A hH h1 h2 hl hL
theorem r_if_ne (j : Nat) {a off : Int} {t : Nat} (hd : M.t[j]? = some (pc, .ifCond .ne off, 3)) (ht : (pc : Int) + off = (t : Int)) (ha : rg a) (kt : a ≠ 0 → wx K M d Q t L st h) (kf : a = 0 → wx K M d Q (pc + 3) L st h) : wx K M d Q pc L (iv a :: st) h := by
  intro s m args below meth c H locs h0 ls A hH h1 h2 hl hL
  refine lv_if_ne A.ex A.bt (A.dc hd) ht (fun q => ?_) (fun q => ?_)
  · exact kt (fun e => q ((iv_eq ha rg_0).mpr e)) s m args below meth c H locs h0 ls A hH h1 h2 hl hL
  · exact kf ((iv_eq ha rg_0).mp q) s m args below meth c H locs h0 ls A hH h1 h2 hl hL
theorem r_ifnull (j : Nat) {a : Nat} {off : Int} (hd : M.t[j]? = some (pc, .ifnull off, 3)) (k : wx K M d Q (pc + 3) L st h) : wx K M d Q pc L (.ref a :: st) h := by
  intro s m args below meth c H locs h0 ls A hH h1 h2 hl hL
  refine lv_ifnull A.ex A.bt (A.dc hd) ?_
  exact k s m args below meth c H locs h0 ls A hH h1 h2 hl hL
theorem r_ifnullN (j : Nat) {off : Int} {t : Nat} (hd : M.t[j]? = some (pc, .ifnull off, 3)) (ht : (pc : Int) + off = (t : Int)) (k : wx K M d Q t L st h) : wx K M d Q pc L (.null :: st) h := by
  intro s m args below meth c H locs h0 ls A hH h1 h2 hl hL
  refine lv_ifnullN A.ex A.bt (A.dc hd) ht ?_
  exact k s m args below meth c H locs h0 ls A hH h1 h2 hl hL
theorem r_ifnonnull (j : Nat) {a : Nat} {off : Int} {t : Nat} (hd : M.t[j]? = some (pc, .ifnonnull off, 3)) (ht : (pc : Int) + off = (t : Int)) (k : wx K M d Q t L st h) : wx K M d Q pc L (.ref a :: st) h := by
  intro s m args below meth c H locs h0 ls A hH h1 h2 hl hL
  refine lv_ifnonnull A.ex A.bt (A.dc hd) ht ?_
  exact k s m args below meth c H locs h0 ls A hH h1 h2 hl hL
theorem r_ifnonnullN (j : Nat) {off : Int} (hd : M.t[j]? = some (pc, .ifnonnull off, 3)) (k : wx K M d Q (pc + 3) L st h) : wx K M d Q pc L (.null :: st) h := by
  intro s m args below meth c H locs h0 ls A hH h1 h2 hl hL
  refine lv_ifnonnullN A.ex A.bt (A.dc hd) ?_
  exact k s m args below meth c H locs h0 ls A hH h1 h2 hl hL
theorem r_tableIn (j : Nat) {dflt lo hi a off : Int} {offs : Array Int} {len t : Nat} (hd : M.t[j]? = some (pc, .tableswitch dflt lo hi offs, len)) (ha : rg a) (hlo : lo ≤ a) (hhi : a ≤ hi) (ho : offs[(a - lo).toNat]? = some off) (ht : (pc : Int) + off = (t : Int)) (k : wx K M d Q t L st h) : wx K M d Q pc L (iv a :: st) h := by
  intro s m args below meth c H locs h0 ls A hH h1 h2 hl hL
  refine lv_tableIn A.ex A.bt (A.dc hd) (by rw [rg_t ha]; omega) (by rw [rg_t ha]; omega) (by rw [rg_t ha]; exact ho) ht ?_
  exact k s m args below meth c H locs h0 ls A hH h1 h2 hl hL
theorem r_tableOut (j : Nat) {dflt lo hi a : Int} {offs : Array Int} {len t : Nat} (hd : M.t[j]? = some (pc, .tableswitch dflt lo hi offs, len)) (ha : rg a) (hr : a < lo ∨ hi < a) (ht : (pc : Int) + dflt = (t : Int)) (k : wx K M d Q t L st h) : wx K M d Q pc L (iv a :: st) h := by
  intro s m args below meth c H locs h0 ls A hH h1 h2 hl hL
  refine lv_tableOut A.ex A.bt (A.dc hd) (by rw [rg_t ha]; exact hr) ht ?_
  exact k s m args below meth c H locs h0 ls A hH h1 h2 hl hL
theorem W.mono' {p : Program} {l : Launch} {e : Env} {R : Room} {s : State} {m : MethodId} {args : Array Value} {below : List Frame} {meth : Method} {c : Code} {H : Heap} {locs : List Loc} {cells slots : Nat} {P P' : State → Prop} {g : JFrame} (hp : ∀ t, P t → P' t) (k : W p l e R s m args below meth c H locs cells slots P g) : W p l e R s m args below meth c H locs cells slots P' g := fun T hT X => by
  obtain ⟨t, a, b⟩ := k T hT X
  exact ⟨t, a, hp t b⟩
theorem mq_of {s : State} {args : Array Value} {below : List Frame} {H : Heap} {h0 : xh} {o : Outcome} (hH : xhr K h H) (h1 : h0.2.1 ≤ h.2.1) (h2 : h0.2.2 ≤ h.2.2) (hq : Q o h) :
    ∀ t, MQ below (fun _ _ o' t => o' = o ∧ t.heap = H) args s (h.2.1 - h0.2.1) (h.2.2 - h0.2.2) (fun a => K.n ≤ a) t → mq K below s h0 Q t := by
  rintro t ⟨o', b1, b2, ⟨rfl, b3⟩, L', ⟨b4, b5, b6⟩, b7⟩
  exact ⟨_, h, b1, b2, hq, by rw [b3]; exact hH, h1, h2, b5, L', b7, b6⟩
theorem r_iret (j : Nat) {a : Int} (hd : M.t[j]? = some (pc, .ireturn, 1)) {ty : FieldType} (hr : M.r = some ty) (hn : narrow ty (iv a) = iv a) (hq : Q (.returned (some (iv a))) h) : wx K M d Q pc L [iv a] h := by
  intro s m args below meth c H locs h0 ls A hH h1 h2 hl hL
  refine W.mono' (mq_of (args := args) hH h1 h2 hq) ?_
  exact W.zret (ty := ty) A.ex A.bt (A.rt.trans hr) hn (fun t ht hW => ⟨rfl, ht⟩) hl (A.dc hd) A.lk
theorem r_aret (j : Nat) {v : Value} (hd : M.t[j]? = some (pc, .areturn, 1)) {C : String} (hr : M.r = some (.object C)) (hv : v = .null ∨ ∃ a, v = .ref a) (hq : Q (.returned (some v)) h) : wx K M d Q pc L [v] h := by
  intro s m args below meth c H locs h0 ls A hH h1 h2 hl hL
  refine W.mono' (mq_of (args := args) hH h1 h2 hq) ?_
  exact W.aret A.ex A.bt (A.rt.trans hr) (Or.inl ⟨_, rfl⟩) hv (fun t ht hW => ⟨rfl, ht⟩) hl (A.dc hd) A.lk
theorem r_ret (j : Nat) (hd : M.t[j]? = some (pc, .return_, 1)) (hr : M.r = none) (hq : Q (.returned none) h) : wx K M d Q pc L [] h := by
  intro s m args below meth c H locs h0 ls A hH h1 h2 hl hL
  refine W.mono' (mq_of (args := args) hH h1 h2 hq) ?_
  exact W.vret A.ex A.bt (A.rt.trans hr) (fun t ht hW => ⟨rfl, ht⟩) hl (A.dc hd) A.lk
end RULES

/-! new X; dup; X.<init>(); athrow -/
theorem X_rebase {p : Program} {l : Launch} {e : Env} {R : Room} {s : State} {m : MethodId} {args : Array Value} {below : List Frame} {meth : Method} {c : Code} {T : State} {locs : List Loc} {cells slots : Nat} (X : Stand p l e R s m args below meth c T locs cells slots) (R' : Room) (hf : R'.frames = R.frames) (hlo : R'.locals = R.locals) (hc : cells + R'.cells ≤ R.cells) (hs : slots + R'.slots ≤ R.slots) :
    Stand p l e R' (T.setFrames (.invoking m args :: below)) m args below meth c T [] 0 0 := by
  obtain ⟨g₀, hfr⟩ := X.frames_eq
  have hcur : T.cur < T.threads.size := State.cur_lt_of_frames hfr
  have hfr' : (T.setFrames (.invoking m args :: below)).frames = .invoking m args :: below := State.frames_setFrames _ hcur
  have hmeth : (T.setFrames (.invoking m args :: below)).vm.method? m = some meth := X.method'
  obtain ⟨t, ht, -⟩ := State.frames_cons hfr
  refine ⟨X.admits, X.cas, X.clock, hfr', ?_, ?_, hmeth, X.code, X.here, X.tail, State.WarmedH.refl _, by rw [State.stackLimits_setFrames], by rw [State.stackBytes_setFrames], ?_⟩
  · have h0 := X.room
    have h1 := X.cellsAbove (n := R'.cells) (by omega)
    have h2 := X.slotsAbove (n := R'.slots) (by omega)
    have h3 : (T.setFrames (.invoking m args :: below)).slotsTrue = true := X.book
    have hlu : (T.setFrames (.invoking m args :: below)).localsInUse = s.localsInUse := by
      rw [State.localsInUse_invoking hfr' hmeth X.code, State.localsInUse_invoking X.frames X.method X.code]
    have hlen : (T.setFrames (.invoking m args :: below)).frames.length = s.frames.length := by rw [hfr', X.frames]
    simp only [State.hasRoom, Bool.and_eq_true, decide_eq_true_eq] at h0 ⊢
    rw [hlu, hlen, State.stackLimits_setFrames, X.limits, State.stackBytes_setFrames, X.bytes, hf, hlo]
    exact ⟨⟨⟨h0.1.1.1, h1⟩, h2⟩, h3⟩
  · have h0 := X.hears
    have ha := X.warmed.alike
    unfold State.hears at h0 ⊢
    cases below with
    | nil => simpa [State.setFrames, ha.method?] using h0
    | cons b bs =>
      cases b with
      | java g =>
        have : (T.setFrames (.invoking m args :: .java g :: bs)).code? g.method = s.code? g.method := by
          rw [State.code?_eq, State.code?_eq]
          show (T.vm.method? _).bind _ = _
          rw [ha.method?]
        simp only [this]
        exact h0
      | native _ => rfl
      | proc _ => rfl
      | _ => simpa [State.setFrames, ha.method?] using h0
  · obtain ⟨t2, ht2, -⟩ := State.frames_cons hfr'
    have h := (State.sameButNew.refl (T.setFrames (.invoking m args :: below)) (x := t2) ht2).setFrames T.frames (by simpa [State.setFrames] using hcur)
    rw [State.setFrames_setFrames, State.setFrames_self ht] at h
    exact h
theorem same_cell {s t : State} {cells slots : Nat} (h : s.sameButNew t [] cells slots) {q : Nat} (hq : q < s.heap.size) : t.heap[q]? = s.heap[q]? := by
  obtain ⟨-, -, -, -, -, h6⟩ := h
  have h1 : s.heap[q]? = some s.heap[q] := Array.getElem?_eq_getElem hq
  obtain ⟨c', e1, e2, e3, e4⟩ := h6 q _ h1
  have e5 : c'.slots = s.heap[q].slots := Array.ext_getElem? (fun i => e4 i (fun h => by cases h))
  rw [e1, h1, e2, e5]
def thr_ok (own : String) (ic : Nat) (C : String) : Bool := (Bundle.ownAtoms0 own ic C ["java/lang/RuntimeException", "java/lang/Exception"]).all fun w => (decide (w ∈ lw_tbl) && wd_ok w) || xc_sta.any fun q => decide (w = Cond.laysStatic q.1 q.2.1 q.2.2) || decide (w = Cond.isRef (.static q.1 q.2.1 q.2.2))
/-- the site: new idx, constructor ic, of the exception class C (number ci) -/
def thr (own : String) (idx ic ci : Nat) : Prop := ∃ C : String, (ci, C) ∈ xc_exc ∧ 30 ≤ ci ∧ thr_ok own ic C = true ∧ Cond.classLink own idx C ∈ lw_tbl ∧ Cond.instantiable C 6 ∈ lw_tbl ∧ Cond.initialized C ∈ lw_tbl ∧ Bundle.fit C = true
theorem r_throw (j : Nat) {K : xk} {M : xm} {d : Nat} {Q : Outcome → xh → Prop} {pc : Nat} {L : List (Option Value)} {st : List Value} {h : xh} {idx ic ci : Nat} (hd0 : M.t[j]? = some (pc, .new idx, 3)) (hd1 : M.t[j + 1]? = some (pc + 3, .dup, 1)) (hd2 : M.t[j + 2]? = some (pc + 4, .invokespecial ic, 3)) (hd3 : M.t[j + 3]? = some (pc + 7, .athrow, 1)) (hth : thr M.y.cls idx ic ci) (hx : M.x = [])
    (hsum : (st.map fun v => v.category).sum ≤ 8) (hdd : 6 ≤ d) (b1 : h.2.1 + 1 ≤ K.n + 600128) (b2 : h.2.2 + 6 ≤ 7301098) (hq : Q (.threw h.2.1) (h.new (ci, []) 6)) : wx K M d Q pc L st h := by
  intro s m args below meth c H locs h0 ls A hH h1 h2 hl hL
  obtain ⟨C, hci, h30, hok, hlk, hins, hini, hfit⟩ := hth
  intro T hT X
  subst hT
  have hc0 : T.heap.size = h.2.1 := hH.1
  have XR := X_rebase X { frames := d, cells := K.n + 600128 - h.2.1, slots := 7301098 - h.2.2, locals := 41 * d } rfl rfl (by show _ + (K.n + 600128 - h.2.1) ≤ K.n + 600128 - h0.2.1; omega) (by show _ + (7301098 - h.2.2) ≤ 7301098 - h0.2.2; omega)
  have hkn : xkn K (T.setFrames (.invoking m args :: below)) := A.kn.moved X.warmed
  have how : (T.setFrames (.invoking m args :: below)).vm.findClass M.y.cls = some m.cls := by
    show T.vm.findClass _ = _
    rw [X.warmed.alike.findClass]; exact A.ow
  obtain ⟨vm₁, cX, kX, hfX, hkX, -, hn6, X₁, st1⟩ := XR.newCold A.ex (own := M.y.cls) (C := C) (index := idx) (n := 6) how (hkn.w hlk rfl) (hkn.w hins rfl) (hkn.w hini rfl)
    (g := F0 m pc ls st) rfl (by rw [A.bt]; exact A.dc hd0) (by show 0 + 1 ≤ K.n + 600128 - h.2.1; omega) (by show 0 + 6 ≤ 7301098 - h.2.2; omega)
  generalize hT' : (T.setVm vm₁).pushCell { cls := cX, slots := kX.instanceTypes.map defaultValue, vm := .none } = T' at X₁ st1
  have hcellA : T'.heap[T.heap.size]? = some (freshCell cX kX) := by rw [← hT']; exact State.heap_pushCell_size _ _
  have hatoms : ∀ w ∈ Bundle.ownAtoms0 M.y.cls ic C ["java/lang/RuntimeException", "java/lang/Exception"], w.before args (T.setFrames (.invoking m args :: below)) = true := by
    intro w hw
    have h3 := List.all_eq_true.mp hok w hw
    simp only [Bool.or_eq_true, Bool.and_eq_true, decide_eq_true_eq, List.any_eq_true] at h3
    rcases h3 with h3 | ⟨q, hq1, h3⟩
    · exact hkn.w h3.1 h3.2
    · have h4 := (hkn.2.2.2.2.2 q hq1).words (fun a ha => hH.2.2.1 a ha) (args := args)
      rcases h3 with rfl | rfl
      · exact h4.1
      · exact h4.2
  obtain ⟨U, hsteps, hrun, hend, hW, hsame, ce, hce, K0⟩ := X₁.ctorThrow0 A.ex A.tr (own := M.y.cls) (cls := C) (names := ["java/lang/RuntimeException", "java/lang/Exception"]) (ic := ic) how hfit (by decide +kernel) hatoms (fun y hy => by cases hy) hfX hkX hcellA (by exact Nat.le_refl _)
    (g := F0 m (pc + 4) ls (.ref T.heap.size :: .ref T.heap.size :: st)) rfl (hL.1.trans A.ml.symm) rfl rfl (rest := st) rfl (by rw [A.bt]; exact A.dc hd2) (by rw [A.bt]; exact A.dc hd3) (by rw [A.tb, hx]; intro x hx; cases hx) (by show 2 + 3 < d; omega)
    (by
      have h5 : 2 * (F0 m (pc + 4) ls (.ref T.heap.size :: .ref T.heap.size :: st)).monitorRoom + ((Value.ref T.heap.size :: st).map fun v => v.category).sum ≤ 9 := by
        have h6 := lv_room (m := m) (pc := pc + 4) (ls := ls) (rest := .ref T.heap.size :: .ref T.heap.size :: st) hsum
        simp only [List.map_cons, List.sum_cons, Value.category] at h6 ⊢
        omega
      show _ + (13 * (2 + 1) + 41) ≤ 41 * d
      omega) A.lk
  refine ⟨U, st1 U ?_, .threw h.2.1, h.new (ci, []) 6, hrun, ?_, hq, ?_, by show _ ≤ h.2.1 + 1; omega, by show _ ≤ h.2.2 + 6; omega, ?_, locs, hl, ?_⟩
  · show Steps K.p.tables K.e below (T'.setTop { method := m, pc := pc + 3, locals := ls, stack := .ref T.heap.size :: st, locked := none }) U
    have hdup : decode c.code (pc + 3) = .ok (.dup, 1) := by rw [A.bt]; exact A.dc hd1
    jvm_step X₁.here [X₁.here.top, A.ex, hdup, Value.category]
    exact hsteps
  · rw [← hc0]; exact hend
  · have hcell : ∀ q, q < T.heap.size → U.heap[q]? = T.heap[q]? := fun q hq => same_cell hsame hq
    have hsz : U.heap.size = h.2.1 + 1 := by
      have e1 : U.heap.size ≤ T.heap.size + (0 + 1) := hsame.2.2.1
      have e2 := (Array.getElem?_eq_some_iff.mp hce).1
      omega
    refine hH.push hsz (fun q hq => hcell q (by omega)) b1 b2 ?_
    unfold xcr
    rw [if_neg (by show ¬ ci < 20; omega), if_neg (by show ¬ ci < 30; omega)]
    refine ⟨ce, by rw [← hc0]; exact hce, ?_, by rw [K0.vm]; rfl⟩
    have := hkn.2.2.2.2.1 (ci, C) hci
    exact (Option.some.inj (this.symm.trans K0.cls)).symm
  · exact State.WarmedH.trans X.warmed hW
  · have e1 : T.sameButNew ({ U with vm := T.vm } : State) [] (0 + 1) (0 + 6) := by
      obtain ⟨f1, f2, f3, f4, f5, f6⟩ := hsame
      rw [State.setFrames_setFrames] at f1
      exact ⟨f1, f2, f3, f4, f5, f6⟩
    have e2 := X.same.trans (e1.setVm s.vm)
    rw [List.append_nil] at e2
    have e3 : h.2.1 - h0.2.1 + (0 + 1) = (h.new (ci, []) 6).2.1 - h0.2.1 := by show _ = h.2.1 + 1 - h0.2.1; omega
    have e4 : h.2.2 - h0.2.2 + (0 + 6) = (h.new (ci, []) 6).2.2 - h0.2.2 := by show _ = h.2.2 + 6 - h0.2.2; omega
    rw [e3, e4] at e2
    exact e2

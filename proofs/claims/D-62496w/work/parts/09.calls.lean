/-! the rules of calls -/
/-- what is asked behind a call: the walk goes on; a thrown one leaves the method, or goes to its one handler -/
def tpost (K : xk) (M : xm) (d : Nat) (Q : Outcome → xh → Prop) (pc : Nat) (L : List (Option Value)) (a : Nat) (h' : xh) : Prop :=
  ((∀ x ∈ tableOf M.x, covers x pc = false) ∧ Q (.threw a) h') ∨
  ∃ (s0 e0 hp ct ci : Nat) (fs : List Value) (C : String), M.x = [(s0, e0, hp, ct)] ∧ (s0 ≤ pc ∧ pc < e0) ∧ ct ≠ 0 ∧ Cond.classLink M.y.cls ct C ∈ lw_tbl ∧ h'.1 a = (ci, fs) ∧ ci ≠ 0 ∧ (ci, C) ∈ xc_exc ∧ Cond.castable C C ∈ lw_tbl ∧ wx K M d Q hp L [.ref a] h'
def cpost (K : xk) (M : xm) (d : Nat) (Q : Outcome → xh → Prop) (pc : Nat) (L : List (Option Value)) (st : List Value) : Outcome → xh → Prop := fun o h' => match o with
  | .returned v => wx K M d Q (pc + 3) L (v.toList ++ st) h'
  | .threw a => tpost K M d Q pc L a h'
section CALLS
variable {K : xk} {M M' : xm} {d : Nat} {Q : Outcome → xh → Prop} {pc : Nat} {L : List (Option Value)} {st : List Value} {h : xh}
theorem cp1 {v : Value} {h' : xh} (k : wx K M d Q (pc + 3) L (v :: st) h') : cpost K M d Q pc L st (.returned (some v)) h' := k
theorem cp0 {h' : xh} (k : wx K M d Q (pc + 3) L st h') : cpost K M d Q pc L st (.returned none) h' := k
theorem cpt {a : Nat} {h' : xh} (hx : M.x = []) (k : Q (.threw a) h') : cpost K M d Q pc L st (.threw a) h' := Or.inl ⟨fun x hm => (by rw [hx] at hm; cases hm), k⟩
theorem cpc {a : Nat} {h' : xh} {s0 e0 hp ct ci : Nat} {fs : List Value} (C : String) (hx : M.x = [(s0, e0, hp, ct)]) (hc : s0 ≤ pc ∧ pc < e0) (h0 : ct ≠ 0) (hw : Cond.classLink M.y.cls ct C ∈ lw_tbl) (he : h'.1 a = (ci, fs)) (hz : ci ≠ 0) (hi : (ci, C) ∈ xc_exc) (hk : Cond.castable C C ∈ lw_tbl) (k : wx K M d Q hp L [.ref a] h') : cpost K M d Q pc L st (.threw a) h' := Or.inr ⟨s0, e0, hp, ct, ci, fs, C, hx, hc, h0, hw, he, hz, hi, hk, k⟩
/-- behind the call -/
theorem x_end {s : State} {m mk : MethodId} {args : Array Value} {below : List Frame} {meth : Method} {c : Code} {U : State} {locs : List Loc} {ls : Array Slot} {h0 : xh} {as : List Value} {ig : Instr}
    (hm : mx K M' d as h (cpost K M (d + 1) Q pc L st)) (hok : okm M') (A : xact K M s m meth c h0) (X : Stand K.p K.l K.e (xroom K (d + 1) h0) s m args below meth c U locs (h.2.1 - h0.2.1) (h.2.2 - h0.2.2)) (hH : xhr K h U.heap) (h1 : h0.2.1 ≤ h.2.1) (h2 : h0.2.2 ≤ h.2.2) (hl : ∀ q ∈ locs, K.n ≤ q.base) (hL : lrel ls L M.n)
    (hdg : decode M.b pc = .ok (ig, 3)) (hsum : (st.map fun v => v.category).sum ≤ 8) (hn : s.methodNamed? M'.y = some mk) : ∃ t, Steps K.p.tables K.e below (doInvoke K.e (U.setTop (F0 m pc ls st)) [] mk as.toArray).1 t ∧ mq K below s h0 Q t := by
  obtain ⟨o, s₂, U', h', L', X', q2, q1, q3, q4, hL', hst, hcase⟩ := xcall hm hok A X hH h1 h2 hl (g := F0 m pc ls st) rfl (hL.1.trans A.ml.symm) (by rw [A.bt]; exact hdg) (lv_room hsum) (X.named hn)
  have hl' : ∀ q ∈ locs ++ L', K.n ≤ q.base := fun q hq => by
    rcases List.mem_append.mp hq with hq | hq
    · exact hl q hq
    · exact hL' q hq
  rcases hcase with ⟨v, rfl, rfl⟩ | ⟨a, rfl, rfl⟩
  · obtain ⟨t, a1, b1⟩ := (show wx K M (d + 1) Q (pc + 3) L (v.toList ++ st) h' from q1) s m args below meth c U'.heap _ h0 ls A q2 (by omega) (by omega) hl' hL U' rfl X'
    exact ⟨t, hst.trans a1, b1⟩
  · rcases (show tpost K M (d + 1) Q pc L a h' from q1) with ⟨hout, hq⟩ | ⟨s0, e0, hp, ct, ci, fs, C, hx, hcov, hct, hlink, he, hz, hi, hk, kk⟩
    · obtain ⟨w1, w2, w3, w4, w5⟩ := X'.leaveThrown a (g := F0 m pc ls st) rfl rfl rfl (by rw [A.tb]; exact hout) A.lk
      exact ⟨_, hst.trans w1, .threw a, h', w2, w3, hq, q2, by omega, by omega, w4, _, hl', w5⟩
    · obtain ⟨cell, g1, g2, g3⟩ := (q2.cell he hz).2.any
      have hfc := A.kn.2.2.2.2.1 (ci, C) hi
      obtain ⟨c0, t0, f1, f2, f3⟩ := Cond.castable_spec (A.kn.w (args := args) hk rfl)
      cases hfc.symm.trans f1
      cases hfc.symm.trans f2
      obtain ⟨vm', X2, stp⟩ := X_caught X' (g := F0 m pc ls st) rfl A.ow (by rw [A.tb, hx]) hcov hct (A.kn.w hlink rfl) g1 g3 hfc g2 f3
      obtain ⟨t, a1, b1⟩ := kk s m args below meth c U'.heap _ h0 ls A q2 (by omega) (by omega) hl' hL (U'.setVm vm') rfl X2
      exact ⟨t, hst.trans (stp _ a1), b1⟩
def mhok (c : String) : Prop := c ≠ "java/lang/invoke/MethodHandle" ∧ c ≠ "java/lang/invoke/VarHandle"
def nargs (y : MethodName) (n : Nat) : Prop := (parseMethodDescriptor y.desc).map (fun d => d.parameters.length) = some n
theorem nargs_len {y : MethodName} {n : Nat} (h : nargs y n) : ∀ sig, parseMethodDescriptor y.desc = some sig → n = sig.parameters.length := fun sig hs => by
  unfold nargs at h
  rw [hs] at h
  exact (Option.some.inj h).symm
/-- a static method of the pool's entry idx -/
def lks (own : String) (idx : Nat) (M' : xm) (n : Nat) : Prop := Cond.methodLink own idx M'.y ∈ lw_tbl ∧ Cond.static M'.y ∈ lw_tbl ∧ mhok M'.y.cls ∧ nargs M'.y n ∧ okm M'
/-- a constructor -/
def lki (own : String) (idx : Nat) (M' : xm) (n : Nat) : Prop := (Cond.methodLink own idx M'.y ∈ lw_tbl ∨ ∃ host, Cond.methodLinkNest own idx M'.y host ∈ lw_tbl) ∧ Cond.instanceMethod M'.y ∈ lw_tbl ∧ M'.y.name = "<init>" ∧ M'.x = [] ∧ M'.r = none ∧ mhok M'.y.cls ∧ nargs M'.y n ∧ okm M'
/-- an instance method, named by its own class; C: the receiver's class -/
def lkv (own : String) (idx ci : Nat) (M' : xm) (n : Nat) : Prop := Cond.methodLink own idx M'.y ∈ lw_tbl ∧ Cond.instanceMethod M'.y ∈ lw_tbl ∧ (∃ r : vw_C, xc_cls[ci]? = some r ∧ 0 < ci ∧ Cond.selects r.1 M'.y M'.y ∈ lw_tbl) ∧ mhok M'.y.cls ∧ nargs M'.y n ∧ okm M'
/-- an instance method, named by the class above (abstract there) -/
def lku (own : String) (idx ci : Nat) (x : MethodName) (M' : xm) (n : Nat) : Prop := Cond.methodLink own idx x ∈ lw_tbl ∧ Cond.sameMethod x.cls x.cls x.name x.desc ∈ lw_tbl ∧ Cond.declares x ∈ lw_tbl ∧ Cond.instanceMethod M'.y ∈ lw_tbl ∧ (∃ r : vw_C, xc_cls[ci]? = some r ∧ 0 < ci ∧ Cond.selects r.1 x M'.y ∈ lw_tbl) ∧ mhok x.cls ∧ nargs x n ∧ okm M'
theorem r_calls (j : Nat) {idx : Nat} {as : List Value} (hd : M.t[j]? = some (pc, .invokestatic idx, 3)) (hk : lks M.y.cls idx M' as.length) (hsum : (st.map fun v => v.category).sum ≤ 8) (hm : mx K M' d as h (cpost K M (d + 1) Q pc L st)) : wx K M (d + 1) Q pc L (as.reverse ++ st) h := by
  intro s m args below meth c H locs h0 ls A hH h1 h2 hl hL
  obtain ⟨k1, k2, k3, k4, k5⟩ := hk
  intro T hT X
  obtain ⟨mk, methM, cM, hnamed, hmethM, -, -, -, -, -, -, hsig⟩ := cw_spec (A.kn.w (args := args) k5.1 (cw_wd M'))
  have hstatic : methM.isStatic = true := Cond.static_spec hnamed hmethM (A.kn.w (args := args) k2 rfl)
  obtain ⟨kP, hkP, -⟩ := className_of_methodNamed hnamed
  have hinitP : kP.init = .initialized := Cond.initialized_spec (findClass_of_methodNamed hnamed) hkP (A.kn.w (args := args) k5.2.2.2.2 rfl)
  obtain ⟨vm₁, X₁, hstep₁⟩ := X.invokestatic A.ex A.ow (A.kn.w k1 rfl) hnamed hmethM hstatic hkP hinitP k3 (g := F0 m pc ls (as.reverse ++ st)) rfl (argsL := as) (rest := st) (nargs_len k4 _ hsig) rfl (by rw [A.bt]; exact A.dc hd)
  obtain ⟨t, a1, b1⟩ := x_end hm k5 A X₁ (by show xhr K h T.heap; rw [hT]; exact hH) h1 h2 hl hL (A.dc hd) hsum hnamed
  exact ⟨t, hstep₁ t (fun acts => by rw [doInvoke_state]; exact a1), b1⟩
theorem r_calli (j : Nat) {idx b : Nat} {as : List Value} (hd : M.t[j]? = some (pc, .invokespecial idx, 3)) (hk : lki M.y.cls idx M' as.length) (hsum : (st.map fun v => v.category).sum ≤ 8) (hm : mx K M' d (.ref b :: as) h (cpost K M (d + 1) Q pc L st)) : wx K M (d + 1) Q pc L (as.reverse ++ .ref b :: st) h := by
  intro s m args below meth c H locs h0 ls A hH h1 h2 hl hL
  obtain ⟨k1, k2, k3, kx, kr, k4, k5, k6⟩ := hk
  intro T hT X
  have hpl : K.e.platform.magicAccessors = ({} : Platform).magicAccessors := by rw [X.admits.platform]
  have hcode : (Cond.code M'.y M'.b M'.n none).before args s = true := by
    have := A.kn.w (args := args) k6.1 (cw_wd M')
    unfold cw at this
    rw [kx, kr] at this
    exact this
  obtain ⟨mk, vm₁, hnamed, hW₁, hstep₁⟩ : ∃ (mk : MethodId) (vm₁ : Vm), s.methodNamed? M'.y = some mk ∧ s.WarmedH vm₁ ∧ ∀ target, (∀ acts, Steps K.p.tables K.e below (doInvoke K.e ((T.setVm vm₁).setTop (F0 m pc ls st)) acts mk (.ref b :: as).toArray).1 target) → Steps K.p.tables K.e below (T.setTop (F0 m pc ls (as.reverse ++ .ref b :: st))) target := by
    rcases k1 with k1 | ⟨host, k1⟩
    · obtain ⟨mk, _, _, _, vm₁, hnamed, -, -, -, -, -, -, -, hW₁, hstep₁⟩ := Steps.initColdArgs (e := K.e) X.here A.ex X.warmed hpl A.ow k3 k4 (A.kn.w (args := args) k1 rfl) (A.kn.w k2 rfl) hcode (f := F0 m pc ls (as.reverse ++ .ref b :: st)) rfl (argsL := as) (rest := st) (nargs_len k5) rfl (by rw [A.bt]; exact A.dc hd)
      exact ⟨mk, vm₁, hnamed, hW₁, hstep₁⟩
    · obtain ⟨mk, _, _, _, vm₁, hnamed, -, -, -, -, -, -, -, hW₁, hstep₁⟩ := Steps.initColdArgsNest (e := K.e) X.here A.ex X.warmed hpl A.ow k3 k4 (A.kn.w (args := args) k1 rfl) (A.kn.w k2 rfl) hcode (f := F0 m pc ls (as.reverse ++ .ref b :: st)) rfl (argsL := as) (rest := st) (nargs_len k5) rfl (by rw [A.bt]; exact A.dc hd)
      exact ⟨mk, vm₁, hnamed, hW₁, hstep₁⟩
  obtain ⟨t, a1, b1⟩ := x_end hm k6 A (X.noted hW₁) (by show xhr K h T.heap; rw [hT]; exact hH) h1 h2 hl hL (A.dc hd) hsum hnamed
  exact ⟨t, hstep₁ t (fun acts => by rw [doInvoke_state]; exact a1), b1⟩
theorem r_callv (j : Nat) {idx b ci : Nat} {as fs : List Value} (hd : M.t[j]? = some (pc, .invokevirtual idx, 3)) (hk : lkv M.y.cls idx ci M' as.length) (hc : h.1 b = (ci, fs)) (hsum : (st.map fun v => v.category).sum ≤ 8) (hm : mx K M' d (.ref b :: as) h (cpost K M (d + 1) Q pc L st)) : wx K M (d + 1) Q pc L (as.reverse ++ .ref b :: st) h := by
  intro s m args below meth c H locs h0 ls A hH h1 h2 hl hL
  obtain ⟨k1, k2, ⟨r, hr, hz, k3⟩, k4, k5, k6⟩ := hk
  intro T hT X
  obtain ⟨cellB, hcB, hoB, hclB⟩ := obj_recv A.kn hH hc hz hr
  obtain ⟨mk, methM, hnamed, hmethM, hstM, habM⟩ := Cond.instanceMethod_spec (A.kn.w (args := args) k2 rfl)
  obtain ⟨mk', methM', cM, hnamed', hmethM', -, -, -, -, -, -, hsigM⟩ := cw_spec (A.kn.w (args := args) k6.1 (cw_wd M'))
  cases hnamed.symm.trans hnamed'
  cases hmethM.symm.trans hmethM'
  obtain ⟨c2, r2, m2, q1, q2, q3, q4, kP, hkP, hkPi⟩ := Cond.selects_spec (A.kn.w (args := args) k3 rfl)
  cases hclB.symm.trans q1
  cases (State.methodFound?_of_named hnamed k4).symm.trans q2
  cases hnamed.symm.trans q3
  have hselP : selectMethod K.e.platform s.vm cellB.cls mk = .method mk := by rw [Launch.admits_selectMethod X.admits]; exact q4
  obtain ⟨vm₁, X₁, hstep₁⟩ := X.invokevirtual A.ex A.ow (A.kn.w k1 rfl) hnamed hmethM hstM hkP hkPi k4 (a := b) (cell := cellB) (by rw [hT]; exact hcB)
    (fun z h => by rw [h] at hoB; cases hoB) hselP hmethM habM hkP hkPi (g := F0 m pc ls (as.reverse ++ .ref b :: st)) rfl (argsL := as) (rest := st) (nargs_len k5 _ hsigM) rfl (by rw [A.bt]; exact A.dc hd)
  obtain ⟨t, a1, b1⟩ := x_end hm k6 A X₁ (by show xhr K h T.heap; rw [hT]; exact hH) h1 h2 hl hL (A.dc hd) hsum hnamed
  exact ⟨t, hstep₁ t (fun acts => by rw [doInvoke_state]; exact a1), b1⟩
theorem r_callu (j : Nat) {idx b ci : Nat} {x : MethodName} {as fs : List Value} (hd : M.t[j]? = some (pc, .invokevirtual idx, 3)) (hk : lku M.y.cls idx ci x M' as.length) (hc : h.1 b = (ci, fs)) (hsum : (st.map fun v => v.category).sum ≤ 8) (hm : mx K M' d (.ref b :: as) h (cpost K M (d + 1) Q pc L st)) : wx K M (d + 1) Q pc L (as.reverse ++ .ref b :: st) h := by
  intro s m args below meth c H locs h0 ls A hH h1 h2 hl hL
  obtain ⟨k1, kS, kD, k2, ⟨r, hr, hz, k3⟩, k4, k5, k6⟩ := hk
  intro T hT X
  obtain ⟨cellB, hcB, hoB, hclB⟩ := obj_recv A.kn hH hc hz hr
  obtain ⟨r0, rr, hn, hrm, hstR, hsigR⟩ := va_Decl.abs (va_Nw.of rfl (A.kn.w (args := args) kD rfl))
  obtain ⟨cn, ck, r1, hcn, hck, hni, hf, hn1⟩ := Cond.sameMethod_found (A.kn.w (args := args) kS rfl)
  cases hn.symm.trans hn1
  obtain ⟨mk, methM, hnamed, hmethM, -, habM⟩ := Cond.instanceMethod_spec (A.kn.w (args := args) k2 rfl)
  obtain ⟨c2, r2, m2, q1, q2, q3, q4, kP, hkP, hkPi⟩ := Cond.selects_spec (A.kn.w (args := args) k3 rfl)
  cases hclB.symm.trans q1
  cases hf.symm.trans q2
  cases hnamed.symm.trans q3
  have hselP : selectMethod K.e.platform s.vm cellB.cls r0 = .method mk := by rw [Launch.admits_selectMethod X.admits]; exact q4
  obtain ⟨vm₁, X₁, hstep₁⟩ := X.invokevirtualUp A.ex A.ow (A.kn.w k1 rfl) (A.kn.w kS rfl) k4 hn hrm hstR (a := b) (cell := cellB) (by rw [hT]; exact hcB)
    (fun z h => by rw [h] at hoB; cases hoB) hselP hmethM habM hkP hkPi (g := F0 m pc ls (as.reverse ++ .ref b :: st)) rfl (argsL := as) (rest := st) (nargs_len k5 _ hsigR) rfl (by rw [A.bt]; exact A.dc hd)
  obtain ⟨t, a1, b1⟩ := x_end hm k6 A X₁ (by show xhr K h T.heap; rw [hT]; exact hH) h1 h2 hl hL (A.dc hd) hsum hnamed
  exact ⟨t, hstep₁ t (fun acts => by rw [doInvoke_state]; exact a1), b1⟩
/-- Object's own constructor -/
theorem r_objInit (j : Nat) {idx b : Nat} (hd : M.t[j]? = some (pc, .invokespecial idx, 3)) (hw : Cond.methodLink M.y.cls idx Lib.objectInit ∈ lw_tbl) (hw2 : Cond.instanceMethod Lib.objectInit ∈ lw_tbl) (hw3 : Cond.code Lib.objectInit ⟨#[0xb1]⟩ 1 none ∈ lw_tbl) (hsum : (st.map fun v => v.category).sum ≤ 8) (k : wx K M (d + 1) Q (pc + 3) L st h) : wx K M (d + 1) Q pc L (.ref b :: st) h := by
  intro s m args below meth c H locs h0 ls A hH h1 h2 hl hL
  refine W.objInit A.ex A.bt A.ow (A.kn.w hw rfl) (A.kn.w hw2 rfl) (A.kn.w hw3 rfl) rfl (hL.1.trans A.ml.symm) rfl (A.dc hd) (by show 1 ≤ d + 1; omega) (by have := lv_room (m := m) (pc := pc) (ls := ls) (rest := .ref b :: st) hsum; show _ ≤ 41 * (d + 1); omega) ?_
  exact k s m args below meth c H locs h0 ls A hH h1 h2 hl hL
theorem r_calls0 (j : Nat) {idx : Nat} (hd : M.t[j]? = some (pc, .invokestatic idx, 3)) (hk : lks M.y.cls idx M' 0) (hsum : (st.map fun v => v.category).sum ≤ 8) (hm : mx K M' d [] h (cpost K M (d + 1) Q pc L st)) : wx K M (d + 1) Q pc L (st) h := r_calls j (as := []) hd hk hsum hm
theorem r_calli0 (j : Nat) {idx b : Nat} (hd : M.t[j]? = some (pc, .invokespecial idx, 3)) (hk : lki M.y.cls idx M' 0) (hsum : (st.map fun v => v.category).sum ≤ 8) (hm : mx K M' d [.ref b] h (cpost K M (d + 1) Q pc L st)) : wx K M (d + 1) Q pc L (.ref b :: st) h := r_calli j (as := []) hd hk hsum hm
theorem r_callv0 (j : Nat) {idx b ci : Nat} {fs : List Value} (hd : M.t[j]? = some (pc, .invokevirtual idx, 3)) (hk : lkv M.y.cls idx ci M' 0) (hc : h.1 b = (ci, fs)) (hsum : (st.map fun v => v.category).sum ≤ 8) (hm : mx K M' d [.ref b] h (cpost K M (d + 1) Q pc L st)) : wx K M (d + 1) Q pc L (.ref b :: st) h := r_callv j (as := []) hd hk hc hsum hm
theorem r_callu0 (j : Nat) {idx b ci : Nat} {x : MethodName} {fs : List Value} (hd : M.t[j]? = some (pc, .invokevirtual idx, 3)) (hk : lku M.y.cls idx ci x M' 0) (hc : h.1 b = (ci, fs)) (hsum : (st.map fun v => v.category).sum ≤ 8) (hm : mx K M' d [.ref b] h (cpost K M (d + 1) Q pc L st)) : wx K M (d + 1) Q pc L (.ref b :: st) h := r_callu j (as := []) hd hk hc hsum hm
theorem r_calls1 (j : Nat) {idx : Nat} {v1 : Value} (hd : M.t[j]? = some (pc, .invokestatic idx, 3)) (hk : lks M.y.cls idx M' 1) (hsum : (st.map fun v => v.category).sum ≤ 8) (hm : mx K M' d [v1] h (cpost K M (d + 1) Q pc L st)) : wx K M (d + 1) Q pc L (v1 :: st) h := r_calls j (as := [v1]) hd hk hsum hm
theorem r_calli1 (j : Nat) {idx b : Nat} {v1 : Value} (hd : M.t[j]? = some (pc, .invokespecial idx, 3)) (hk : lki M.y.cls idx M' 1) (hsum : (st.map fun v => v.category).sum ≤ 8) (hm : mx K M' d [.ref b, v1] h (cpost K M (d + 1) Q pc L st)) : wx K M (d + 1) Q pc L (v1 :: .ref b :: st) h := r_calli j (as := [v1]) hd hk hsum hm
theorem r_callv1 (j : Nat) {idx b ci : Nat} {fs : List Value} {v1 : Value} (hd : M.t[j]? = some (pc, .invokevirtual idx, 3)) (hk : lkv M.y.cls idx ci M' 1) (hc : h.1 b = (ci, fs)) (hsum : (st.map fun v => v.category).sum ≤ 8) (hm : mx K M' d [.ref b, v1] h (cpost K M (d + 1) Q pc L st)) : wx K M (d + 1) Q pc L (v1 :: .ref b :: st) h := r_callv j (as := [v1]) hd hk hc hsum hm
theorem r_callu1 (j : Nat) {idx b ci : Nat} {x : MethodName} {fs : List Value} {v1 : Value} (hd : M.t[j]? = some (pc, .invokevirtual idx, 3)) (hk : lku M.y.cls idx ci x M' 1) (hc : h.1 b = (ci, fs)) (hsum : (st.map fun v => v.category).sum ≤ 8) (hm : mx K M' d [.ref b, v1] h (cpost K M (d + 1) Q pc L st)) : wx K M (d + 1) Q pc L (v1 :: .ref b :: st) h := r_callu j (as := [v1]) hd hk hc hsum hm
theorem r_calls2 (j : Nat) {idx : Nat} {v1 v2 : Value} (hd : M.t[j]? = some (pc, .invokestatic idx, 3)) (hk : lks M.y.cls idx M' 2) (hsum : (st.map fun v => v.category).sum ≤ 8) (hm : mx K M' d [v1, v2] h (cpost K M (d + 1) Q pc L st)) : wx K M (d + 1) Q pc L (v2 :: v1 :: st) h := r_calls j (as := [v1, v2]) hd hk hsum hm
theorem r_calli2 (j : Nat) {idx b : Nat} {v1 v2 : Value} (hd : M.t[j]? = some (pc, .invokespecial idx, 3)) (hk : lki M.y.cls idx M' 2) (hsum : (st.map fun v => v.category).sum ≤ 8) (hm : mx K M' d [.ref b, v1, v2] h (cpost K M (d + 1) Q pc L st)) : wx K M (d + 1) Q pc L (v2 :: v1 :: .ref b :: st) h := r_calli j (as := [v1, v2]) hd hk hsum hm
theorem r_callv2 (j : Nat) {idx b ci : Nat} {fs : List Value} {v1 v2 : Value} (hd : M.t[j]? = some (pc, .invokevirtual idx, 3)) (hk : lkv M.y.cls idx ci M' 2) (hc : h.1 b = (ci, fs)) (hsum : (st.map fun v => v.category).sum ≤ 8) (hm : mx K M' d [.ref b, v1, v2] h (cpost K M (d + 1) Q pc L st)) : wx K M (d + 1) Q pc L (v2 :: v1 :: .ref b :: st) h := r_callv j (as := [v1, v2]) hd hk hc hsum hm
theorem r_callu2 (j : Nat) {idx b ci : Nat} {x : MethodName} {fs : List Value} {v1 v2 : Value} (hd : M.t[j]? = some (pc, .invokevirtual idx, 3)) (hk : lku M.y.cls idx ci x M' 2) (hc : h.1 b = (ci, fs)) (hsum : (st.map fun v => v.category).sum ≤ 8) (hm : mx K M' d [.ref b, v1, v2] h (cpost K M (d + 1) Q pc L st)) : wx K M (d + 1) Q pc L (v2 :: v1 :: .ref b :: st) h := r_callu j (as := [v1, v2]) hd hk hc hsum hm
theorem r_calls3 (j : Nat) {idx : Nat} {v1 v2 v3 : Value} (hd : M.t[j]? = some (pc, .invokestatic idx, 3)) (hk : lks M.y.cls idx M' 3) (hsum : (st.map fun v => v.category).sum ≤ 8) (hm : mx K M' d [v1, v2, v3] h (cpost K M (d + 1) Q pc L st)) : wx K M (d + 1) Q pc L (v3 :: v2 :: v1 :: st) h := r_calls j (as := [v1, v2, v3]) hd hk hsum hm
theorem r_calli3 (j : Nat) {idx b : Nat} {v1 v2 v3 : Value} (hd : M.t[j]? = some (pc, .invokespecial idx, 3)) (hk : lki M.y.cls idx M' 3) (hsum : (st.map fun v => v.category).sum ≤ 8) (hm : mx K M' d [.ref b, v1, v2, v3] h (cpost K M (d + 1) Q pc L st)) : wx K M (d + 1) Q pc L (v3 :: v2 :: v1 :: .ref b :: st) h := r_calli j (as := [v1, v2, v3]) hd hk hsum hm
theorem r_callv3 (j : Nat) {idx b ci : Nat} {fs : List Value} {v1 v2 v3 : Value} (hd : M.t[j]? = some (pc, .invokevirtual idx, 3)) (hk : lkv M.y.cls idx ci M' 3) (hc : h.1 b = (ci, fs)) (hsum : (st.map fun v => v.category).sum ≤ 8) (hm : mx K M' d [.ref b, v1, v2, v3] h (cpost K M (d + 1) Q pc L st)) : wx K M (d + 1) Q pc L (v3 :: v2 :: v1 :: .ref b :: st) h := r_callv j (as := [v1, v2, v3]) hd hk hc hsum hm
theorem r_calls4 (j : Nat) {idx : Nat} {v1 v2 v3 v4 : Value} (hd : M.t[j]? = some (pc, .invokestatic idx, 3)) (hk : lks M.y.cls idx M' 4) (hsum : (st.map fun v => v.category).sum ≤ 8) (hm : mx K M' d [v1, v2, v3, v4] h (cpost K M (d + 1) Q pc L st)) : wx K M (d + 1) Q pc L (v4 :: v3 :: v2 :: v1 :: st) h := r_calls j (as := [v1, v2, v3, v4]) hd hk hsum hm
theorem r_calli4 (j : Nat) {idx b : Nat} {v1 v2 v3 v4 : Value} (hd : M.t[j]? = some (pc, .invokespecial idx, 3)) (hk : lki M.y.cls idx M' 4) (hsum : (st.map fun v => v.category).sum ≤ 8) (hm : mx K M' d [.ref b, v1, v2, v3, v4] h (cpost K M (d + 1) Q pc L st)) : wx K M (d + 1) Q pc L (v4 :: v3 :: v2 :: v1 :: .ref b :: st) h := r_calli j (as := [v1, v2, v3, v4]) hd hk hsum hm
theorem r_callv4 (j : Nat) {idx b ci : Nat} {fs : List Value} {v1 v2 v3 v4 : Value} (hd : M.t[j]? = some (pc, .invokevirtual idx, 3)) (hk : lkv M.y.cls idx ci M' 4) (hc : h.1 b = (ci, fs)) (hsum : (st.map fun v => v.category).sum ≤ 8) (hm : mx K M' d [.ref b, v1, v2, v3, v4] h (cpost K M (d + 1) Q pc L st)) : wx K M (d + 1) Q pc L (v4 :: v3 :: v2 :: v1 :: .ref b :: st) h := r_callv j (as := [v1, v2, v3, v4]) hd hk hc hsum hm
theorem r_calls5 (j : Nat) {idx : Nat} {v1 v2 v3 v4 v5 : Value} (hd : M.t[j]? = some (pc, .invokestatic idx, 3)) (hk : lks M.y.cls idx M' 5) (hsum : (st.map fun v => v.category).sum ≤ 8) (hm : mx K M' d [v1, v2, v3, v4, v5] h (cpost K M (d + 1) Q pc L st)) : wx K M (d + 1) Q pc L (v5 :: v4 :: v3 :: v2 :: v1 :: st) h := r_calls j (as := [v1, v2, v3, v4, v5]) hd hk hsum hm
theorem r_calli5 (j : Nat) {idx b : Nat} {v1 v2 v3 v4 v5 : Value} (hd : M.t[j]? = some (pc, .invokespecial idx, 3)) (hk : lki M.y.cls idx M' 5) (hsum : (st.map fun v => v.category).sum ≤ 8) (hm : mx K M' d [.ref b, v1, v2, v3, v4, v5] h (cpost K M (d + 1) Q pc L st)) : wx K M (d + 1) Q pc L (v5 :: v4 :: v3 :: v2 :: v1 :: .ref b :: st) h := r_calli j (as := [v1, v2, v3, v4, v5]) hd hk hsum hm
theorem r_callv5 (j : Nat) {idx b ci : Nat} {fs : List Value} {v1 v2 v3 v4 v5 : Value} (hd : M.t[j]? = some (pc, .invokevirtual idx, 3)) (hk : lkv M.y.cls idx ci M' 5) (hc : h.1 b = (ci, fs)) (hsum : (st.map fun v => v.category).sum ≤ 8) (hm : mx K M' d [.ref b, v1, v2, v3, v4, v5] h (cpost K M (d + 1) Q pc L st)) : wx K M (d + 1) Q pc L (v5 :: v4 :: v3 :: v2 :: v1 :: .ref b :: st) h := r_callv j (as := [v1, v2, v3, v4, v5]) hd hk hc hsum hm
end CALLS

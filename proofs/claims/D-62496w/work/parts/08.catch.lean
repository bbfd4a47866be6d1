/-! a handler whose class entry may still be unresolved -/
theorem fh_cold {f : JFrame} {a : Addr} {e : Env} {s : State} {Qh : Handler → Pre} {E : CtlPost} {d : Bool} {acts : List Action} {x : ExceptionTableEntry} {t : List ExceptionTableEntry} {c : ClassId} {cell : Cell} {vm' : Vm} (hx : covers x f.pc = true) (h0 : x.catchType ≠ 0)
    (hg : (Jvm.resolveClass f.method.cls x.catchType).Gives e.toSetting s.vm (.ok c) vm') (hsz : vm'.classes.size ≤ s.vm.classes.size) (hcell : s.heap[a]? = some cell) (hobj : ∀ k, cell.vm ≠ .statics k)
    (hk : ∃ k, vm'.classes[cell.cls]? = some k) (hc : ∃ k, vm'.classes[c]? = some k) (hfit : vm'.assignable cell.cls c = true) :
    wp (findHandler.go f a (x :: t)) Qh E e d acts s ↔ Qh (.found x.handlerPc) d acts (s.setVm vm') := by
  have h1 := hg.op (op := .resolveClass f.method.cls x.catchType) rfl
  have h2 := VmOp.lands_eq (op := .resolveClass f.method.cls x.catchType) (e := e) (s := s) h1.2 hsz
  simp only [covers] at hx
  simp [findHandler.go, hx, h0, h1.1, h1.2, h2, hcell, hobj, hk, hc, hfit, VmOp.dirties, VmOp.acts]
theorem st_cold {e : Env} {s s' : State} {a : Addr} {f : JFrame} {r : List Frame} {pc : Nat} (hfind : ∀ (Q : Handler → Pre) (E : CtlPost) (d : Bool) (acts : List Action), wp (findHandler f a) Q E e d acts s ↔ Q (.found pc) d acts s') :
    (stepThrowing e s a (.java f :: r)).1 = s'.setFrames (.java { f with pc := pc, stack := [.ref a] } :: r) := by
  simp only [stepThrowing, searchFrame, vmDo]
  generalize hr : Sem.go _ e false [] s = res
  obtain ⟨as, rfl, ha⟩ := Sem.eq_ok_of hr (a := Handler.found pc) (s' := s') (acts' := []) (by simp [hfind _ _ _ _])
  rfl
/-- into the handler -/
theorem X_caught {p : Program} {l : Launch} {e : Env} {R : Room} {s : State} {m : MethodId} {args : Array Value} {below : List Frame} {meth : Method} {c : Code} {T : State} {locs : List Loc} {cells slots : Nat} (X : Stand p l e R s m args below meth c T locs cells slots)
    {own C : String} {s0 e0 hp ct : Nat} {g : JFrame} {a : Addr} {cell : Cell} {cX : ClassId} (hg : g.method = m) (hown : s.vm.findClass own = some m.cls) (htab : c.exceptionTable.toList = tableOf [(s0, e0, hp, ct)]) (hcov : s0 ≤ g.pc ∧ g.pc < e0) (hct : ct ≠ 0) (hlink : (Cond.classLink own ct C).before args s = true)
    (hcell : T.heap[a]? = some cell) (hobj : cell.vm.isStatics = false) (hX : s.vm.findClass C = some cX) (hcls : cell.cls = cX) (hcast : s.vm.assignable cX cX = true) :
    ∃ vm', Stand p l e R s m args below meth c (T.setVm vm') locs cells slots ∧ ∀ target, Steps p.tables e below ((T.setVm vm').setTop { g with pc := hp, stack := [.ref a] }) target → Steps p.tables e below ((T.setTop g).pushFrame (.throwing a)) target := by
  have hpl : e.platform.magicAccessors = ({} : Platform).magicAccessors := by rw [X.admits.platform]
  obtain ⟨c', hc', hcl⟩ := Cond.classLink_spec hown hlink e.platform hpl
  cases hX.symm.trans hc'
  obtain ⟨dk, _, _, kt, hd, _, _, _, _, hkt, _, hopen⟩ := hcl.here
  have hcl₀ := X.warmed.classLinks hcl
  have hW' : s.WarmedH (T.vm.noted m.cls ct (.cls cX)) := X.warmed.noted hd hopen (State.rightAt_cls hcl)
  obtain ⟨kt', hkt', -⟩ := hW'.alike.2.2 _ _ hkt
  refine ⟨_, X.noted hW', fun target hrest => ?_⟩
  subst hg
  have h : At T g.method c below := X.here
  obtain ⟨hgo, hw⟩ := h.throwing (g := g) a
  refine Steps.head hgo hw ?_
  have hm : ((T.setTop g).pushFrame (.throwing a)).vm.method? g.method = some meth := by
    have := X.method'
    simpa [State.pushFrame, State.setFrames] using this
  have hvm : ((T.setTop g).pushFrame (.throwing a)).vm = T.vm := rfl
  have hheap : ((T.setTop g).pushFrame (.throwing a)).heap = T.heap := rfl
  have hfind : ∀ (Q : Handler → Pre) (E : CtlPost) (d : Bool) (acts : List Action), wp (findHandler g a) Q E e d acts ((T.setTop g).pushFrame (.throwing a)) ↔ Q (.found hp) d acts (((T.setTop g).pushFrame (.throwing a)).setVm (T.vm.noted g.method.cls ct (.cls cX))) := by
    intro Q E d acts
    rw [W.findHandler_eq hm X.code, htab]
    refine fh_cold (x := ⟨s0, e0, hp, ct⟩) (t := []) (c := cX) (cell := cell) (vm' := T.vm.noted g.method.cls ct (.cls cX)) (by simp [covers, hcov.1, hcov.2]) hct (by rw [hvm]; exact resolveClass_links e.toSetting hcl₀) (by rw [hvm]; no_record) (by rw [hheap]; exact hcell) (fun k hk => by rw [hk] at hobj; cases hobj) ?_ ⟨kt', hkt'⟩ ?_
    · rw [hcls]; exact ⟨kt', hkt'⟩
    · rw [hcls, hW'.alike.assignable]; exact hcast
  rw [stepThread_throwing (frames_entered h.top _), st_cold hfind]
  obtain ⟨g₀, hg0⟩ := Option.isSome_iff_exists.mp h.top
  obtain ⟨r, hr⟩ := State.topJava?_eq_some.mp hg0
  have hr2 : (T.setVm (T.vm.noted g.method.cls ct (.cls cX))).frames = .java g₀ :: r := hr
  rw [State.setTop_of_frames _ hr2] at hrest
  rw [State.pushFrame, State.setTop_of_frames _ hr, State.setFrames_setFrames, hr]
  show Steps p.tables e below ((((T.setVm (T.vm.noted g.method.cls ct (.cls cX)))).setFrames (.throwing a :: (T.setFrames (.java g :: r)).frames)).setFrames (.java { g with pc := hp, stack := [.ref a] } :: r)) target
  rw [State.setFrames_setFrames]
  exact hrest

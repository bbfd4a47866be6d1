/-! contracts and calls -/
theorem cw_wd (M : xm) : wd_ok (cw M) = true := by
  unfold cw
  split <;> rfl
theorem cw_spec {M : xm} {args : Array Value} {s : State} (h : (cw M).before args s = true) : ∃ m meth c, s.methodNamed? M.y = some m ∧ s.vm.method? m = some meth ∧ meth.code = some c ∧ c.code = M.b ∧ c.maxLocals = M.n ∧ meth.sig.returnType = M.r ∧ meth.locks = false ∧ c.exceptionTable.toList = tableOf M.x ∧ parseMethodDescriptor M.y.desc = some meth.sig := by
  unfold cw at h
  split at h
  · rename_i hx
    obtain ⟨m, hn⟩ := Cond.code_named h
    obtain ⟨meth, c, h1, h2, h3, h4, h5, h6, h7, h8⟩ := Cond.code_spec hn h
    refine ⟨m, meth, c, hn, h1, h2, h3, h4, h5, h6, ?_, h8⟩
    rw [hx]
    have : c.exceptionTable.toList = [] := by
      have := Array.isEmpty_iff.mp h7
      rw [this]
    rw [this]; rfl
  · rename_i x xs hx
    obtain ⟨m, meth, c, hn, h1, h2, h3, h4, h5, h6, h7, h8⟩ := Cond.codeWith_spec h
    refine ⟨m, meth, c, hn, h1, h2, h3, h4, h6, h7, ?_, h8⟩
    rw [hx, ← h5, table_eq]
def mpre (K : xk) (M : xm) (args : List Value) (h : xh) : Array Value → State → Prop := fun a U => a = args.toArray ∧ xhr K h U.heap ∧ xkn K U ∧ K.e.platform.stackTraces = false ∧ okm M
def mpost (K : xk) (h : xh) (Q : Outcome → xh → Prop) : Array Value → State → Outcome → State → Prop := fun _ st o t =>
  ∃ h' : xh, Q o h' ∧ xhr K h' t.heap ∧ h.2.1 ≤ h'.2.1 ∧ h.2.2 ≤ h'.2.2 ∧ st.WarmedH t.vm ∧ ∃ L : List Loc, (∀ q ∈ L, K.n ≤ q.base) ∧ st.sameButNew ({ t with vm := st.vm } : State) L (h'.2.1 - h.2.1) (h'.2.2 - h.2.2)
/-- THE CONTRACT: method M, called with args in the heap h, with d frames of room, ends so that Q -/
def mx (K : xk) (M : xm) (d : Nat) (args : List Value) (h : xh) (Q : Outcome → xh → Prop) : Prop :=
  MetFree K.l M.y (headSpec [cw M] (xroom K d h)) (mpre K M args h) (fun p e _ _ _ => p = K.p ∧ e = K.e) (mpost K h Q)
theorem lv_args1 : ∀ (vs : List Value) (i : Nat), (∀ v ∈ vs, v.category = 1) → ∀ (j : Nat) (v : Value), vs[j]? = some v → (i + j, v) ∈ lv_args i vs
  | [], _, _, j, v, h => by simp at h
  | w :: vs, i, hc, 0, v, h => by
    simp at h
    subst h
    exact List.mem_cons_self
  | w :: vs, i, hc, j + 1, v, h => by
    have h1 : w.category = 1 := hc w List.mem_cons_self
    have h2 := lv_args1 vs (i + 1) (fun v hv => hc v (List.mem_cons_of_mem _ hv)) j v (by simpa using h)
    refine List.mem_cons_of_mem _ ?_
    rw [h1, if_neg (by decide), show i + (j + 1) = i + 1 + j by omega]
    exact h2
theorem lg_sl1 : ∀ (vs : List Value), (∀ v ∈ vs, v.category = 1) → (lg_sl vs).length = vs.length
  | [], _ => rfl
  | v :: vs, h => by
    have h1 : v.category = 1 := h v List.mem_cons_self
    have h2 := lg_sl1 vs (fun v hv => h v (List.mem_cons_of_mem _ hv))
    unfold lg_sl at h2 ⊢
    rw [List.flatMap_cons, List.length_append, h2, h1, if_neg (by decide)]
    simp
    omega
def ent (args : List Value) (n : Nat) : List (Option Value) := args.map some ++ List.replicate (n - args.length) none
theorem ent_rel {args : List Value} {n : Nat} (hc : ∀ v ∈ args, v.category = 1) (hn : args.length ≤ n) : lrel ((lg_sl args ++ List.replicate (n - (lg_sl args).length) Slot.unset).toArray) (ent args n) n := by
  have h1 := lg_sl1 args hc
  have h2 := lv_entry args (n := n) (by omega)
  have key : ∀ (i : Nat) (v : Value), (ent args n)[i]? = some (some v) → args[i]? = some v := by
    intro i v h
    unfold ent at h
    by_cases hi : i < args.length
    · rw [List.getElem?_append_left (by simpa using hi)] at h
      simpa using h
    · rw [List.getElem?_append_right (by simpa using hi), List.getElem?_replicate] at h
      split at h <;> simp at h
  refine ⟨h2.1, h2.2.1, by simp [ent]; omega, fun i v h => ?_, fun i v h => hc v (List.mem_of_getElem? (key i v h))⟩
  have h3 := lv_args1 args 0 hc i v (key i v h)
  rw [Nat.zero_add] at h3
  exact h2.2.2 _ h3
/-- a contract out of the walk of the method's body -/
theorem mx_of {K : xk} {M : xm} {d : Nat} {args : List Value} {h : xh} {Q : Outcome → xh → Prop} (hM : okm M) (hc : ∀ v ∈ args, v.category = 1) (hn : args.length ≤ M.n) (k : wx K M d Q 0 (ent args M.n) [] h) : mx K M d args h Q := by
  refine MetFree.of_bodyS (code := M.b) (maxLocals := M.n) (ret := M.r) hM.2.2.2.1 ?_ ?_
  · intro args s m hp hn
    obtain ⟨m', meth, c, h0, h1, h2, h3, h4, h5, h6, -, -⟩ := cw_spec (atoms_spec (ws := [cw M]) hp _ List.mem_cons_self)
    cases hn.symm.trans h0
    exact ⟨meth, c, h1, h2, h3, h4, h5, h6⟩
  · rintro p e s m a below meth c s₁ B hml ⟨rfl, hH, hkn, htr, hok⟩ ⟨rfl, rfl⟩
    obtain ⟨m', meth', c', g0, g1, g2, g3, g4, g5, g6, g7, -⟩ := cw_spec (atoms_spec (ws := [cw M]) B.pre _ List.mem_cons_self)
    cases B.named.symm.trans g0
    cases B.method.symm.trans g1
    cases (Stand.of_body B).code.symm.trans g2
    have A : xact K M s m meth c h := ⟨B.exec, B.bytes, B.returns, B.notSynchronized, hml, findClass_of_methodNamed B.named, (name_of_methodNamed B.named B.method).1, g7, hkn, htr, hH, hok⟩
    have hh0 : s₁.heap = s.heap := by rw [B.state]; rfl
    have hw := k s m args.toArray below meth c s.heap [] h _ A hH (Nat.le_refl _) (Nat.le_refl _) (fun q hq => by cases hq) (ent_rel hc hn)
    rw [Nat.sub_self, Nat.sub_self] at hw
    have X₀ : Stand K.p K.l K.e (xroom K d h) s m args.toArray below meth c s₁ [] 0 0 := Stand.of_body B
    rw [lg_entry_eq]
    obtain ⟨t, a1, o, h', b1, b2, b3, b4, b5, b6, b7, b8⟩ := hw s₁ hh0 X₀
    exact ⟨t, o, a1, b1, b2, h', b3, b4, b5, b6, b7, b8⟩
/-- the call itself, from the point at which the callee is to be entered: it ends, with what its contract says; the caller stands again -/
theorem xcall {K : xk} {M M' : xm} {d : Nat} {as : List Value} {h h0 : xh} {Q' : Outcome → xh → Prop} {s : State} {m mk : MethodId} {args : Array Value} {below : List Frame} {meth : Method} {c : Code} {U : State} {locs : List Loc} {g : JFrame} {ig : Instr}
    (hM : mx K M' d as h Q') (hok : okm M') (A : xact K M s m meth c h0) (X : Stand K.p K.l K.e (xroom K (d + 1) h0) s m args below meth c U locs (h.2.1 - h0.2.1) (h.2.2 - h0.2.2)) (hH : xhr K h U.heap) (h1 : h0.2.1 ≤ h.2.1) (h2 : h0.2.2 ≤ h.2.2) (hl : ∀ q ∈ locs, K.n ≤ q.base)
    (hg : g.method = m) (hsize : g.locals.size = c.maxLocals) (hdg : decode c.code g.pc = .ok (ig, 3)) (hW : 2 * g.monitorRoom + (g.stack.map fun v => v.category).sum ≤ 8) (hn : U.methodNamed? M'.y = some mk) :
    ∃ (o : Outcome) (s₂ U' : State) (h' : xh) (L : List Loc), Stand K.p K.l K.e (xroom K (d + 1) h0) s m args below meth c U' (locs ++ L) (h'.2.1 - h0.2.1) (h'.2.2 - h0.2.2) ∧ xhr K h' U'.heap ∧ Q' o h' ∧ h.2.1 ≤ h'.2.1 ∧ h.2.2 ≤ h'.2.2 ∧ (∀ q ∈ L, K.n ≤ q.base) ∧
      Steps K.p.tables K.e below (doInvoke K.e (U.setTop g) [] mk as.toArray).1 s₂ ∧
      ((∃ v, o = .returned v ∧ s₂ = U'.setTop { g with pc := g.pc + 3, stack := v.toList ++ g.stack }) ∨ ∃ a, o = .threw a ∧ s₂ = (U'.setTop g).pushFrame (.throwing a)) := by
  have hknU : xkn K U := A.kn.moved X.warmed
  have hcw : (cw M').before as.toArray U = true := hknU.w hok.1 (cw_wd M')
  obtain ⟨mk', methY, cY, e0, hmY, hcY, -, hlY, -, -, -, -⟩ := cw_spec hcw
  cases hn.symm.trans e0
  obtain ⟨kY, hkY, -⟩ := className_of_methodNamed hn
  have hini : (Cond.initialized M'.y.cls).before as.toArray U = true := hknU.w hok.2.2.2.2 rfl
  have hinitY : kY.init = .initialized := Cond.initialized_spec (findClass_of_methodNamed hn) hkY hini
  have hAt : At U g.method c below := by rw [hg]; exact X.here
  have hb1 := hH.2.2.2.2.1
  have hb2 := hH.2.2.2.2.2
  have hM13 := hok.2.2.1
  have happ : (headSpec [cw M'] (xroom K d h)).appliesLoose M'.y K.e.platform (U.calling g mk as.toArray) = true :=
    Spec.appliesLoose_calling (g := g) hAt hdg hn hkY hinitY
      (X.room_calling (g := g) (R' := xroom K d h) hsize hmY hcY (Nat.le_refl _) (by rw [hlY]; show _ + _ + 41 * d ≤ 41 * (d + 1); omega) (by show _ + (K.n + 600128 - h.2.1) ≤ K.n + 600128 - h0.2.1; omega) (by show _ + (7301098 - h.2.2) ≤ 7301098 - h0.2.2; omega)) (atoms_intro (ws := [cw M']) (fun w hw => by rw [List.mem_singleton.mp hw]; exact hcw))
  obtain ⟨mid, hmid⟩ := hAt.above
  have hfr : (U.setTop g).frames = (.java g :: mid) ++ below := by rw [State.frames_setTop' g hAt.top, hmid]; rfl
  obtain ⟨o, s₂, hsteps, -, hend, hq⟩ := Steps.callFree hM K.p X.admits X.cas X.clock (acts := []) hfr happ ⟨rfl, hH, hknU.moved (State.WarmedH.refl U), A.tr, hok⟩ ⟨rfl, rfl⟩
  have hq' : mpost K h Q' as.toArray (U.calling g mk as.toArray) o s₂ := hq
  rw [State.frames_setTop' g hAt.top] at hend
  obtain ⟨h', q1, q2, q3, q4, hW₂, L, hL, e2, p2, p3, p4, p5, p6⟩ := hq'
  have e3 : s₂ = ({ (U.calling g mk as.toArray).setFrames s₂.frames with heap := s₂.heap, slotsUsed := s₂.slotsUsed } : State).setVm s₂.vm := by
    have : s₂ = ({ s₂ with vm := (U.calling g mk as.toArray).vm } : State).setVm s₂.vm := rfl
    rw [e2] at this
    exact this
  have hW' : U.WarmedH s₂.vm := hW₂
  obtain ⟨g₀, hg0⟩ := Option.isSome_iff_exists.mp hAt.top
  obtain ⟨r, hr⟩ := State.topJava?_eq_some.mp hg0
  have hr' : (({ U with heap := s₂.heap, slotsUsed := s₂.slotsUsed } : State).setVm s₂.vm).frames = .java g₀ :: r := hr
  have hsame : U.sameButNew ({ U with heap := s₂.heap, slotsUsed := s₂.slotsUsed } : State) L (h'.2.1 - h.2.1) (h'.2.2 - h.2.2) := by
    refine ⟨?_, p2, p3, p4, p5, p6⟩
    obtain ⟨t, ht, -⟩ := State.frames_cons hr
    show ({ U with heap := s₂.heap, slotsUsed := s₂.slotsUsed } : State) = { U.setFrames U.frames with heap := s₂.heap, slotsUsed := s₂.slotsUsed }
    rw [State.setFrames_self ht]
  have ec : h.2.1 - h0.2.1 + (h'.2.1 - h.2.1) = h'.2.1 - h0.2.1 := by omega
  have es : h.2.2 - h0.2.2 + (h'.2.2 - h.2.2) = h'.2.2 - h0.2.2 := by omega
  subst hg
  have X' : Stand K.p K.l K.e (xroom K (d + 1) h0) s g.method args below meth c (({ U with heap := s₂.heap, slotsUsed := s₂.slotsUsed } : State).setVm s₂.vm) (locs ++ L) (h'.2.1 - h0.2.1) (h'.2.2 - h0.2.2) := by
    rw [← ec, ← es]
    exact ⟨X.admits, X.cas, X.clock, X.frames, X.room, X.hears, X.method, X.code, (X.here.setHeapUsed s₂.heap s₂.slotsUsed).setVm hW'.alike, X.tail, State.WarmedH.trans X.warmed hW', X.limits, X.bytes, X.same.trans (hsame.setVm s.vm)⟩
  refine ⟨o, s₂, _, h', L, X', q2, q1, q3, q4, hL, hsteps, ?_⟩
  cases o with
  | returned v =>
    obtain ⟨c₂, i₂, len₂, hc₂, hd₂, hf₂⟩ := hend
    have hcc : c₂ = c := by
      have h1 : s₂.code? g.method = U.code? g.method := by
        rw [State.code?_eq, State.code?_eq, hW'.alike.method?]
      exact Option.some.inj (hc₂.symm.trans (h1.trans hAt.code))
    subst hcc
    have hlen : len₂ = 3 := by rw [hdg] at hd₂; cases hd₂; rfl
    subst hlen
    refine Or.inl ⟨v, rfl, ?_⟩
    refine e3.trans ?_
    rw [hf₂, State.calling_eq hAt.top, State.setFrames_setFrames, State.setTop_of_frames _ hr', hr]
    rfl
  | threw a =>
    refine Or.inr ⟨a, rfl, ?_⟩
    have hf₂ : s₂.frames = .throwing a :: .java g :: U.frames.tail := hend
    refine e3.trans ?_
    rw [hf₂, State.calling_eq hAt.top, State.setFrames_setFrames, State.pushFrame, State.setTop_of_frames _ hr', hr]
    have hcur : U.cur < U.threads.size := State.cur_lt_of_frames hr
    rw [State.frames_setFrames _ (by exact hcur), State.setFrames_setFrames]
    rfl

/-! new, arrays, casts -/
def dfl (ci : Nat) : List Value := match xc_cls[ci]? with
  | some r => (List.range r.2.2).map (fun k => defaultValue (xty r k))
  | none => []
def ncl (own : String) (idx ci : Nat) : Prop := ∃ r : vw_C, xc_cls[ci]? = some r ∧ 0 < ci ∧ ci < 20 ∧ Cond.classLink own idx r.1 ∈ lw_tbl
section MEM2
variable {K : xk} {M : xm} {d : Nat} {Q : Outcome → xh → Prop} {pc : Nat} {L : List (Option Value)} {st : List Value} {h : xh}
theorem r_new (j : Nat) {idx ci : Nat} {fs : List Value} (hd : M.t[j]? = some (pc, .new idx, 3)) (hf : ncl M.y.cls idx ci) (hfs : dfl ci = fs) (b1 : h.2.1 + 1 ≤ K.n + 600128) (b2 : h.2.2 + fs.length ≤ 7301098) (k : wx K M d Q (pc + 3) L (.ref h.2.1 :: st) (h.new (ci, fs) fs.length)) : wx K M d Q pc L st h := by
  intro s m args below meth c H locs h0 ls A hH h1 h2 hl hL
  obtain ⟨r, hr, hz, h20, hlink⟩ := hf
  have hdf : fs = (List.range r.2.2).map (fun k => defaultValue (xty r k)) := by rw [← hfs, dfl, hr]
  have hfl : fs.length = r.2.2 := by rw [hdf]; simp
  have hx := xc_of hr
  have hKn := A.kn.1 ci _ hr
  refine W.newcK (own := M.y.cls) (C := r.1) (n := fs.length) A.ex A.bt A.ow (A.kn.w hlink rfl) (by rw [hfl]; exact A.kn.w hx.2.2.2.1 rfl) (A.kn.w hx.2.2.2.2 rfl) rfl (A.dc hd) (by show _ ≤ K.n + 600128 - h0.2.1; omega) (by show _ ≤ 7301098 - h0.2.2; omega) hKn.2.1 hH.1 fun H1 kC hkC e1 z1 o1 => ?_
  have hr2 : xhr K (h.new (ci, fs) fs.length) H1 := by
    refine hH.push z1 o1 b1 b2 ?_
    unfold xcr
    rw [if_pos h20]
    refine ⟨r, hr, hfl, (u_born (xty r) (A.kn.lw (args := args)) (xc_lay hr) hKn hkC e1 hx.1).to fun k hk => ?_⟩
    show _ = vp_V fs k
    unfold vp_V
    rw [hdf, List.getD_eq_getElem?_getD]
    simp [hk]
  have e3 : h.2.1 - h0.2.1 + 1 = (h.new (ci, fs) fs.length).2.1 - h0.2.1 := by show _ = h.2.1 + 1 - h0.2.1; omega
  have e4 : h.2.2 - h0.2.2 + fs.length = (h.new (ci, fs) fs.length).2.2 - h0.2.2 := by show _ = h.2.2 + fs.length - h0.2.2; omega
  rw [e3, e4]
  exact k s m args below meth c H1 locs h0 ls A hr2 (by show _ ≤ h.2.1 + 1; omega) (by show _ ≤ h.2.2 + _; omega) hl hL
theorem r_newi (j : Nat) {n : Nat} {z : Int} (hd : M.t[j]? = some (pc, .newarray .int, 2)) (hz : z = n) (hn : n ≤ 100000) (b1 : h.2.1 + 1 ≤ K.n + 600128) (b2 : h.2.2 + n ≤ 7301098) (k : wx K M d Q (pc + 2) L (.ref h.2.1 :: st) (h.new (20, av n (fun _ => iv 0)) n)) : wx K M d Q pc L (iv z :: st) h := by
  intro s m args below meth c H locs h0 ls A hH h1 h2 hl hL
  subst hz
  have hw : Cond.arrayClass (newarray.typeOf .int) ∈ lw_tbl := by decide +kernel
  refine va_newaK (N := n) A.ex A.bt (A.kn.w hw rfl) rfl (A.dc hd) rfl (fun q => ?_) (by rw [ix_cl (by omega) (by omega)]; omega) ?_ (by show _ ≤ K.n + 600128 - h0.2.1; omega) (by show _ ≤ 7301098 - h0.2.2; omega) hH.1 fun H1 cA e1 z1 o1 hAr hNm => ?_
  · have := (iv_lt (a := (n : Int)) (b := 0) ⟨by omega, by omega⟩ rg_0).mp q
    omega
  · show n * componentBytes .int ≤ _
    have : componentBytes .int ≤ 8 := by decide
    calc n * componentBytes .int ≤ n * 8 := Nat.mul_le_mul_left _ this
      _ ≤ 536870912 := by omega
  have hcA : cA = K.dC 20 := Option.some.inj (hNm.symm.trans (A.kn.2.1 (20, .int) (by decide)).2)
  subst hcA
  have hr2 : xhr K (h.new (20, av n (fun _ => iv 0)) n) H1 := hH.push z1 o1 b1 b2 ((xcr_av (by decide) (by decide)).mpr e1)
  have e3 : h.2.1 - h0.2.1 + 1 = (h.new (20, av n (fun _ => iv 0)) n).2.1 - h0.2.1 := by show _ = h.2.1 + 1 - h0.2.1; omega
  have e4 : h.2.2 - h0.2.2 + n = (h.new (20, av n (fun _ => iv 0)) n).2.2 - h0.2.2 := by show _ = h.2.2 + n - h0.2.2; omega
  rw [e3, e4]
  exact k s m args below meth c H1 locs h0 ls A hr2 (by show _ ≤ h.2.1 + 1; omega) (by show _ ≤ h.2.2 + _; omega) hl hL
theorem r_newc (j : Nat) {n : Nat} {z : Int} (hd : M.t[j]? = some (pc, .newarray .char, 2)) (hz : z = n) (hn : n ≤ 100000) (b1 : h.2.1 + 1 ≤ K.n + 600128) (b2 : h.2.2 + n ≤ 7301098) (k : wx K M d Q (pc + 2) L (.ref h.2.1 :: st) (h.new (21, av n (fun _ => iv 0)) n)) : wx K M d Q pc L (iv z :: st) h := by
  intro s m args below meth c H locs h0 ls A hH h1 h2 hl hL
  subst hz
  have hw : Cond.arrayClass (newarray.typeOf .char) ∈ lw_tbl := by decide +kernel
  refine va_newaK (N := n) A.ex A.bt (A.kn.w hw rfl) rfl (A.dc hd) rfl (fun q => ?_) (by rw [ix_cl (by omega) (by omega)]; omega) ?_ (by show _ ≤ K.n + 600128 - h0.2.1; omega) (by show _ ≤ 7301098 - h0.2.2; omega) hH.1 fun H1 cA e1 z1 o1 hAr hNm => ?_
  · have := (iv_lt (a := (n : Int)) (b := 0) ⟨by omega, by omega⟩ rg_0).mp q
    omega
  · show n * componentBytes .char ≤ _
    have : componentBytes .char ≤ 8 := by decide
    calc n * componentBytes .char ≤ n * 8 := Nat.mul_le_mul_left _ this
      _ ≤ 536870912 := by omega
  have hcA : cA = K.dC 21 := Option.some.inj (hNm.symm.trans (A.kn.2.1 (21, .char) (by decide)).2)
  subst hcA
  have hr2 : xhr K (h.new (21, av n (fun _ => iv 0)) n) H1 := hH.push z1 o1 b1 b2 ((xcr_av (by decide) (by decide)).mpr e1)
  have e3 : h.2.1 - h0.2.1 + 1 = (h.new (21, av n (fun _ => iv 0)) n).2.1 - h0.2.1 := by show _ = h.2.1 + 1 - h0.2.1; omega
  have e4 : h.2.2 - h0.2.2 + n = (h.new (21, av n (fun _ => iv 0)) n).2.2 - h0.2.2 := by show _ = h.2.2 + n - h0.2.2; omega
  rw [e3, e4]
  exact k s m args below meth c H1 locs h0 ls A hr2 (by show _ ≤ h.2.1 + 1; omega) (by show _ ≤ h.2.2 + _; omega) hl hL
theorem r_newz (j : Nat) {n : Nat} {z : Int} (hd : M.t[j]? = some (pc, .newarray .boolean, 2)) (hz : z = n) (hn : n ≤ 100000) (b1 : h.2.1 + 1 ≤ K.n + 600128) (b2 : h.2.2 + n ≤ 7301098) (k : wx K M d Q (pc + 2) L (.ref h.2.1 :: st) (h.new (22, av n (fun _ => iv 0)) n)) : wx K M d Q pc L (iv z :: st) h := by
  intro s m args below meth c H locs h0 ls A hH h1 h2 hl hL
  subst hz
  have hw : Cond.arrayClass (newarray.typeOf .boolean) ∈ lw_tbl := by decide +kernel
  refine va_newaK (N := n) A.ex A.bt (A.kn.w hw rfl) rfl (A.dc hd) rfl (fun q => ?_) (by rw [ix_cl (by omega) (by omega)]; omega) ?_ (by show _ ≤ K.n + 600128 - h0.2.1; omega) (by show _ ≤ 7301098 - h0.2.2; omega) hH.1 fun H1 cA e1 z1 o1 hAr hNm => ?_
  · have := (iv_lt (a := (n : Int)) (b := 0) ⟨by omega, by omega⟩ rg_0).mp q
    omega
  · show n * componentBytes .boolean ≤ _
    have : componentBytes .boolean ≤ 8 := by decide
    calc n * componentBytes .boolean ≤ n * 8 := Nat.mul_le_mul_left _ this
      _ ≤ 536870912 := by omega
  have hcA : cA = K.dC 22 := Option.some.inj (hNm.symm.trans (A.kn.2.1 (22, .boolean) (by decide)).2)
  subst hcA
  have hr2 : xhr K (h.new (22, av n (fun _ => iv 0)) n) H1 := hH.push z1 o1 b1 b2 ((xcr_av (by decide) (by decide)).mpr e1)
  have e3 : h.2.1 - h0.2.1 + 1 = (h.new (22, av n (fun _ => iv 0)) n).2.1 - h0.2.1 := by show _ = h.2.1 + 1 - h0.2.1; omega
  have e4 : h.2.2 - h0.2.2 + n = (h.new (22, av n (fun _ => iv 0)) n).2.2 - h0.2.2 := by show _ = h.2.2 + n - h0.2.2; omega
  rw [e3, e4]
  exact k s m args below meth c H1 locs h0 ls A hr2 (by show _ ≤ h.2.1 + 1; omega) (by show _ ≤ h.2.2 + _; omega) hl hL
theorem r_newq (j : Nat) {n idx ci : Nat} {C : String} {z : Int} (hd : M.t[j]? = some (pc, .anewarray idx, 3)) (hci : (ci, FieldType.object C) ∈ xc_arr) (h20 : ¬ ci < 20) (h30 : ci < 30) (hw : Cond.classLink M.y.cls idx C ∈ lw_tbl) (hov : Cond.arrayOver (.object C) ∈ lw_tbl) (hz : z = n) (hn : n ≤ 100000) (b1 : h.2.1 + 1 ≤ K.n + 600128) (b2 : h.2.2 + n ≤ 7301098) (k : wx K M d Q (pc + 3) L (.ref h.2.1 :: st) (h.new (ci, av n (fun _ => .null)) n)) : wx K M d Q pc L (iv z :: st) h := by
  intro s m args below meth c H locs h0 ls A hH h1 h2 hl hL
  subst hz
  have hcl : (Int32.ofInt (n : Int)).toNatClampNeg = n := by rw [ix_cl (by omega) (by omega)]; omega
  refine W.anew A.ex A.bt A.ow (A.kn.w hw rfl) (A.kn.w hov rfl) rfl (A.dc hd) rfl (fun q => ?_) (by rw [hcl]; omega) (by show _ ≤ K.n + 600128 - h0.2.1; omega) (by rw [hcl]; show _ ≤ 7301098 - h0.2.2; omega) fun cA kA comp f1 f2 f3 f4 => ?_
  · have := (iv_lt (a := (n : Int)) (b := 0) ⟨by omega, by omega⟩ rg_0).mp q
    omega
  rw [hcl]
  obtain ⟨kA', comp', -, -, -, g4⟩ := (A.kn.2.1 (ci, .object C) hci).2
  have hcA : cA = K.dC ci := Option.some.inj (f1.symm.trans g4)
  subst hcA
  have e0 : H.size = h.2.1 := hH.1
  generalize hH1 : H.push ({ cls := K.dC ci, slots := Array.replicate n .null, vm := .none } : Cell) = H1
  have z1 : H1.size = h.2.1 + 1 := by rw [← hH1, Array.size_push, e0]
  have e1 : H1[h.2.1]? = some (arrV (K.dC ci) n (fun _ => .null)) := by rw [← hH1, ← e0, Array.getElem?_push_size, ← arrV_new]
  have o1 : ∀ q : Nat, q < h.2.1 → H1[q]? = H[q]? := fun q hq => by rw [← hH1, Array.getElem?_push, if_neg (by omega)]
  have hr2 : xhr K (h.new (ci, av n (fun _ => .null)) n) H1 := hH.push z1 o1 b1 b2 ((xcr_av h20 h30).mpr e1)
  have e3 : h.2.1 - h0.2.1 + 1 = (h.new (ci, av n (fun _ => .null)) n).2.1 - h0.2.1 := by show _ = h.2.1 + 1 - h0.2.1; omega
  have e4 : h.2.2 - h0.2.2 + n = (h.new (ci, av n (fun _ => .null)) n).2.2 - h0.2.2 := by show _ = h.2.2 + n - h0.2.2; omega
  rw [e3, e4, e0]
  exact k s m args below meth c H1 locs h0 ls A hr2 (by show _ ≤ h.2.1 + 1; omega) (by show _ ≤ h.2.2 + _; omega) hl hL
theorem r_iaload (j : Nat) {n a : Nat} {i : Int} {f : Int → Value} (hd : M.t[j]? = some (pc, .iaload, 1)) (hc : h.1 a = (20, av n f)) (hn : n < 2147483648) (h3 : 0 ≤ i) (h4 : i < n) (k : wx K M d Q (pc + 1) L (f i :: st) h) : wx K M d Q pc L (iv i :: .ref a :: st) h := by
  intro s m args below meth c H locs h0 ls A hH h1 h2 hl hL
  have hcell := (xcr_av (by decide) (by decide)).mp (hH.cell hc (by decide : (20 : Nat) ≠ 0)).2
  have hi : ((i.toNat : Nat) : Int) = i := Int.toNat_of_nonneg h3
  refine W.iald (v := f i) A.ex A.bt hcell ((A.kn.2.1 (20, .int) (by decide)).1 n _) (fun q => by cases q) (by rw [arrV_size]; exact ix_in h3 h4 hn) (by rw [ix_cl h3 (by omega), arrV_read _ _ (by omega)]; show some (f ((i.toNat : Nat) : Int)) = _; rw [hi]) rfl rfl (A.dc hd) ?_
  exact k s m args below meth c H locs h0 ls A hH h1 h2 hl hL
theorem r_caload (j : Nat) {n a : Nat} {i : Int} {f : Int → Value} (hd : M.t[j]? = some (pc, .caload, 1)) (hc : h.1 a = (21, av n f)) (hn : n < 2147483648) (h3 : 0 ≤ i) (h4 : i < n) (k : wx K M d Q (pc + 1) L (f i :: st) h) : wx K M d Q pc L (iv i :: .ref a :: st) h := by
  intro s m args below meth c H locs h0 ls A hH h1 h2 hl hL
  have hcell := (xcr_av (by decide) (by decide)).mp (hH.cell hc (by decide : (21 : Nat) ≠ 0)).2
  have hi : ((i.toNat : Nat) : Int) = i := Int.toNat_of_nonneg h3
  refine W.cald (v := f i) A.ex A.bt hcell ((A.kn.2.1 (21, .char) (by decide)).1 n _) (fun q => by cases q) (by rw [arrV_size]; exact ix_in h3 h4 hn) (by rw [ix_cl h3 (by omega), arrV_read _ _ (by omega)]; show some (f ((i.toNat : Nat) : Int)) = _; rw [hi]) rfl rfl (A.dc hd) ?_
  exact k s m args below meth c H locs h0 ls A hH h1 h2 hl hL
theorem r_baload (j : Nat) {n a : Nat} {i : Int} {f : Int → Value} (hd : M.t[j]? = some (pc, .baload, 1)) (hc : h.1 a = (22, av n f)) (hn : n < 2147483648) (h3 : 0 ≤ i) (h4 : i < n) (k : wx K M d Q (pc + 1) L (f i :: st) h) : wx K M d Q pc L (iv i :: .ref a :: st) h := by
  intro s m args below meth c H locs h0 ls A hH h1 h2 hl hL
  have hcell := (xcr_av (by decide) (by decide)).mp (hH.cell hc (by decide : (22 : Nat) ≠ 0)).2
  have hi : ((i.toNat : Nat) : Int) = i := Int.toNat_of_nonneg h3
  refine W.zald (v := f i) A.ex A.bt hcell ((A.kn.2.1 (22, .boolean) (by decide)).1 n _) (fun q => by cases q) (by rw [arrV_size]; exact ix_in h3 h4 hn) (by rw [ix_cl h3 (by omega), arrV_read _ _ (by omega)]; show some (f ((i.toNat : Nat) : Int)) = _; rw [hi]) rfl rfl (A.dc hd) ?_
  exact k s m args below meth c H locs h0 ls A hH h1 h2 hl hL
theorem r_aaloadM (j : Nat) {n a : Nat} {i : Int} {f : Int → Value} (hd : M.t[j]? = some (pc, .aaload, 1)) (hc : h.1 a = (23, av n f)) (hn : n < 2147483648) (h3 : 0 ≤ i) (h4 : i < n) (k : wx K M d Q (pc + 1) L (f i :: st) h) : wx K M d Q pc L (iv i :: .ref a :: st) h := by
  intro s m args below meth c H locs h0 ls A hH h1 h2 hl hL
  have hcell := (xcr_av (by decide) (by decide)).mp (hH.cell hc (by decide : (23 : Nat) ≠ 0)).2
  have hi : ((i.toNat : Nat) : Int) = i := Int.toNat_of_nonneg h3
  refine W.aald (ty := .object "RoleSessions$Machine") (v := f i) A.ex A.bt hcell ((A.kn.2.1 (23, .object "RoleSessions$Machine") (by decide)).1 n _) rfl (fun q => by cases q) (by rw [arrV_size]; exact ix_in h3 h4 hn) (by rw [ix_cl h3 (by omega), arrV_read _ _ (by omega)]; show some (f ((i.toNat : Nat) : Int)) = _; rw [hi]) rfl rfl (A.dc hd) ?_
  exact k s m args below meth c H locs h0 ls A hH h1 h2 hl hL
theorem r_aaloadS (j : Nat) {n a : Nat} {i : Int} {f : Int → Value} (hd : M.t[j]? = some (pc, .aaload, 1)) (hc : h.1 a = (24, av n f)) (hn : n < 2147483648) (h3 : 0 ≤ i) (h4 : i < n) (k : wx K M d Q (pc + 1) L (f i :: st) h) : wx K M d Q pc L (iv i :: .ref a :: st) h := by
  intro s m args below meth c H locs h0 ls A hH h1 h2 hl hL
  have hcell := (xcr_av (by decide) (by decide)).mp (hH.cell hc (by decide : (24 : Nat) ≠ 0)).2
  have hi : ((i.toNat : Nat) : Int) = i := Int.toNat_of_nonneg h3
  refine W.aald (ty := .object "RoleSessions$State") (v := f i) A.ex A.bt hcell ((A.kn.2.1 (24, .object "RoleSessions$State") (by decide)).1 n _) rfl (fun q => by cases q) (by rw [arrV_size]; exact ix_in h3 h4 hn) (by rw [ix_cl h3 (by omega), arrV_read _ _ (by omega)]; show some (f ((i.toNat : Nat) : Int)) = _; rw [hi]) rfl rfl (A.dc hd) ?_
  exact k s m args below meth c H locs h0 ls A hH h1 h2 hl hL
theorem r_aaloadI (j : Nat) {n a : Nat} {i : Int} {f : Int → Value} (hd : M.t[j]? = some (pc, .aaload, 1)) (hc : h.1 a = (25, av n f)) (hn : n < 2147483648) (h3 : 0 ≤ i) (h4 : i < n) (k : wx K M d Q (pc + 1) L (f i :: st) h) : wx K M d Q pc L (iv i :: .ref a :: st) h := by
  intro s m args below meth c H locs h0 ls A hH h1 h2 hl hL
  have hcell := (xcr_av (by decide) (by decide)).mp (hH.cell hc (by decide : (25 : Nat) ≠ 0)).2
  have hi : ((i.toNat : Nat) : Int) = i := Int.toNat_of_nonneg h3
  refine W.aald (ty := .array .int) (v := f i) A.ex A.bt hcell ((A.kn.2.1 (25, .array .int) (by decide)).1 n _) rfl (fun q => by cases q) (by rw [arrV_size]; exact ix_in h3 h4 hn) (by rw [ix_cl h3 (by omega), arrV_read _ _ (by omega)]; show some (f ((i.toNat : Nat) : Int)) = _; rw [hi]) rfl rfl (A.dc hd) ?_
  exact k s m args below meth c H locs h0 ls A hH h1 h2 hl hL
theorem r_iastore (j : Nat) {n a : Nat} {i x : Int} {f : Int → Value} (hd : M.t[j]? = some (pc, .iastore, 1)) (hc : h.1 a = (20, av n f)) (hn : n < 2147483648) (h3 : 0 ≤ i) (h4 : i < n) (k : wx K M d Q (pc + 1) L st (h.set a (20, av n (fu f i (iv x))))) : wx K M d Q pc L (iv x :: iv i :: .ref a :: st) h := by
  intro s m args below meth c H locs h0 ls A hH h1 h2 hl hL
  have hz := hH.cell hc (by decide : (20 : Nat) ≠ 0)
  have hcell := (xcr_av (by decide) (by decide)).mp hz.2
  refine W.iast A.ex A.bt hcell ((A.kn.2.1 (20, .int) (by decide)).1 n _) (fun q => by cases q) (by rw [arrV_size]; exact ix_in h3 h4 hn) rfl rfl (A.dc hd) fun H1 e z oq => ?_
  rw [ix_cl h3 (by omega), fu_store h3] at e
  refine k s m args below meth c H1 _ h0 ls A (hH.put hz.1 z oq ((xcr_av (by decide) (by decide)).mpr e)) h1 h2 (fun q hq => ?_) hL
  rcases List.mem_append.mp hq with hq | hq
  · exact hl q hq
  · rw [List.mem_singleton.mp hq]; exact hz.1
theorem r_castore (j : Nat) {n a : Nat} {i x : Int} {f : Int → Value} (hd : M.t[j]? = some (pc, .castore, 1)) (hc : h.1 a = (21, av n f)) (hn : n < 2147483648) (h3 : 0 ≤ i) (h4 : i < n) (hx : narrow .char (.int (Int32.ofInt x)) = .int (Int32.ofInt x)) (k : wx K M d Q (pc + 1) L st (h.set a (21, av n (fu f i (iv x))))) : wx K M d Q pc L (iv x :: iv i :: .ref a :: st) h := by
  intro s m args below meth c H locs h0 ls A hH h1 h2 hl hL
  have hz := hH.cell hc (by decide : (21 : Nat) ≠ 0)
  have hcell := (xcr_av (by decide) (by decide)).mp hz.2
  refine W.cast A.ex A.bt hcell ((A.kn.2.1 (21, .char) (by decide)).1 n _) (fun q => by cases q) (by rw [arrV_size]; exact ix_in h3 h4 hn) rfl rfl (A.dc hd) fun H1 e z oq => ?_
  rw [ix_cl h3 (by omega), hx, fu_store h3] at e
  refine k s m args below meth c H1 _ h0 ls A (hH.put hz.1 z oq ((xcr_av (by decide) (by decide)).mpr e)) h1 h2 (fun q hq => ?_) hL
  rcases List.mem_append.mp hq with hq | hq
  · exact hl q hq
  · rw [List.mem_singleton.mp hq]; exact hz.1
theorem r_bastore (j : Nat) {n a : Nat} {i x : Int} {f : Int → Value} (hd : M.t[j]? = some (pc, .bastore, 1)) (hc : h.1 a = (22, av n f)) (hn : n < 2147483648) (h3 : 0 ≤ i) (h4 : i < n) (hx : narrow .boolean (.int (Int32.ofInt x)) = .int (Int32.ofInt x)) (k : wx K M d Q (pc + 1) L st (h.set a (22, av n (fu f i (iv x))))) : wx K M d Q pc L (iv x :: iv i :: .ref a :: st) h := by
  intro s m args below meth c H locs h0 ls A hH h1 h2 hl hL
  have hz := hH.cell hc (by decide : (22 : Nat) ≠ 0)
  have hcell := (xcr_av (by decide) (by decide)).mp hz.2
  refine W.zast A.ex A.bt hcell ((A.kn.2.1 (22, .boolean) (by decide)).1 n _) (fun q => by cases q) (by rw [arrV_size]; exact ix_in h3 h4 hn) rfl rfl (A.dc hd) fun H1 e z oq => ?_
  rw [ix_cl h3 (by omega), hx, fu_store h3] at e
  refine k s m args below meth c H1 _ h0 ls A (hH.put hz.1 z oq ((xcr_av (by decide) (by decide)).mpr e)) h1 h2 (fun q hq => ?_) hL
  rcases List.mem_append.mp hq with hq | hq
  · exact hl q hq
  · rw [List.mem_singleton.mp hq]; exact hz.1
theorem r_aastoreM (j : Nat) {n a v : Nat} {i : Int} {f : Int → Value} {vs : List Value} (hd : M.t[j]? = some (pc, .aastore, 1)) (hc : h.1 a = (23, av n f)) (hv : h.1 v = (16, vs)) (hn : n < 2147483648) (h3 : 0 ≤ i) (h4 : i < n) (k : wx K M d Q (pc + 1) L st (h.set a (23, av n (fu f i (.ref v))))) : wx K M d Q pc L (.ref v :: iv i :: .ref a :: st) h := by
  intro s m args below meth c H locs h0 ls A hH h1 h2 hl hL
  have hz := hH.cell hc (by decide : (23 : Nat) ≠ 0)
  have hcell := (xcr_av (by decide) (by decide)).mp hz.2
  obtain ⟨cellV, g1, g2, g3⟩ := (hH.cell hv (by decide : (16 : Nat) ≠ 0)).2.any
  obtain ⟨kA, comp, k1, k2, k3, -⟩ := (A.kn.2.1 (23, .object "RoleSessions$Machine") (by decide)).2
  have hcls := (A.kn.1 16 _ rfl).2
  have hcomp : comp = K.dC 16 := Option.some.inj (k3.symm.trans hcls.1)
  subst hcomp
  obtain ⟨kC, hkC, -⟩ := hcls.2
  have hin := ix_in h3 h4 hn
  refine W.aast A.ex A.bt hcell (fun q h => by cases h) (fun h => by cases h) k1 k2 rfl hkC ⟨fun q => hin (Or.inl q), by show _ < (arrV _ _ _).slots.size; rw [arrV_size]; exact Nat.not_le.mp fun q => hin (Or.inr q)⟩ g1 (fun q h => by rw [h] at g3; cases g3) (by rw [g2]; exact hkC) (by rw [g2]; exact va_assign hcls) rfl rfl (A.dc hd) fun H1 e z oq => ?_
  rw [ix_cl h3 (by omega), fu_store h3] at e
  refine k s m args below meth c H1 _ h0 ls A (hH.put hz.1 z oq ((xcr_av (by decide) (by decide)).mpr e)) h1 h2 (fun q hq => ?_) hL
  rcases List.mem_append.mp hq with hq | hq
  · exact hl q hq
  · rw [List.mem_singleton.mp hq]; exact hz.1
theorem r_aastoreMN (j : Nat) {n a : Nat} {i : Int} {f : Int → Value} (hd : M.t[j]? = some (pc, .aastore, 1)) (hc : h.1 a = (23, av n f)) (hn : n < 2147483648) (h3 : 0 ≤ i) (h4 : i < n) (k : wx K M d Q (pc + 1) L st (h.set a (23, av n (fu f i .null)))) : wx K M d Q pc L (.null :: iv i :: .ref a :: st) h := by
  intro s m args below meth c H locs h0 ls A hH h1 h2 hl hL
  have hz := hH.cell hc (by decide : (23 : Nat) ≠ 0)
  have hcell := (xcr_av (by decide) (by decide)).mp hz.2
  refine va_WaastN (C := "RoleSessions$Machine") A.ex A.bt hcell ((A.kn.2.1 (23, .object "RoleSessions$Machine") (by decide)).1 n _) (fun q => by cases q) (by rw [arrV_size]; exact ix_in h3 h4 hn) rfl rfl (A.dc hd) fun H1 e z oq => ?_
  rw [ix_cl h3 (by omega), fu_store h3] at e
  refine k s m args below meth c H1 _ h0 ls A (hH.put hz.1 z oq ((xcr_av (by decide) (by decide)).mpr e)) h1 h2 (fun q hq => ?_) hL
  rcases List.mem_append.mp hq with hq | hq
  · exact hl q hq
  · rw [List.mem_singleton.mp hq]; exact hz.1
theorem r_aastoreS (j : Nat) {n a v : Nat} {i : Int} {f : Int → Value} {vs : List Value} (hd : M.t[j]? = some (pc, .aastore, 1)) (hc : h.1 a = (24, av n f)) (hv : h.1 v = (15, vs)) (hn : n < 2147483648) (h3 : 0 ≤ i) (h4 : i < n) (k : wx K M d Q (pc + 1) L st (h.set a (24, av n (fu f i (.ref v))))) : wx K M d Q pc L (.ref v :: iv i :: .ref a :: st) h := by
  intro s m args below meth c H locs h0 ls A hH h1 h2 hl hL
  have hz := hH.cell hc (by decide : (24 : Nat) ≠ 0)
  have hcell := (xcr_av (by decide) (by decide)).mp hz.2
  obtain ⟨cellV, g1, g2, g3⟩ := (hH.cell hv (by decide : (15 : Nat) ≠ 0)).2.any
  obtain ⟨kA, comp, k1, k2, k3, -⟩ := (A.kn.2.1 (24, .object "RoleSessions$State") (by decide)).2
  have hcls := (A.kn.1 15 _ rfl).2
  have hcomp : comp = K.dC 15 := Option.some.inj (k3.symm.trans hcls.1)
  subst hcomp
  obtain ⟨kC, hkC, -⟩ := hcls.2
  have hin := ix_in h3 h4 hn
  refine W.aast A.ex A.bt hcell (fun q h => by cases h) (fun h => by cases h) k1 k2 rfl hkC ⟨fun q => hin (Or.inl q), by show _ < (arrV _ _ _).slots.size; rw [arrV_size]; exact Nat.not_le.mp fun q => hin (Or.inr q)⟩ g1 (fun q h => by rw [h] at g3; cases g3) (by rw [g2]; exact hkC) (by rw [g2]; exact va_assign hcls) rfl rfl (A.dc hd) fun H1 e z oq => ?_
  rw [ix_cl h3 (by omega), fu_store h3] at e
  refine k s m args below meth c H1 _ h0 ls A (hH.put hz.1 z oq ((xcr_av (by decide) (by decide)).mpr e)) h1 h2 (fun q hq => ?_) hL
  rcases List.mem_append.mp hq with hq | hq
  · exact hl q hq
  · rw [List.mem_singleton.mp hq]; exact hz.1
theorem r_aastoreSN (j : Nat) {n a : Nat} {i : Int} {f : Int → Value} (hd : M.t[j]? = some (pc, .aastore, 1)) (hc : h.1 a = (24, av n f)) (hn : n < 2147483648) (h3 : 0 ≤ i) (h4 : i < n) (k : wx K M d Q (pc + 1) L st (h.set a (24, av n (fu f i .null)))) : wx K M d Q pc L (.null :: iv i :: .ref a :: st) h := by
  intro s m args below meth c H locs h0 ls A hH h1 h2 hl hL
  have hz := hH.cell hc (by decide : (24 : Nat) ≠ 0)
  have hcell := (xcr_av (by decide) (by decide)).mp hz.2
  refine va_WaastN (C := "RoleSessions$State") A.ex A.bt hcell ((A.kn.2.1 (24, .object "RoleSessions$State") (by decide)).1 n _) (fun q => by cases q) (by rw [arrV_size]; exact ix_in h3 h4 hn) rfl rfl (A.dc hd) fun H1 e z oq => ?_
  rw [ix_cl h3 (by omega), fu_store h3] at e
  refine k s m args below meth c H1 _ h0 ls A (hH.put hz.1 z oq ((xcr_av (by decide) (by decide)).mpr e)) h1 h2 (fun q hq => ?_) hL
  rcases List.mem_append.mp hq with hq | hq
  · exact hl q hq
  · rw [List.mem_singleton.mp hq]; exact hz.1
theorem r_alen (j : Nat) {n a ci : Nat} {ty : FieldType} {f : Int → Value} (hd : M.t[j]? = some (pc, .arraylength, 1)) (hci : (ci, ty) ∈ xc_arr) (h20 : ¬ ci < 20) (h30 : ci < 30) (hc : h.1 a = (ci, av n f)) (k : wx K M d Q (pc + 1) L (iv n :: st) h) : wx K M d Q pc L (.ref a :: st) h := by
  intro s m args below meth c H locs h0 ls A hH h1 h2 hl hL
  have hcell := (xcr_av h20 h30).mp (hH.cell hc (by show ci ≠ 0; omega)).2
  refine W.alen (n := Int32.ofInt n) A.ex A.bt hcell ((A.kn.2.1 (ci, ty) hci).1 n _) (by rw [arrV_size]; exact (Int32.ofInt_eq_ofNat).symm) rfl rfl (A.dc hd) ?_
  exact k s m args below meth c H locs h0 ls A hH h1 h2 hl hL
theorem obj_recv {a ci : Nat} {fs : List Value} {r : vw_C} {s : State} {H : Heap} (hkn : xkn K s) (hH : xhr K h H) (hc : h.1 a = (ci, fs)) (hz : 0 < ci) (hr : xc_cls[ci]? = some r) : ∃ cell : Cell, H[a]? = some cell ∧ cell.vm.isStatics = false ∧ s.vm.findClass r.1 = some cell.cls := by
  obtain ⟨cell, g1, g2, g3⟩ := (hH.cell hc (Nat.pos_iff_ne_zero.mp hz)).2.any
  exact ⟨cell, g1, g3, by rw [g2]; exact (hkn.1 ci r hr).2.1⟩
theorem r_instY (j : Nat) {idx ci a : Nat} {fs : List Value} (hd : M.t[j]? = some (pc, .instanceof idx, 3)) (hf : ncl M.y.cls idx ci) (hc : h.1 a = (ci, fs)) (k : wx K M d Q (pc + 3) L (iv 1 :: st) h) : wx K M d Q pc L (.ref a :: st) h := by
  intro s m args below meth c H locs h0 ls A hH h1 h2 hl hL
  obtain ⟨r, hr, hz, h20, hlink⟩ := hf
  refine va_instS (nm := r.1) A.ex A.bt A.ow (A.kn.w hlink rfl) (A.kn.1 ci r hr).2 (obj_recv A.kn hH hc hz hr) (A.dc hd) ?_
  exact k s m args below meth c H locs h0 ls A hH h1 h2 hl hL
theorem r_instN (j : Nat) {idx ci ct a : Nat} {fs : List Value} (hd : M.t[j]? = some (pc, .instanceof idx, 3)) (hf : ncl M.y.cls idx ct) (hc : h.1 a = (ci, fs)) (hz : 0 < ci) (hn : ∃ r rt : vw_C, xc_cls[ci]? = some r ∧ xc_cls[ct]? = some rt ∧ (r.1, rt.1) ∈ xc_neg) (k : wx K M d Q (pc + 3) L (iv 0 :: st) h) : wx K M d Q pc L (.ref a :: st) h := by
  intro s m args below meth c H locs h0 ls A hH h1 h2 hl hL
  obtain ⟨rt', hrt', -, -, hlink⟩ := hf
  obtain ⟨r, rt, hr, hrt, hneg⟩ := hn
  cases hrt.symm.trans hrt'
  refine va_instNo (C := r.1) A.ex A.bt A.ow (A.kn.w hlink rfl) (A.kn.2.2.2.1 _ hneg) (obj_recv A.kn hH hc hz hr) (A.dc hd) ?_
  exact k s m args below meth c H locs h0 ls A hH h1 h2 hl hL
theorem r_cast (j : Nat) {idx ci a : Nat} {fs : List Value} (hd : M.t[j]? = some (pc, .checkcast idx, 3)) (hf : ncl M.y.cls idx ci) (hc : h.1 a = (ci, fs)) (k : wx K M d Q (pc + 3) L (.ref a :: st) h) : wx K M d Q pc L (.ref a :: st) h := by
  intro s m args below meth c H locs h0 ls A hH h1 h2 hl hL
  obtain ⟨r, hr, hz, h20, hlink⟩ := hf
  refine va_castS (nm := r.1) A.ex A.bt A.ow (A.kn.w hlink rfl) (A.kn.1 ci r hr).2 (obj_recv A.kn hH hc hz hr) (A.dc hd) ?_
  exact k s m args below meth c H locs h0 ls A hH h1 h2 hl hL
end MEM2

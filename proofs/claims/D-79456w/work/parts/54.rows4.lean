/-! ROWS: arraycopy, statics of Throwable, exceptions thrown and made, methods with handlers, the default method -/
set_option maxRecDepth 100000
theorem rf_narA (t : FieldType) (r : Option Nat) : narrow (.array t) (va_rf r) = va_rf r := by cases r <;> rfl
theorem rf_fitA (t : FieldType) (r : Option Nat) : fits (.array t) (va_rf r) = true := by cases r <;> rfl
section R4
variable {p : Program} {l : Launch} {e : Env} {R : Room} {s : State} {m : MethodId} {args : Array Value} {below : List Frame} {meth : Method} {c : Code} {H : Heap} {locs : List Loc} {cells slots : Nat} {Q : State → Prop}
variable {cc : ByteArray} {pc : Nat} {ls : Array Slot} {rest : List Value} {Γ : g_C} {ph : g_H} {a nL : Nat} {own : String}
theorem g_copyf (S : CallFix p m c cc nL s args lw_all own) (hK : g_K Γ s) (I : g_I Γ ph s H locs) (hsize : ls.size = nL) {j0 i0 a0 j i n0 n1 : Nat} {f g : Nat → UInt32} (ha0 : ph j0 i0 a0 = some (.inl (g_t Γ 5, n0, .inr (.inr (.inl f))))) (ha : ph j i a = some (.inl (g_t Γ 5, n1, .inr (.inr (.inl g))))) {index : Nat} (hl : Cond.methodLink own index arraycopyName ∈ lw_all)
    {sp dp n : Int32} {sp' dp' n' : Nat} (e1 : sp = nI sp') (e2 : dp = nI dp') (e3 : n = nI n') (b1 : sp' < 2 ^ 31) (b2 : dp' < 2 ^ 31) (b3 : n' < 2 ^ 31) (h4 : sp' + n' ≤ n0) (h5 : dp' + n' ≤ n1)
    (hframes : 1 ≤ R.frames) (hlocals : (rest.map fun v => v.category).sum + (nativeFrameWords "java/lang/System" "arraycopy" 5 + 11) ≤ R.locals) (hdg : decode cc pc = .ok (.invokestatic index, 3))
    (kk : ∀ (H1 : Heap) (locs1 : List Loc), g_I Γ (gput ph j i a (.inl (g_t Γ 5, n1, .inr (.inr (.inl (va_cpy f g sp' dp' n')))))) s H1 locs1 → W p l e R s m args below meth c H1 locs1 cells slots Q (F0 m (pc + 3) ls rest)) : W p l e R s m args below meth c H locs cells slots Q (F0 m pc ls (.int n :: .int dp :: .ref a :: .int sp :: .ref a0 :: rest)) := by
  obtain ⟨⟨L, h1, h2, h3⟩, hS⟩ := I
  obtain ⟨q0, hq0⟩ := h1 _ _ _ _ ha0
  obtain ⟨q1, hq1⟩ := h1 _ _ _ _ ha
  subst e1; subst e2; subst e3
  have nn : ∀ k : Nat, k < 2 ^ 31 → ¬ nI k < 0 := fun k hk q => by
    rw [Int32.lt_iff_toInt_lt, nI_int hk] at q
    have : (0 : Int32).toInt = 0 := rfl
    omega
  refine va_copyf S.1 S.2.1 (S.2.2.1.trans hsize.symm) S.2.2.2.1 (S.2.2.2.2 _ hl) (S.2.2.2.2 _ q402) (S.2.2.2.2 _ q401) (S.2.2.2.2 _ q142) hK.1 h2 h3 hS q0 q1 5 5 (g_in.snd hq0) (g_in.snd hq1) (ty := .float) rfl rfl rfl (nn _ b1) (nn _ b2) (nn _ b3) (by rw [nI_clamp b1, nI_clamp b3]; exact h4) (by rw [nI_clamp b2, nI_clamp b3]; exact h5) (fun i _ => rfl) hframes hlocals hdg (fun H1 locs1 hP hD hS => kk H1 locs1 ⟨?_, hS⟩)
  rw [nI_clamp b1, nI_clamp b2, nI_clamp b3] at hP hD
  exact g_G.set h1 h3 hq1 hP hD
theorem g_getZ (S : CallFix p m c cc nL s args lw_all own) {C n d : String} (hZ : vx_Zq C n d (g_A Γ) s s.heap) (I : g_I Γ ph s H locs) {index : Nat} (hl : Cond.fieldLink own index C n d ∈ lw_all) (hdg : decode cc pc = .ok (.getstatic index, 3))
    (kk : ∀ r : Option Nat, W p l e R s m args below meth c H locs cells slots Q (F0 m (pc + 3) ls (va_rf r :: rest))) : W p l e R s m args below meth c H locs cells slots Q (F0 m pc ls rest) := by
  rcases hZ.1 with h | ⟨t, h⟩
  · exact va_gets S.1 S.2.1 h I.2 S.2.2.2.1 (S.2.2.2.2 _ hl) (fun _ h => h) hdg (kk none)
  · exact va_gets S.1 S.2.1 h I.2 S.2.2.2.1 (S.2.2.2.2 _ hl) (fun _ h => h) hdg (kk (some t))
theorem g_G.grow {Γ : g_C} {ph : g_H} {H H1 : Heap} (h : g_G Γ ph H) (hk : ∀ q : Nat, q < H.size → H1[q]? = H[q]?) : g_G Γ ph H1 := by
  obtain ⟨L, h1, h2, h3⟩ := h
  exact ⟨L, h1, h2.kept (fun k q hq => hk _ (h2 k q hq).lt), h3⟩
theorem g_throw0 {X : String} {names : List String} {ik ic mc ms : Nat} {post : Option Value → g_H → Prop} {px : String → Nat → g_H → Prop} (S : CallFix p m c cc nL s args lw_all own) (hK : g_K Γ s) (I : g_I Γ ph s H locs) (hsize : ls.size = nL) (htr : l.stackTraces = false) (hlk : meth.locks = false) (hout : ∀ x ∈ c.exceptionTable.toList, covers x (pc + 7) = false)
    (hcls : Bundle.fit X = true) (hnames : ∀ n ∈ names, Bundle.fit n = true) (hk : Cond.classLink own ik X ∈ lw_all) (hini : Cond.initialized X ∈ lw_all) (hat : ∀ w ∈ Bundle.ownAtoms0 own ic X names, w.before args s = true) (hgood : ∀ w ∈ Cond.classLink own ik X :: Cond.initialized X :: vx_at0 own ic X names, vx_ot w = true)
    (d0 : decode cc pc = .ok (.new ik, 3)) (d3 : decode cc (pc + 3) = .ok (.dup, 1)) (d4 : decode cc (pc + 4) = .ok (.invokespecial ic, 3)) (d7 : decode cc (pc + 7) = .ok (.athrow, 1))
    (hRframes : names.length + 3 < R.frames) (hRlocals : (rest.map fun v => v.category).sum + (13 * (names.length + 1) + 42) ≤ R.locals) (hRcells : cells + 1 ≤ R.cells) (hRslots : slots + 6 ≤ R.slots) (hc : cells + 1 ≤ mc) (hs : slots + 6 ≤ ms)
    (hQ : Q = vx_MQ below (g_Q Γ post) (g_X Γ px) args s mc ms (g_A Γ)) (hp : ∀ q, px X q ph) : W p l e R s m args below meth c H locs cells slots Q (F0 m pc ls rest) := by
  subst hQ
  refine vx_throw0 S.1 S.2.1 htr S.2.2.2.1 hcls hnames (S.2.2.2.2 _ hk) (S.2.2.2.2 _ hini) (fun w hw => hat w (List.mem_filter.mp hw).1) hgood hK.2.2.2.2.1.2.1 hK.2.2.2.2.1.2.2 I.2 (hsize.trans S.2.2.1.symm) d0 d3 d4 d7 hout hRframes hRlocals hRcells hRslots hlk (fun t _ h1 h2 q => ?_) I.2.2.2 hc hs
  refine ⟨⟨ph, hp q, I.1.grow h2⟩, Nat.le_trans I.2.1 h1, fun q h3 h4 => ?_⟩
  rw [h2 q (Nat.lt_of_lt_of_le h3 I.2.1)]
  exact I.2.2.1 q h3 h4
theorem g_make0 {X : String} {names : List String} {ik ic ci : Nat} (j i : Nat) {T0 : u_T} (S : CallFix p m c cc nL s args lw_all own) (hK : g_K Γ s) (I : g_I Γ ph s H locs) (hsize : ls.size = nL) (htr : l.stackTraces = false) (hci : vwCl[ci]? = some (X, T0, 0))
    (hcls : Bundle.fit X = true) (hnames : ∀ n ∈ names, Bundle.fit n = true) (hk : Cond.classLink own ik X ∈ lw_all) (hini : Cond.initialized X ∈ lw_all) (hat : ∀ w ∈ Bundle.ownAtoms0 own ic X names, w.before args s = true) (hgood : ∀ w ∈ Cond.classLink own ik X :: Cond.initialized X :: vx_at0 own ic X names, vx_ot w = true)
    (d0 : decode cc pc = .ok (.new ik, 3)) (d3 : decode cc (pc + 3) = .ok (.dup, 1)) (d4 : decode cc (pc + 4) = .ok (.invokespecial ic, 3))
    (hRframes : names.length + 3 < R.frames) (hRlocals : (rest.map fun v => v.category).sum + (13 * (names.length + 1) + 42) ≤ R.locals) (hRcells : cells + 1 ≤ R.cells) (hRslots : slots + 6 ≤ R.slots)
    (kk : ∀ (q : Nat) (H1 : Heap), (∀ j i : Nat, ph j i q = none) → g_I Γ (gput ph j i q (.inr (ci, []))) s H1 locs → W p l e R s m args below meth c H1 locs (cells + 1) (slots + 6) Q (F0 m (pc + 7) ls (.ref q :: rest))) : W p l e R s m args below meth c H locs cells slots Q (F0 m pc ls rest) := by
  obtain ⟨⟨L, h1, h2, h3⟩, hS⟩ := I
  exact vx_make0 S.1 S.2.1 htr S.2.2.2.1 hcls hnames (S.2.2.2.2 _ hk) (S.2.2.2.2 _ hini) (fun w hw => hat w (List.mem_filter.mp hw).1) hgood hK.2.2.2.2.1.2.1 hK.2.2.2.2.1.2.2 hS (hsize.trans S.2.2.1.symm) d0 d3 d4 hK.1 h2 h3 hK.hA hci hRframes hRlocals hRcells hRslots (fun q H1 hP hD hS => kk q H1 (g_fresh h1 hD) ⟨g_G.push j i h1 hP hD, hS⟩)
/-- an object is thrown -/
theorem g_athrow (S : CallFix p m c cc nL s args lw_all own) (hK : g_K Γ s) (I : g_I Γ ph s H locs) {ci : Nat} {fs : List Value} (ha : g_at Γ ph a (.inr (ci, fs))) {r : vw_C} (hci : vwCl[ci]? = some r) (hdg : decode cc pc = .ok (.athrow, 1))
    (k : ∀ ce : Cell, H[a]? = some ce → ce.vm = .none → s.vm.findClass r.1 = some ce.cls → vx_W p l e R s m args below meth c H locs cells slots Q (F0 m pc ls rest) a) : W p l e R s m args below meth c H locs cells slots Q (F0 m pc ls (.ref a :: rest)) := by
  obtain ⟨ws, q0, hP, he⟩ := I.read hK ha
  obtain ⟨q', h1, cell, g1, g2, g3, -⟩ := hP q0 _ he
  exact vx_athrow S.1 S.2.1 hdg (k cell g1 g3 (by rw [g2]; exact (hK.1.1 ci r hci).2.1))
/-- caught here -/
theorem g_catch (S : CallFix p m c cc nL s args lw_all own) {hh : List (Nat × Nat × Nat × Nat)} (hex : c.exceptionTable.toList = tableOf hh) {name : String} {E : String} {ce : Cell} {q : Nat} (k : Nat) {x : Nat × Nat × Nat × Nat} (hx0 : hh[k]? = some x)
    (hpass : ∀ z ∈ hh.take k, covers ⟨z.1, z.2.1, z.2.2.1, z.2.2.2⟩ pc = false ∨ (z.2.2.2 ≠ 0 ∧ ∃ nm : String, (Cond.classLink own z.2.2.2 nm).before args s = true ∧ va_Nc E nm s)) (hx : covers ⟨x.1, x.2.1, x.2.2.1, x.2.2.2⟩ pc = true) (h0 : x.2.2.2 ≠ 0)
    (hlink : Cond.classLink own x.2.2.2 name ∈ lw_all) (hcast : (Cond.castable E name).before args s = true) (hcell : H[q]? = some ce) (hv : ce.vm = .none) (hcl : s.vm.findClass E = some ce.cls)
    (kk : W p l e R s m args below meth c H locs cells slots Q (F0 m x.2.2.1 ls [.ref q])) : vx_W p l e R s m args below meth c H locs cells slots Q (F0 m pc ls rest) q := by
  have hlt := (List.getElem?_eq_some_iff.mp hx0).1
  have hsp : c.exceptionTable.toList = tableOf (hh.take k) ++ ⟨x.1, x.2.1, x.2.2.1, x.2.2.2⟩ :: tableOf (hh.drop (k + 1)) := by
    rw [hex]
    have e : hh = hh.take k ++ x :: hh.drop (k + 1) := by
      rw [← (List.getElem?_eq_some_iff.mp hx0).2, List.getElem_cons_drop hlt, List.take_append_drop]
    conv => lhs; rw [e]
    unfold tableOf
    rw [List.map_append, List.map_cons]
  refine vx_catch S.2.2.2.1 (tableOf (hh.take k)) ⟨x.1, x.2.1, x.2.2.1, x.2.2.2⟩ (tableOf (hh.drop (k + 1))) hsp (fun z hz => ?_) hx h0 (S.2.2.2.2 _ hlink) hcast hcell hv hcl kk
  unfold tableOf at hz
  obtain ⟨y, hy, rfl⟩ := List.mem_map.mp hz
  exact hpass y hy
theorem g_startH {y : MethodName} {maxL : Nat} {ret : Option FieldType} {hh : List (Nat × Nat × Nat × Nat)} {rm : Room} {av : List Value} {post : Option Value → g_H → Prop} {px : String → Nat → g_H → Prop} (hy : plainName y.cls = true) (hlen : (lg_sl av).length ≤ maxL)
    (body : ∀ (p : Program) (e : Env) (s : State) (m : MethodId) (A : Array Value) (below : List Frame) (meth : Method) (c : Code) (ls : Array Slot) (Q : State → Prop), Q = vx_MQ below (g_Q Γ post) (g_X Γ px) A s rm.cells rm.slots (g_A Γ) → CallFix p m c cc maxL s A lw_all y.cls → meth.sig.returnType = ret → meth.locks = false → c.exceptionTable.toList = tableOf hh → meth.name = y.name → g_K Γ s → g_I Γ ph s s.heap [] → lv_has ls maxL (lv_args 0 av) →
      W p l e rm s m A below meth c s.heap [] 0 0 Q (F0 m 0 ls [])) : g_Met l y (wsW_ y cc maxL ret hh) rm Γ av ph post px := by
  refine vx_ofWH (cc := cc) (maxL := maxL) (ret := ret) (hh := hh) hy rfl ?_
  intro p e s m args below meth c s₁ B hml hv
  obtain ⟨hav, hK, hG⟩ := hv
  have hts0 := atoms_spec (ws := wsW_ y cc maxL ret hh) B.pre
  have hts : ∀ w ∈ lw_all, w.before _ s = true := fun w h => hts0 w (List.mem_cons_of_mem _ h)
  have hl := lv_entry av (n := maxL) hlen
  have hE : entryFrame m args maxL = F0 m 0 ((lg_sl av ++ List.replicate (maxL - (lg_sl av).length) Slot.unset).toArray) [] := by rw [hav, lg_entry_eq]
  rw [hE]
  generalize (lg_sl av ++ List.replicate (maxL - (lg_sl av).length) Slot.unset).toArray = ls at hl ⊢
  exact body p e s m args below meth c ls _ rfl ⟨B.exec, B.bytes, hml, findClass_of_methodNamed B.named, hts⟩ B.returns B.notSynchronized (vx_table (x := y) B (hts0 _ List.mem_cons_self)) (name_of_methodNamed B.named B.method).1 hK ⟨hG, va_S.rf⟩ hl
/-- the default method by the interface -/
theorem g_runFD {rm : Room} {b n index count ci : Nat} {As st0 : List Value} {q : vw_C} {post : Option Value → g_H → Prop} {px : String → Nat → g_H → Prop} (S : CallFix p m c cc nL s args lw_all own) (hK : g_K Γ s) (I : g_I Γ ph s H locs) (hM : g_Met l yX13_upOrDown (ws_ yX13_upOrDown cX13_upOrDown 2 (some .int)) rm Γ (.ref b :: As) ph post px) (hci : vwCl[ci]? = some q) (hC : q.1 ∈ g_pcs) (hl : Cond.methodLink own index g_up ∈ lw_all) (hca : Cond.castable q.1 "CrumblingWall$Place" ∈ lw_tbl)
    (hr : ∃ cell : Cell, H[b]? = some cell ∧ cell.vm.isStatics = false ∧ s.vm.findClass q.1 = some cell.cls) (hR : rm.frames + 1 ≤ R.frames ∧ 8 + (2 + 11) + rm.locals ≤ R.locals)
    (hn : As.length = 1) (hsize : ls.size = nL) (hstack : st0 = As.reverse ++ .ref b :: rest) (hW : (rest.map fun v => v.category).sum ≤ 8) (hdg : decode cc pc = .ok (.invokeinterface index count, 5)) (hf : cells + rm.cells ≤ R.cells ∧ slots + rm.slots ≤ R.slots) :
    vx_Run5 p l e R s m args below meth c H locs cells slots rm.cells rm.slots (F0 m pc ls st0) rest (g_Q Γ post (Value.ref b :: As).toArray) (g_X Γ px) (g_A Γ) := by
  have hD := hK.DF
  have hlen : ∀ sig, parseMethodDescriptor g_up.desc = some sig → 1 = sig.parameters.length := fun sig h => by
    have h2 : (parseMethodDescriptor g_up.desc).map (fun d => d.parameters.length) = some 1 := by decide +kernel
    rw [h] at h2
    exact (Option.some.inj h2).symm
  exact vx_runFD (hK.1.1 ci q hci).2 S hM ⟨rfl, rfl, hR.1, hR.2, pay_in S.2.2.2.2 (lw_meth q1259), List.mem_cons_self⟩ (S.2.2.2.2 _ q170) (S.2.2.2.2 _ hl) (va_any rfl hD.2.2.2.2.2.2) (va_any rfl hD.2.2.2.2.1) (g_ld_vm rfl (hD.2.2.2.1 _ hC)) (S.2.2.2.2 _ q1257) (va_any rfl hD.2.2.2.2.2.1) (va_Nw.use rfl (hK.N hca rfl)) (S.2.2.2.2 _ q1259) (by decide) hlen (g_preV hK I hr) rfl hn hsize hstack (lv_room hW) hdg hf
/-- the default method by a class -/
theorem g_runUD {rm : Room} {b n : Nat} {As st0 : List Value} {C : String} {post : Option Value → g_H → Prop} {px : String → Nat → g_H → Prop} (S : CallFix p m c cc nL s args lw_all "CrumblingWall$Hold") (hK : g_K Γ s) (I : g_I Γ ph s H locs) (hM : g_Met l yX13_upOrDown (ws_ yX13_upOrDown cX13_upOrDown 2 (some .int)) rm Γ (.ref b :: As) ph post px) (hC : C ∈ g_hcs)
    (hr : ∃ cell : Cell, H[b]? = some cell ∧ cell.vm.isStatics = false ∧ s.vm.findClass C = some cell.cls) (hR : rm.frames + 1 ≤ R.frames ∧ 8 + (2 + 11) + rm.locals ≤ R.locals)
    (hn : As.length = 1) (hsize : ls.size = nL) (hstack : st0 = As.reverse ++ .ref b :: rest) (hW : (rest.map fun v => v.category).sum ≤ 8) (hdg : decode cc pc = .ok (.invokevirtual 47, 3)) (hf : cells + rm.cells ≤ R.cells ∧ slots + rm.slots ≤ R.slots) :
    vx_Run p l e R s m args below meth c H locs cells slots rm.cells rm.slots (F0 m pc ls st0) rest (g_Q Γ post (Value.ref b :: As).toArray) (g_X Γ px) (g_A Γ) := by
  have hD := hK.DF
  have hlen : ∀ sig, parseMethodDescriptor g_uh.desc = some sig → 1 = sig.parameters.length := fun sig h => by
    have h2 : (parseMethodDescriptor g_uh.desc).map (fun d => d.parameters.length) = some 1 := by decide +kernel
    rw [h] at h2
    exact (Option.some.inj h2).symm
  exact vx_runUD (x := g_uh) (owner := "CrumblingWall$Place") S hM ⟨rfl, rfl, hR.1, hR.2, pay_in S.2.2.2.2 (lw_meth q1259), List.mem_cons_self⟩ (S.2.2.2.2 _ q170) (va_tabs rfl rfl hD.1) (va_tabs rfl rfl hD.2.1) (va_Decl.of (S.2.2.2.2 _ q1257) (S.2.2.2.2 _ q1259)) (by decide) (g_ld_vm rfl (hD.2.2.1 _ hC)) (S.2.2.2.2 _ q1257) (S.2.2.2.2 _ q1259) hlen (g_preV hK I hr) rfl hn hsize hstack (lv_room hW) hdg hf
theorem at0_IOOBE {A9 : Array Value} (hts : ∀ w ∈ lw_all, w.before A9 s = true) (hK : g_K Γ s) : ∀ w ∈ Bundle.ownAtoms0 "CrumblingWall" 52 "java/lang/IndexOutOfBoundsException" ["java/lang/RuntimeException", "java/lang/Exception"], w.before A9 s = true := by
  have hU := hK.2.2.2.2.1.2.1
  have hN := hK.2.2.2.2.1.2.2
  exact (vx_c (hts _ q131) (vx_c (hts _ q296) (vx_c (hts _ q305) (vx_c (hts _ q317) (vx_c (hts _ q320) (vx_c (hts _ q322) (vx_c (hts _ q297) (vx_c (hts _ q298) (vx_c (hts _ q197) (vx_c (hts _ q198) (vx_c (hts _ q299) (vx_c (hts _ q304) (vx_c (hts _ q318) (vx_c (hts _ q559) (vx_c (hts _ q286) (vx_c (hts _ q560) (vx_c (hts _ q288) (vx_c (hts _ q561) (vx_c (hts _ q290) (vx_c (hts _ q300) (vx_c hU.2.word (vx_c (hts _ q302) (vx_c hN.2.word (vx_c (hts _ q292) (vx_c (hts _ q1820) (vx_c (hts _ q1821) (vx_c (hts _ q1822) (vx_c (hts _ q1172) (vx_c (va_Nw.use rfl (hK.N q277 rfl)) (vx_c (hts _ q1172) (vx_c (hts _ q1173) (vx_c (hts _ q1174) (vx_c (hts _ q1175) (vx_c (va_Nw.use rfl (hK.N q279 rfl)) (vx_c (hts _ q1175) (vx_c (hts _ q1176) (vx_c (hts _ q1177) (vx_c (hts _ q297) (vx_c (va_Nw.use rfl (hK.N q281 rfl)) (vx_c (hts _ q1819) (vx_c (hts _ q821) (vx_c (va_Nw.use rfl (hK.N q822 rfl)) (vx_c (hts _ q823) (vx_c (hts _ q312) (vx_c (hts _ q824) (vx_c (hts _ q825) (vx_c (hts _ q826) (vx_c (hts _ q827) (vx_c (vx_isRefq hU.1) (vx_c (vx_isRefq hN.1) (vx_c (hts _ q295) (vx_c (hts _ q294) (vx_c (hts _ q828) vx_n)))))))))))))))))))))))))))))))))))))))))))))))))))))
theorem ot0_IOOBE : ∀ w ∈ Cond.classLink "CrumblingWall" 50 "java/lang/IndexOutOfBoundsException" :: Cond.initialized "java/lang/IndexOutOfBoundsException" :: vx_at0 "CrumblingWall" 52 "java/lang/IndexOutOfBoundsException" ["java/lang/RuntimeException", "java/lang/Exception"], vx_ot w = true := by decide +kernel
theorem at0_IAE {A9 : Array Value} (hts : ∀ w ∈ lw_all, w.before A9 s = true) (hK : g_K Γ s) : ∀ w ∈ Bundle.ownAtoms0 "CrumblingWall" 55 "java/lang/IllegalArgumentException" ["java/lang/RuntimeException", "java/lang/Exception"], w.before A9 s = true := by
  have hU := hK.2.2.2.2.1.2.1
  have hN := hK.2.2.2.2.1.2.2
  exact (vx_c (hts _ q131) (vx_c (hts _ q296) (vx_c (hts _ q305) (vx_c (hts _ q317) (vx_c (hts _ q320) (vx_c (hts _ q322) (vx_c (hts _ q297) (vx_c (hts _ q298) (vx_c (hts _ q197) (vx_c (hts _ q198) (vx_c (hts _ q299) (vx_c (hts _ q304) (vx_c (hts _ q318) (vx_c (hts _ q559) (vx_c (hts _ q286) (vx_c (hts _ q560) (vx_c (hts _ q288) (vx_c (hts _ q561) (vx_c (hts _ q290) (vx_c (hts _ q300) (vx_c hU.2.word (vx_c (hts _ q302) (vx_c hN.2.word (vx_c (hts _ q292) (vx_c (hts _ q1643) (vx_c (hts _ q1644) (vx_c (hts _ q1645) (vx_c (hts _ q1172) (vx_c (va_Nw.use rfl (hK.N q277 rfl)) (vx_c (hts _ q1172) (vx_c (hts _ q1173) (vx_c (hts _ q1174) (vx_c (hts _ q1175) (vx_c (va_Nw.use rfl (hK.N q279 rfl)) (vx_c (hts _ q1175) (vx_c (hts _ q1176) (vx_c (hts _ q1177) (vx_c (hts _ q297) (vx_c (va_Nw.use rfl (hK.N q281 rfl)) (vx_c (hts _ q1642) (vx_c (hts _ q275) (vx_c (va_Nw.use rfl (hK.N q276 rfl)) (vx_c (hts _ q283) (vx_c (hts _ q284) (vx_c (hts _ q285) (vx_c (hts _ q287) (vx_c (hts _ q289) (vx_c (hts _ q291) (vx_c (vx_isRefq hU.1) (vx_c (vx_isRefq hN.1) (vx_c (hts _ q295) (vx_c (hts _ q294) (vx_c (hts _ q293) vx_n)))))))))))))))))))))))))))))))))))))))))))))))))))))
theorem ot0_IAE : ∀ w ∈ Cond.classLink "CrumblingWall" 53 "java/lang/IllegalArgumentException" :: Cond.initialized "java/lang/IllegalArgumentException" :: vx_at0 "CrumblingWall" 55 "java/lang/IllegalArgumentException" ["java/lang/RuntimeException", "java/lang/Exception"], vx_ot w = true := by decide +kernel
theorem at0_ISE {A9 : Array Value} (hts : ∀ w ∈ lw_all, w.before A9 s = true) (hK : g_K Γ s) : ∀ w ∈ Bundle.ownAtoms0 "CrumblingWall" 58 "java/lang/IllegalStateException" ["java/lang/RuntimeException", "java/lang/Exception"], w.before A9 s = true := by
  have hU := hK.2.2.2.2.1.2.1
  have hN := hK.2.2.2.2.1.2.2
  exact (vx_c (hts _ q131) (vx_c (hts _ q296) (vx_c (hts _ q305) (vx_c (hts _ q317) (vx_c (hts _ q320) (vx_c (hts _ q322) (vx_c (hts _ q297) (vx_c (hts _ q298) (vx_c (hts _ q197) (vx_c (hts _ q198) (vx_c (hts _ q299) (vx_c (hts _ q304) (vx_c (hts _ q318) (vx_c (hts _ q559) (vx_c (hts _ q286) (vx_c (hts _ q560) (vx_c (hts _ q288) (vx_c (hts _ q561) (vx_c (hts _ q290) (vx_c (hts _ q300) (vx_c hU.2.word (vx_c (hts _ q302) (vx_c hN.2.word (vx_c (hts _ q292) (vx_c (hts _ q1659) (vx_c (hts _ q1660) (vx_c (hts _ q1661) (vx_c (hts _ q1172) (vx_c (va_Nw.use rfl (hK.N q277 rfl)) (vx_c (hts _ q1172) (vx_c (hts _ q1173) (vx_c (hts _ q1174) (vx_c (hts _ q1175) (vx_c (va_Nw.use rfl (hK.N q279 rfl)) (vx_c (hts _ q1175) (vx_c (hts _ q1176) (vx_c (hts _ q1177) (vx_c (hts _ q297) (vx_c (va_Nw.use rfl (hK.N q281 rfl)) (vx_c (hts _ q1658) (vx_c (hts _ q1650) (vx_c (va_Nw.use rfl (hK.N q1651 rfl)) (vx_c (hts _ q1652) (vx_c (hts _ q311) (vx_c (hts _ q1653) (vx_c (hts _ q1654) (vx_c (hts _ q1655) (vx_c (hts _ q1656) (vx_c (vx_isRefq hU.1) (vx_c (vx_isRefq hN.1) (vx_c (hts _ q295) (vx_c (hts _ q294) (vx_c (hts _ q1657) vx_n)))))))))))))))))))))))))))))))))))))))))))))))))))))
theorem ot0_ISE : ∀ w ∈ Cond.classLink "CrumblingWall" 56 "java/lang/IllegalStateException" :: Cond.initialized "java/lang/IllegalStateException" :: vx_at0 "CrumblingWall" 58 "java/lang/IllegalStateException" ["java/lang/RuntimeException", "java/lang/Exception"], vx_ot w = true := by decide +kernel
theorem at0_NSEE {A9 : Array Value} (hts : ∀ w ∈ lw_all, w.before A9 s = true) (hK : g_K Γ s) : ∀ w ∈ Bundle.ownAtoms0 "CrumblingWall" 61 "java/util/NoSuchElementException" ["java/lang/RuntimeException", "java/lang/Exception"], w.before A9 s = true := by
  have hU := hK.2.2.2.2.1.2.1
  have hN := hK.2.2.2.2.1.2.2
  exact (vx_c (hts _ q131) (vx_c (hts _ q296) (vx_c (hts _ q305) (vx_c (hts _ q317) (vx_c (hts _ q320) (vx_c (hts _ q322) (vx_c (hts _ q297) (vx_c (hts _ q298) (vx_c (hts _ q197) (vx_c (hts _ q198) (vx_c (hts _ q299) (vx_c (hts _ q304) (vx_c (hts _ q318) (vx_c (hts _ q559) (vx_c (hts _ q286) (vx_c (hts _ q560) (vx_c (hts _ q288) (vx_c (hts _ q561) (vx_c (hts _ q290) (vx_c (hts _ q300) (vx_c hU.2.word (vx_c (hts _ q302) (vx_c hN.2.word (vx_c (hts _ q292) (vx_c (hts _ q1169) (vx_c (hts _ q1170) (vx_c (hts _ q1171) (vx_c (hts _ q1172) (vx_c (va_Nw.use rfl (hK.N q277 rfl)) (vx_c (hts _ q1172) (vx_c (hts _ q1173) (vx_c (hts _ q1174) (vx_c (hts _ q1175) (vx_c (va_Nw.use rfl (hK.N q279 rfl)) (vx_c (hts _ q1175) (vx_c (hts _ q1176) (vx_c (hts _ q1177) (vx_c (hts _ q297) (vx_c (va_Nw.use rfl (hK.N q281 rfl)) (vx_c (hts _ q2217) (vx_c (hts _ q1039) (vx_c (va_Nw.use rfl (hK.N q1040 rfl)) (vx_c (hts _ q1041) (vx_c (hts _ q316) (vx_c (hts _ q1042) (vx_c (hts _ q1043) (vx_c (hts _ q1044) (vx_c (hts _ q1045) (vx_c (vx_isRefq hU.1) (vx_c (vx_isRefq hN.1) (vx_c (hts _ q295) (vx_c (hts _ q294) (vx_c (hts _ q1046) vx_n)))))))))))))))))))))))))))))))))))))))))))))))))))))
theorem ot0_NSEE : ∀ w ∈ Cond.classLink "CrumblingWall" 59 "java/util/NoSuchElementException" :: Cond.initialized "java/util/NoSuchElementException" :: vx_at0 "CrumblingWall" 61 "java/util/NoSuchElementException" ["java/lang/RuntimeException", "java/lang/Exception"], vx_ot w = true := by decide +kernel
theorem at0_UOE {A9 : Array Value} (hts : ∀ w ∈ lw_all, w.before A9 s = true) (hK : g_K Γ s) : ∀ w ∈ Bundle.ownAtoms0 "CrumblingWall" 74 "java/lang/UnsupportedOperationException" ["java/lang/RuntimeException", "java/lang/Exception"], w.before A9 s = true := by
  have hU := hK.2.2.2.2.1.2.1
  have hN := hK.2.2.2.2.1.2.2
  exact (vx_c (hts _ q131) (vx_c (hts _ q296) (vx_c (hts _ q305) (vx_c (hts _ q317) (vx_c (hts _ q320) (vx_c (hts _ q322) (vx_c (hts _ q297) (vx_c (hts _ q298) (vx_c (hts _ q197) (vx_c (hts _ q198) (vx_c (hts _ q299) (vx_c (hts _ q304) (vx_c (hts _ q318) (vx_c (hts _ q559) (vx_c (hts _ q286) (vx_c (hts _ q560) (vx_c (hts _ q288) (vx_c (hts _ q561) (vx_c (hts _ q290) (vx_c (hts _ q300) (vx_c hU.2.word (vx_c (hts _ q302) (vx_c hN.2.word (vx_c (hts _ q292) (vx_c (hts _ q1712) (vx_c (hts _ q1713) (vx_c (hts _ q1714) (vx_c (hts _ q1172) (vx_c (va_Nw.use rfl (hK.N q277 rfl)) (vx_c (hts _ q1172) (vx_c (hts _ q1173) (vx_c (hts _ q1174) (vx_c (hts _ q1175) (vx_c (va_Nw.use rfl (hK.N q279 rfl)) (vx_c (hts _ q1175) (vx_c (hts _ q1176) (vx_c (hts _ q1177) (vx_c (hts _ q297) (vx_c (va_Nw.use rfl (hK.N q281 rfl)) (vx_c (hts _ q1711) (vx_c (hts _ q1703) (vx_c (va_Nw.use rfl (hK.N q1704 rfl)) (vx_c (hts _ q1705) (vx_c (hts _ q314) (vx_c (hts _ q1706) (vx_c (hts _ q1707) (vx_c (hts _ q1708) (vx_c (hts _ q1709) (vx_c (vx_isRefq hU.1) (vx_c (vx_isRefq hN.1) (vx_c (hts _ q295) (vx_c (hts _ q294) (vx_c (hts _ q1710) vx_n)))))))))))))))))))))))))))))))))))))))))))))))))))))
theorem ot0_UOE : ∀ w ∈ Cond.classLink "CrumblingWall" 72 "java/lang/UnsupportedOperationException" :: Cond.initialized "java/lang/UnsupportedOperationException" :: vx_at0 "CrumblingWall" 74 "java/lang/UnsupportedOperationException" ["java/lang/RuntimeException", "java/lang/Exception"], vx_ot w = true := by decide +kernel
end R4

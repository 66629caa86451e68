/-! ROWS over the ghost heap: new arrays, stores of references, casts, calls, ends, throws -/
set_option maxRecDepth 100000
theorem g_RA_eq {s : State} {cA cB : ClassId} {ty : FieldType} (h1 : va_RA s cA ty) (h2 : va_RA s cB ty) : cA = cB := by
  cases ty with
  | object C =>
    obtain ⟨_, _, -, -, -, h3⟩ := h1
    obtain ⟨_, _, -, -, -, h4⟩ := h2
    exact Option.some.inj (h3.symm.trans h4)
  | _ => exact Option.some.inj (h1.symm.trans h2)
theorem g_lastK {D : va_G} {cl : List vw_C} {tys : List (ClassId × FieldType)} {cA : ClassId} {ty : FieldType} {s : State} (h : va_K D cl (tys ++ [(cA, ty)]) s) : va_RA s cA ty := (h.2 tys.length (cA, ty) (by simp)).2
section GB
variable {p : Program} {l : Launch} {e : Env} {R : Room} {s : State} {m : MethodId} {args : Array Value} {below : List Frame} {meth : Method} {c : Code} {H : Heap} {locs : List Loc} {cells slots : Nat} {Q : State → Prop}
variable {cc : ByteArray} {pc : Nat} {ls : Array Slot} {rest st0 : List Value} {Γ : g_C} {ph : g_H} {a nL : Nat} {own : String}
theorem g_newa (S : CallFix p m c cc nL s args lw_all own) (hK : g_K Γ s) (I : g_I Γ ph s H locs) (j i t0 : Nat) {atype : ArrayType} {ty : FieldType} (harr : Cond.arrayClass (newarray.typeOf atype) ∈ lw_all) (hty : newarray.typeOf atype = ty) (ht : (g_ty Γ)[t0]? = some (g_t Γ t0, ty)) {n : Int32} {N' : Nat} {a0 : vp_A} (ha : ∀ cA : ClassId, vp_cell cA a0 = arrV cA N' (fun _ => defaultValue ty)) (hn : ¬ n < 0) (hN : n.toNatClampNeg = N') (hbytes : N' * componentBytes ty ≤ 536870912) (hcells : cells + 1 ≤ R.cells) (hslots : slots + N' ≤ R.slots) (hdg : decode cc pc = .ok (.newarray atype, 2))
    (kk : ∀ (q : Nat) (H1 : Heap), (∀ j i : Nat, ph j i q = none) → g_I Γ (gput ph j i q (.inl (g_t Γ t0, a0))) s H1 locs → W p l e R s m args below meth c H1 locs (cells + 1) (slots + N') Q (F0 m (pc + 2) ls (.ref q :: rest))) : W p l e R s m args below meth c H locs cells slots Q (F0 m pc ls (.int n :: rest)) := by
  obtain ⟨⟨L, h1, h2, h3⟩, hS⟩ := I
  refine va_newa S.1 S.2.1 (S.2.2.2.2 _ harr) hty hK.1 h2 h3 hS hK.hA ha hn hN hbytes hcells hslots hdg (fun q cA H1 hK1 hP hD hS => ?_)
  have e1 : cA = g_t Γ t0 := g_RA_eq (g_lastK hK1) (hK.1.2 t0 _ ht).2
  subst e1
  exact kk q H1 (g_fresh h1 hD) ⟨g_G.push j i h1 hP hD, hS⟩
theorem g_newq (S : CallFix p m c cc nL s args lw_all own) (hK : g_K Γ s) (I : g_I Γ ph s H locs) (j i t0 ko : Nat) {C : String} (hko : g_aos[ko]? = some C) (ht : (g_ty Γ)[t0]? = some (g_t Γ t0, .object C)) {index : Nat} (hl : Cond.classLink own index C ∈ lw_all) {n : Int32} {N' : Nat} (hn : ¬ n < 0) (hN : n.toNatClampNeg = N') (hbytes : N' * 4 ≤ 536870912) (hcells : cells + 1 ≤ R.cells) (hslots : slots + N' ≤ R.slots) (hdg : decode cc pc = .ok (.anewarray index, 3))
    (kk : ∀ (q : Nat) (H1 : Heap), (∀ j i : Nat, ph j i q = none) → g_I Γ (gput ph j i q (.inl (g_t Γ t0, N', .inr (.inr (.inr (.inr (fun _ => none))))))) s H1 locs → W p l e R s m args below meth c H1 locs (cells + 1) (slots + N') Q (F0 m (pc + 3) ls (.ref q :: rest))) : W p l e R s m args below meth c H locs cells slots Q (F0 m pc ls (.int n :: rest)) := by
  obtain ⟨⟨L, h1, h2, h3⟩, hS⟩ := I
  refine va_newq S.1 S.2.1 S.2.2.2.1 (S.2.2.2.2 _ hl) (hK.AO ko hko) hK.1 h2 h3 hS hK.hA hn hN hbytes hcells hslots hdg (fun q cA H1 hK1 hP hD hS => ?_)
  have e1 : cA = g_t Γ t0 := g_RA_eq (g_lastK hK1) (hK.1.2 t0 _ ht).2
  subst e1
  exact kk q H1 (g_fresh h1 hD) ⟨g_G.push j i h1 hP hD, hS⟩
/-- the class of what lies at a ghost cell -/
theorem g_recv (hK : g_K Γ s) (I : g_I Γ ph s H locs) {ci : Nat} {fs : List Value} (ha : g_at Γ ph a (.inr (ci, fs))) {q : vw_C} (hc : vwCl[ci]? = some q) : ∃ cell : Cell, H[a]? = some cell ∧ cell.vm.isStatics = false ∧ s.vm.findClass q.1 = some cell.cls := by
  obtain ⟨ws, q0, hP, he⟩ := I.read hK ha
  exact va_recv hK.1 hP hc he
/-- a small Integer -/
theorem g_recvI (hK : g_K Γ s) (I : g_I Γ ph s H locs) {k : Nat} (hk : k < 256) : ∃ cell : Cell, H[g_c Γ k]? = some cell ∧ cell.vm.isStatics = false ∧ s.vm.findClass "java/lang/Integer" = some cell.cls := by
  obtain ⟨cell, h1, h2, h3, -⟩ := (hK.2.2.2.2.2.2.1.1 k hk).kept I.2.2.1
  exact ⟨cell, h1, h2, h3⟩
theorem g_aast (S : CallFix p m c cc nL s args lw_all own) (hK : g_K Γ s) (I : g_I Γ ph s H locs) (t0 : Nat) {E C : String} {j i n v : Nat} {f : Nat → Option Nat} (ht : (g_ty Γ)[t0]? = some (g_t Γ t0, .object E)) (ha : ph j i a = some (.inl (g_t Γ t0, n, .inr (.inr (.inr (.inr f)))))) (hr : ∃ cellV : Cell, H[v]? = some cellV ∧ cellV.vm.isStatics = false ∧ s.vm.findClass C = some cellV.cls) (hca : Cond.castable C E ∈ lw_tbl) {k : Int32} (hin : vp_in k n) (hdg : decode cc pc = .ok (.aastore, 1))
    (kk : ∀ (H1 : Heap) (locs1 : List Loc), g_I Γ (gput ph j i a (.inl (g_t Γ t0, n, .inr (.inr (.inr (.inr (va_up f k.toNatClampNeg (some v)))))))) s H1 locs1 → W p l e R s m args below meth c H1 locs1 cells slots Q (F0 m (pc + 1) ls rest)) : W p l e R s m args below meth c H locs cells slots Q (F0 m pc ls (.ref v :: .int k :: .ref a :: rest)) := by
  obtain ⟨⟨L, h1, h2, h3⟩, hS⟩ := I
  obtain ⟨q0, hq⟩ := h1 _ _ _ _ ha
  exact vb_astq S.1 S.2.1 hK.1 h2 h3 hS q0 t0 (g_in.snd hq) ht hr (vb_asgC (hK.N hca rfl)) hin hdg (fun H1 locs1 hP hD hS => kk H1 locs1 ⟨g_G.set h1 h3 hq hP hD, hS⟩)
theorem g_aastS (S : CallFix p m c cc nL s args lw_all own) (hK : g_K Γ s) (I : g_I Γ ph s H locs) (t0 : Nat) {C : String} {j i n v : Nat} {f : Nat → Option Nat} (ht : (g_ty Γ)[t0]? = some (g_t Γ t0, .object C)) (ha : ph j i a = some (.inl (g_t Γ t0, n, .inr (.inr (.inr (.inr f)))))) (hr : ∃ cellV : Cell, H[v]? = some cellV ∧ cellV.vm.isStatics = false ∧ s.vm.findClass C = some cellV.cls) {k : Int32} (hin : vp_in k n) (hdg : decode cc pc = .ok (.aastore, 1))
    (kk : ∀ (H1 : Heap) (locs1 : List Loc), g_I Γ (gput ph j i a (.inl (g_t Γ t0, n, .inr (.inr (.inr (.inr (va_up f k.toNatClampNeg (some v)))))))) s H1 locs1 → W p l e R s m args below meth c H1 locs1 cells slots Q (F0 m (pc + 1) ls rest)) : W p l e R s m args below meth c H locs cells slots Q (F0 m pc ls (.ref v :: .int k :: .ref a :: rest)) := by
  obtain ⟨⟨L, h1, h2, h3⟩, hS⟩ := I
  obtain ⟨q0, hq⟩ := h1 _ _ _ _ ha
  exact vb_astq S.1 S.2.1 hK.1 h2 h3 hS q0 t0 (g_in.snd hq) ht hr vb_asgS hin hdg (fun H1 locs1 hP hD hS => kk H1 locs1 ⟨g_G.set h1 h3 hq hP hD, hS⟩)
theorem g_aastN (S : CallFix p m c cc nL s args lw_all own) (hK : g_K Γ s) (I : g_I Γ ph s H locs) (t0 : Nat) {C : String} {j i n : Nat} {f : Nat → Option Nat} (ht : (g_ty Γ)[t0]? = some (g_t Γ t0, .object C)) (ha : ph j i a = some (.inl (g_t Γ t0, n, .inr (.inr (.inr (.inr f)))))) {k : Int32} (hin : vp_in k n) (hdg : decode cc pc = .ok (.aastore, 1))
    (kk : ∀ (H1 : Heap) (locs1 : List Loc), g_I Γ (gput ph j i a (.inl (g_t Γ t0, n, .inr (.inr (.inr (.inr (va_up f k.toNatClampNeg none))))))) s H1 locs1 → W p l e R s m args below meth c H1 locs1 cells slots Q (F0 m (pc + 1) ls rest)) : W p l e R s m args below meth c H locs cells slots Q (F0 m pc ls (.null :: .int k :: .ref a :: rest)) := by
  obtain ⟨⟨L, h1, h2, h3⟩, hS⟩ := I
  obtain ⟨q0, hq⟩ := h1 _ _ _ _ ha
  exact va_astqN S.1 S.2.1 hK.1 h2 h3 hS q0 t0 (g_in.snd hq) ht hin hdg (fun H1 locs1 hP hD hS => kk H1 locs1 ⟨g_G.set h1 h3 hq hP hD, hS⟩)
/-! casts -/
theorem g_cast_ (S : CallFix p m c cc nL s args lw_all own) (hK : g_K Γ s) {C nm : String} {index : Nat} (hl : Cond.classLink own index nm ∈ lw_all) (hca : Cond.castable C nm ∈ lw_tbl) (hr : ∃ cell : Cell, H[a]? = some cell ∧ cell.vm.isStatics = false ∧ s.vm.findClass C = some cell.cls) (hdg : decode cc pc = .ok (.checkcast index, 3))
    (kk : W p l e R s m args below meth c H locs cells slots Q (F0 m (pc + 3) ls (.ref a :: rest))) : W p l e R s m args below meth c H locs cells slots Q (F0 m pc ls (.ref a :: rest)) :=
  va_castY S.1 S.2.1 S.2.2.2.1 (S.2.2.2.2 _ hl) (hK.N hca rfl) hr hdg kk
theorem g_inst (S : CallFix p m c cc nL s args lw_all own) (hK : g_K Γ s) {C nm : String} {index : Nat} (hl : Cond.classLink own index nm ∈ lw_all) (hca : Cond.castable C nm ∈ lw_tbl) (hr : ∃ cell : Cell, H[a]? = some cell ∧ cell.vm.isStatics = false ∧ s.vm.findClass C = some cell.cls) (hdg : decode cc pc = .ok (.instanceof index, 3))
    (kk : W p l e R s m args below meth c H locs cells slots Q (F0 m (pc + 3) ls (.int 1 :: rest))) : W p l e R s m args below meth c H locs cells slots Q (F0 m pc ls (.ref a :: rest)) :=
  va_instY S.1 S.2.1 S.2.2.2.1 (S.2.2.2.2 _ hl) (hK.N hca rfl) hr hdg kk
theorem g_castS (S : CallFix p m c cc nL s args lw_all own) (hK : g_K Γ s) {ci : Nat} {q : vw_C} {index : Nat} (hc : vwCl[ci]? = some q) (hl : Cond.classLink own index q.1 ∈ lw_all) (hr : ∃ cell : Cell, H[a]? = some cell ∧ cell.vm.isStatics = false ∧ s.vm.findClass q.1 = some cell.cls) (hdg : decode cc pc = .ok (.checkcast index, 3))
    (kk : W p l e R s m args below meth c H locs cells slots Q (F0 m (pc + 3) ls (.ref a :: rest))) : W p l e R s m args below meth c H locs cells slots Q (F0 m pc ls (.ref a :: rest)) :=
  va_castS S.1 S.2.1 S.2.2.2.1 (S.2.2.2.2 _ hl) (hK.1.1 ci q hc).2 hr hdg kk
/-! calls: the run -/
variable {y : MethodName} {bytes : ByteArray} {maxL n index : Nat} {ret : Option FieldType} {ws : List Cond} {rm : Room} {b : Nat} {As : List Value} {C : String} {post : Option Value → g_H → Prop} {px : String → Nat → g_H → Prop}
theorem g_preS (hK : g_K Γ s) (I : g_I Γ ph s H locs) : PreS s H (va_Pc As (g_P Γ ph)) As := ⟨g_blind, fun U hU hW => ⟨rfl, hK.call hW I.2 hU, by rw [hU]; exact I.1⟩⟩
theorem g_preV (hK : g_K Γ s) (I : g_I Γ ph s H locs) (hr : ∃ cell : Cell, H[b]? = some cell ∧ cell.vm.isStatics = false ∧ s.vm.findClass C = some cell.cls) : PreV s H C b (va_Pc (.ref b :: As) (g_P Γ ph)) As := ⟨g_blind, hr, fun U hU hW => ⟨rfl, hK.call hW I.2 hU, by rw [hU]; exact I.1⟩⟩
theorem g_runV (S : CallFix p m c cc nL s args lw_all own) (hK : g_K Γ s) (I : g_I Γ ph s H locs) (hM : g_Met l y ws rm Γ (.ref b :: As) ph post px) (cw : CallW R s args own C index y bytes maxL ret ws rm rm.cells rm.slots n) (hr : ∃ cell : Cell, H[b]? = some cell ∧ cell.vm.isStatics = false ∧ s.vm.findClass C = some cell.cls)
    (hn : As.length = n) (hsize : ls.size = nL) (hstack : st0 = As.reverse ++ .ref b :: rest) (hW : (rest.map fun v => v.category).sum ≤ 8) (hdg : decode cc pc = .ok (.invokevirtual index, 3)) (hf : cells + rm.cells ≤ R.cells ∧ slots + rm.slots ≤ R.slots) :
    vx_Run p l e R s m args below meth c H locs cells slots rm.cells rm.slots (F0 m pc ls st0) rest (g_Q Γ post (Value.ref b :: As).toArray) (g_X Γ px) (g_A Γ) :=
  vx_runV S hM cw (g_preV hK I hr) rfl hn hsize hstack (lv_room hW) hdg hf
theorem g_runS (S : CallFix p m c cc nL s args lw_all own) (hK : g_K Γ s) (I : g_I Γ ph s H locs) (hM : g_Met l y ws rm Γ As ph post px) (cw : CallB R s args own index y bytes maxL ret ws rm rm.cells rm.slots n ∧ (Cond.static y).before args s = true)
    (hn : As.length = n) (hsize : ls.size = nL) (hstack : st0 = As.reverse ++ rest) (hW : (rest.map fun v => v.category).sum ≤ 8) (hdg : decode cc pc = .ok (.invokestatic index, 3)) (hf : cells + rm.cells ≤ R.cells ∧ slots + rm.slots ≤ R.slots) :
    vx_Run p l e R s m args below meth c H locs cells slots rm.cells rm.slots (F0 m pc ls st0) rest (g_Q Γ post As.toArray) (g_X Γ px) (g_A Γ) :=
  vx_runS S hM cw (g_preS hK I) rfl hn hsize hstack (lv_room hW) hdg hf
theorem g_runI (S : CallFix p m c cc nL s args lw_all own) (hK : g_K Γ s) (I : g_I Γ ph s H locs) (hM : g_Met l y ws rm Γ (.ref b :: As) ph post px) (cw : CallB R s args own index y bytes maxL none ws rm rm.cells rm.slots n ∧ y.name = "<init>" ∧ (Cond.instanceMethod y).before args s = true)
    (hn : As.length = n) (hsize : ls.size = nL) (hstack : st0 = As.reverse ++ .ref b :: rest) (hW : (rest.map fun v => v.category).sum ≤ 8) (hdg : decode cc pc = .ok (.invokespecial index, 3)) (hf : cells + rm.cells ≤ R.cells ∧ slots + rm.slots ≤ R.slots) :
    vx_Run p l e R s m args below meth c H locs cells slots rm.cells rm.slots (F0 m pc ls st0) rest (g_Q Γ post (Value.ref b :: As).toArray) (g_X Γ px) (g_A Γ) :=
  vx_runI S hM cw (g_preS hK I) rfl hn hsize hstack (lv_room hW) hdg hf
theorem g_runU {x : MethodName} {owner : String} (S : CallFix p m c cc nL s args lw_all own) (hK : g_K Γ s) (I : g_I Γ ph s H locs) (hM : g_Met l y ws rm Γ (.ref b :: As) ph post px) (cw : va_CU R s args own C owner index x y bytes maxL ret ws rm rm.cells rm.slots n) (hr : ∃ cell : Cell, H[b]? = some cell ∧ cell.vm.isStatics = false ∧ s.vm.findClass C = some cell.cls)
    (hn : As.length = n) (hsize : ls.size = nL) (hstack : st0 = As.reverse ++ .ref b :: rest) (hW : (rest.map fun v => v.category).sum ≤ 8) (hdg : decode cc pc = .ok (.invokevirtual index, 3)) (hf : cells + rm.cells ≤ R.cells ∧ slots + rm.slots ≤ R.slots) :
    vx_Run p l e R s m args below meth c H locs cells slots rm.cells rm.slots (F0 m pc ls st0) rest (g_Q Γ post (Value.ref b :: As).toArray) (g_X Γ px) (g_A Γ) :=
  vx_runU S hM cw (g_preV hK I hr) rfl hn hsize hstack (lv_room hW) hdg hf
theorem g_runVN {host : String} (S : CallFix p m c cc nL s args lw_all own) (hK : g_K Γ s) (I : g_I Γ ph s H locs) (hM : g_Met l y ws rm Γ (.ref b :: As) ph post px) (cw : va_CN R s args own index y host bytes maxL ret ws rm rm.cells rm.slots n ∧ (Cond.instanceMethod y).before args s = true ∧ (Cond.selects C y y).before args s = true) (hr : ∃ cell : Cell, H[b]? = some cell ∧ cell.vm.isStatics = false ∧ s.vm.findClass C = some cell.cls)
    (hn : As.length = n) (hsize : ls.size = nL) (hstack : st0 = As.reverse ++ .ref b :: rest) (hW : (rest.map fun v => v.category).sum ≤ 8) (hdg : decode cc pc = .ok (.invokevirtual index, 3)) (hf : cells + rm.cells ≤ R.cells ∧ slots + rm.slots ≤ R.slots) :
    vx_Run p l e R s m args below meth c H locs cells slots rm.cells rm.slots (F0 m pc ls st0) rest (g_Q Γ post (Value.ref b :: As).toArray) (g_X Γ px) (g_A Γ) :=
  vx_runVN S hM cw (g_preV hK I hr) rfl hn hsize hstack (lv_room hW) hdg hf
theorem g_runSN {host : String} (S : CallFix p m c cc nL s args lw_all own) (hK : g_K Γ s) (I : g_I Γ ph s H locs) (hM : g_Met l y ws rm Γ As ph post px) (cw : va_CN R s args own index y host bytes maxL ret ws rm rm.cells rm.slots n ∧ (Cond.static y).before args s = true ∧ True)
    (hn : As.length = n) (hsize : ls.size = nL) (hstack : st0 = As.reverse ++ rest) (hW : (rest.map fun v => v.category).sum ≤ 8) (hdg : decode cc pc = .ok (.invokestatic index, 3)) (hf : cells + rm.cells ≤ R.cells ∧ slots + rm.slots ≤ R.slots) :
    vx_Run p l e R s m args below meth c H locs cells slots rm.cells rm.slots (F0 m pc ls st0) rest (g_Q Γ post As.toArray) (g_X Γ px) (g_A Γ) :=
  vx_runSN S hM cw (g_preS hK I) rfl hn hsize hstack (lv_room hW) hdg hf
theorem g_runIN {host : String} (S : CallFix p m c cc nL s args lw_all own) (hK : g_K Γ s) (I : g_I Γ ph s H locs) (hM : g_Met l y ws rm Γ (.ref b :: As) ph post px) (cw : va_CN R s args own index y host bytes maxL none ws rm rm.cells rm.slots n ∧ y.name = "<init>" ∧ (Cond.instanceMethod y).before args s = true)
    (hn : As.length = n) (hsize : ls.size = nL) (hstack : st0 = As.reverse ++ .ref b :: rest) (hW : (rest.map fun v => v.category).sum ≤ 8) (hdg : decode cc pc = .ok (.invokespecial index, 3)) (hf : cells + rm.cells ≤ R.cells ∧ slots + rm.slots ≤ R.slots) :
    vx_Run p l e R s m args below meth c H locs cells slots rm.cells rm.slots (F0 m pc ls st0) rest (g_Q Γ post (Value.ref b :: As).toArray) (g_X Γ px) (g_A Γ) :=
  vx_runIN S hM cw (g_preS hK I) rfl hn hsize hstack (lv_room hW) hdg hf
theorem g_runF {x : MethodName} {count ci : Nat} {q : vw_C} (S : CallFix p m c cc nL s args lw_all own) (hK : g_K Γ s) (I : g_I Γ ph s H locs) (hM : g_Met l y ws rm Γ (.ref b :: As) ph post px) (hc : vwCl[ci]? = some q) (cw : va_CI R s args own q.1 index x y bytes maxL ret ws rm rm.cells rm.slots n) (hr : ∃ cell : Cell, H[b]? = some cell ∧ cell.vm.isStatics = false ∧ s.vm.findClass q.1 = some cell.cls)
    (hn : As.length = n) (hsize : ls.size = nL) (hstack : st0 = As.reverse ++ .ref b :: rest) (hW : (rest.map fun v => v.category).sum ≤ 8) (hdg : decode cc pc = .ok (.invokeinterface index count, 5)) (hf : cells + rm.cells ≤ R.cells ∧ slots + rm.slots ≤ R.slots) :
    vx_Run5 p l e R s m args below meth c H locs cells slots rm.cells rm.slots (F0 m pc ls st0) rest (g_Q Γ post (Value.ref b :: As).toArray) (g_X Γ px) (g_A Γ) :=
  vx_runF (hK.1.1 ci q hc).2 S hM cw (g_preV hK I hr) rfl hn hsize hstack (lv_room hW) hdg hf
theorem g_runVX {hh : List (Nat × Nat × Nat × Nat)} (S : CallFix p m c cc nL s args lw_all own) (hK : g_K Γ s) (I : g_I Γ ph s H locs) (hM : g_Met l y ws rm Γ (.ref b :: As) ph post px) (cw : vx_CVW R s args own C index y bytes maxL ret hh ws rm rm.cells rm.slots n) (hr : ∃ cell : Cell, H[b]? = some cell ∧ cell.vm.isStatics = false ∧ s.vm.findClass C = some cell.cls)
    (hn : As.length = n) (hsize : ls.size = nL) (hstack : st0 = As.reverse ++ .ref b :: rest) (hW : (rest.map fun v => v.category).sum ≤ 8) (hdg : decode cc pc = .ok (.invokevirtual index, 3)) (hf : cells + rm.cells ≤ R.cells ∧ slots + rm.slots ≤ R.slots) :
    vx_Run p l e R s m args below meth c H locs cells slots rm.cells rm.slots (F0 m pc ls st0) rest (g_Q Γ post (Value.ref b :: As).toArray) (g_X Γ px) (g_A Γ) :=
  vx_runVX S hM cw (g_preV hK I hr) rfl hn hsize hstack (lv_room hW) hdg hf
theorem g_runSX {hh : List (Nat × Nat × Nat × Nat)} (S : CallFix p m c cc nL s args lw_all own) (hK : g_K Γ s) (I : g_I Γ ph s H locs) (hM : g_Met l y ws rm Γ As ph post px) (cw : vx_CSW R s args own index y bytes maxL ret hh ws rm rm.cells rm.slots n)
    (hn : As.length = n) (hsize : ls.size = nL) (hstack : st0 = As.reverse ++ rest) (hW : (rest.map fun v => v.category).sum ≤ 8) (hdg : decode cc pc = .ok (.invokestatic index, 3)) (hf : cells + rm.cells ≤ R.cells ∧ slots + rm.slots ≤ R.slots) :
    vx_Run p l e R s m args below meth c H locs cells slots rm.cells rm.slots (F0 m pc ls st0) rest (g_Q Γ post As.toArray) (g_X Γ px) (g_A Γ) :=
  vx_runSX S hM cw (g_preS hK I) rfl hn hsize hstack (lv_room hW) hdg hf
/-! calls: what comes behind -/
theorem g_S2 {H1 : Heap} {st t T' : State} {L : List Loc} (h0 : st.heap = H) (e1 : T'.heap = t.heap) (hS : va_S (g_A Γ) s.heap H locs) (hL : ∀ q ∈ L, g_A Γ q.base) (hF : va_F (g_A Γ) st t) : va_S (g_A Γ) s.heap T'.heap (locs ++ L) := (vx_keep h0 e1 hS (fun _ _ h => h) (fun _ h => h) hL hF).2.2
theorem g_call {a9 : Array Value} {mc ms k3 : Nat}
    (hr : ∀ T : State, T.heap = H → Stand p l e R s m args below meth c T locs cells slots →
      (∃ (v : Option Value) (st₀ t T' : State) (L : List Loc), st₀.heap = H ∧ Stand p l e R s m args below meth c T' (locs ++ L) (cells + mc) (slots + ms) ∧ (∀ q ∈ L, g_A Γ q.base) ∧ T'.heap = t.heap ∧ T'.vm = t.vm ∧ g_Q Γ post a9 st₀ (.returned v) t ∧ Goes p e below T (F0 m pc ls st0) T' (F0 m (pc + k3) ls (v.toList ++ rest))) ∨
      (∃ (q : Addr) (st₀ t T' : State) (L : List Loc) (E : String) (ce : Cell), st₀.heap = H ∧ Stand p l e R s m args below meth c T' (locs ++ L) (cells + mc) (slots + ms) ∧ (∀ z ∈ L, g_A Γ z.base) ∧ T'.heap = t.heap ∧ T'.vm = t.vm ∧ g_X Γ px E q st₀ t ∧ t.heap[q]? = some ce ∧ ce.vm = .none ∧ s.vm.findClass E = some ce.cls ∧ Steps p.tables e below (T.setTop (F0 m pc ls st0)) ((T'.setTop (F0 m pc ls rest)).pushFrame (.throwing q))))
    (I : g_I Γ ph s H locs)
    (kx : ∀ (E : String) (ce : Cell) (q : Nat) (ph1 : g_H) (H1 : Heap) (locs1 : List Loc), px E q ph1 → g_I Γ ph1 s H1 locs1 → H1[q]? = some ce → ce.vm = .none → s.vm.findClass E = some ce.cls → vx_W p l e R s m args below meth c H1 locs1 (cells + mc) (slots + ms) Q (F0 m pc ls rest) q)
    (kk : ∀ (r : Option Value) (ph1 : g_H) (H1 : Heap) (locs1 : List Loc), post r ph1 → g_I Γ ph1 s H1 locs1 → W p l e R s m args below meth c H1 locs1 (cells + mc) (slots + ms) Q (F0 m (pc + k3) ls (r.toList ++ rest))) : W p l e R s m args below meth c H locs cells slots Q (F0 m pc ls st0) := by
  intro T hT X
  rcases hr T hT X with ⟨v, st₀, t, T', L, h0, X', hL, e1, e2, ⟨⟨r, ph1, hv, hp, hG⟩, hF⟩, st⟩ | ⟨q, st₀, t, T', L, E, ce, h0, X', hL, e1, e2, ⟨⟨ph1, hp, hG⟩, hF⟩, hce, hcv, hcl, st⟩
  · cases hv
    obtain ⟨t2, a1, b1⟩ := kk v ph1 T'.heap (locs ++ L) hp ⟨by rw [e1]; exact hG, g_S2 (H1 := H) h0 e1 I.2 hL hF⟩ T' rfl X'
    exact ⟨t2, st t2 a1, b1⟩
  · obtain ⟨t2, a1, b1⟩ := kx E ce q ph1 T'.heap (locs ++ L) hp ⟨by rw [e1]; exact hG, g_S2 (H1 := H) h0 e1 I.2 hL hF⟩ (by rw [e1]; exact hce) hcv hcl T' rfl X'
    exact ⟨t2, Steps.trans st a1, b1⟩
end GB

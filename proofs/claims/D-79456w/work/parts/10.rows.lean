/-! ROWS over the ghost heap -/
set_option maxRecDepth 100000
/-- a class with what its field rows ask -/
def g_cls (ci : Nat) (C : String) (T : u_T) (N : Nat) (ty : Nat → FieldType) : Prop := vwCl[ci]? = some (C, T, N) ∧ (∀ w ∈ u_ws C T N, w ∈ lw_all) ∧ (∀ k, k < N → parseFieldDescriptor (T k).2.2.1 = some (ty k)) ∧ (∀ a, a < N → ∀ b, b < N → a ≠ b → (T a).2.1 ≠ (T b).2.1)
/-- what a method returns -/
def g_oi (po : Int32 → g_H → Prop) : Option Value → g_H → Prop := fun r ph => ∃ v : Int32, r = some (.int v) ∧ po v ph
def g_of (po : UInt32 → g_H → Prop) : Option Value → g_H → Prop := fun r ph => ∃ v : UInt32, r = some (.float v) ∧ po v ph
def g_ol (po : Int64 → g_H → Prop) : Option Value → g_H → Prop := fun r ph => ∃ v : Int64, r = some (.long v) ∧ po v ph
def g_ov (po : g_H → Prop) : Option Value → g_H → Prop := fun r ph => r = none ∧ po ph
def g_or (po : Nat → g_H → Prop) : Option Value → g_H → Prop := fun r ph => ∃ q : Nat, r = some (.ref q) ∧ po q ph
def g_oq (po : Option Nat → g_H → Prop) : Option Value → g_H → Prop := fun r ph => ∃ q : Option Nat, r = some (va_rf q) ∧ po q ph
def g_Q (Γ : g_C) (post : Option Value → g_H → Prop) : Array Value → State → Outcome → State → Prop := fun _ st oc t => (∃ (r : Option Value) (ph : g_H), oc = .returned r ∧ post r ph ∧ g_G Γ ph t.heap) ∧ va_F (g_A Γ) st t
def g_X (Γ : g_C) (px : String → Nat → g_H → Prop) : String → Addr → State → State → Prop := fun E q st t => (∃ ph : g_H, px E q ph ∧ g_G Γ ph t.heap) ∧ va_F (g_A Γ) st t
def g_P (Γ : g_C) (ph : g_H) (U : State) : Prop := g_K Γ U ∧ g_G Γ ph U.heap
/-- nothing is thrown -/
def g_no : String → Nat → g_H → Prop := fun _ _ _ => False
/-- a room by its height, cells and slots -/
abbrev g_rm (n c k : Nat) : Room := { frames := n, cells := c, slots := k, locals := 64 * n }
/-- the contract of a method -/
def g_Met (l : Launch) (y : MethodName) (ws : List Cond) (rm : Room) (Γ : g_C) (av : List Value) (ph : g_H) (post : Option Value → g_H → Prop) (px : String → Nat → g_H → Prop) : Prop :=
  vx_Met l y ws rm (va_Pc av (g_P Γ ph)) (g_Q Γ post) (g_X Γ px) rm.cells rm.slots (g_A Γ)
theorem g_blind {Γ : g_C} {ph : g_H} {av : List Value} : FrameBlind (va_Pc av (g_P Γ ph)) := fun a U g mk h => ⟨h.1, g_K.same (u := U) (U := U.calling g mk a) rfl rfl h.2.1, h.2.2⟩
section GA
variable {p : Program} {l : Launch} {e : Env} {R : Room} {s : State} {m : MethodId} {args : Array Value} {below : List Frame} {meth : Method} {c : Code} {H : Heap} {locs : List Loc} {cells slots : Nat} {Q : State → Prop}
variable {cc : ByteArray} {pc : Nat} {ls : Array Slot} {rest st0 : List Value} {Γ : g_C} {ph : g_H} {a nL : Nat} {own : String}
theorem g_start {y : MethodName} {maxL : Nat} {ret : Option FieldType} {rm : Room} {av : List Value} {post : Option Value → g_H → Prop} {px : String → Nat → g_H → Prop} (hy : plainName y.cls = true) (hlen : (lg_sl av).length ≤ maxL)
    (body : ∀ (p : Program) (e : Env) (s : State) (m : MethodId) (A : Array Value) (below : List Frame) (meth : Method) (c : Code) (ls : Array Slot) (Q : State → Prop), Q = vx_MQ below (g_Q Γ post) (g_X Γ px) A s rm.cells rm.slots (g_A Γ) → CallFix p m c cc maxL s A lw_all y.cls → meth.sig.returnType = ret → meth.locks = false → (∀ x ∈ c.exceptionTable.toList, False) → meth.name = y.name → g_K Γ s → g_I Γ ph s s.heap [] → lv_has ls maxL (lv_args 0 av) →
      W p l e rm s m A below meth c s.heap [] 0 0 Q (F0 m 0 ls [])) : g_Met l y (ws_ y cc maxL ret) rm Γ av ph post px := by
  refine vx_ofW (cc := cc) (maxL := maxL) (ret := ret) hy rfl ?_
  intro p e s m args below meth c s₁ B hml hex hv
  obtain ⟨hav, hK, hG⟩ := hv
  have hts := atoms_spec (ws := ws_ y cc maxL ret) B.pre
  have hts : ∀ w ∈ lw_all, w.before _ s = true := fun w h => hts w (List.mem_cons_of_mem _ h)
  have hl := lv_entry av (n := maxL) hlen
  have hE : entryFrame m args maxL = F0 m 0 ((lg_sl av ++ List.replicate (maxL - (lg_sl av).length) Slot.unset).toArray) [] := by rw [hav, lg_entry_eq]
  rw [hE]
  generalize (lg_sl av ++ List.replicate (maxL - (lg_sl av).length) Slot.unset).toArray = ls at hl ⊢
  exact body p e s m args below meth c ls _ rfl ⟨B.exec, B.bytes, hml, findClass_of_methodNamed B.named, hts⟩ B.returns B.notSynchronized hex (name_of_methodNamed B.named B.method).1 hK ⟨hG, va_S.rf⟩ hl
/-! fields -/
theorem g_get (S : CallFix p m c cc nL s args lw_all own) (hK : g_K Γ s) (I : g_I Γ ph s H locs) {ci : Nat} {C : String} {T : u_T} {N : Nat} {ty : Nat → FieldType} (hc : g_cls ci C T N ty) {fs : List Value} (ha : g_at Γ ph a (.inr (ci, fs))) (k : Nat) (hk : k < N) {ref : String} {index : Nat} (hl : Cond.fieldLink own index ref (T k).2.1 (T k).2.2.1 ∈ lw_all) (hr : (T k).1 = ref) {v : Value} (hv : fs[k]? = some v) (hdg : decode cc pc = .ok (.getfield index, 3))
    (kk : W p l e R s m args below meth c H locs cells slots Q (F0 m (pc + 3) ls (v :: rest))) : W p l e R s m args below meth c H locs cells slots Q (F0 m pc ls (.ref a :: rest)) := by
  obtain ⟨ws, q0, hP, he⟩ := I.read hK ha
  subst hr
  exact va_get S.1 S.2.1 S.2.2.2.2 hc.2.1 S.2.2.2.1 hK.1 hP q0 he hc.1 k hk (S.2.2.2.2 _ hl) (fun _ h => h) hv hdg kk
theorem g_getN (S : CallFix p m c cc nL s args lw_all own) (hK : g_K Γ s) (I : g_I Γ ph s H locs) {ci : Nat} {C : String} {T : u_T} {N : Nat} {ty : Nat → FieldType} (hc : g_cls ci C T N ty) {fs : List Value} (ha : g_at Γ ph a (.inr (ci, fs))) (k : Nat) (hk : k < N) {ref host : String} {index : Nat} (hl : Cond.fieldLinkNest own index ref (T k).2.1 (T k).2.2.1 host ∈ lw_tbl) (hr : (T k).1 = ref) {v : Value} (hv : fs[k]? = some v) (hdg : decode cc pc = .ok (.getfield index, 3))
    (kk : W p l e R s m args below meth c H locs cells slots Q (F0 m (pc + 3) ls (v :: rest))) : W p l e R s m args below meth c H locs cells slots Q (F0 m pc ls (.ref a :: rest)) := by
  obtain ⟨ws, q0, hP, he⟩ := I.read hK ha
  subst hr
  exact va_getN S.1 S.2.1 S.2.2.2.2 hc.2.1 S.2.2.2.1 hK.1 hP q0 he hc.1 k hk (va_Nw.use rfl (hK.N hl rfl)) (fun _ h => h) hv hdg kk
theorem g_put (S : CallFix p m c cc nL s args lw_all own) (hK : g_K Γ s) (I : g_I Γ ph s H locs) {ci : Nat} {C : String} {T : u_T} {N : Nat} {ty : Nat → FieldType} (hc : g_cls ci C T N ty) {j i : Nat} {fs : List Value} (ha : ph j i a = some (.inr (ci, fs))) (k : Nat) (hk : k < N) {ref : String} {index : Nat} (hl : Cond.fieldLink own index ref (T k).2.1 (T k).2.2.1 ∈ lw_all) (hr : (T k).1 = ref) (hfin : (T k).2.2.2 = false) {v : Value} (hn : narrow (ty k) v = v) (hfit : fits (ty k) v = true) (hlen : k < fs.length) (hdg : decode cc pc = .ok (.putfield index, 3))
    (kk : ∀ (H1 : Heap) (locs1 : List Loc), g_I Γ (gput ph j i a (.inr (ci, fs.set k v))) s H1 locs1 → W p l e R s m args below meth c H1 locs1 cells slots Q (F0 m (pc + 3) ls rest)) : W p l e R s m args below meth c H locs cells slots Q (F0 m pc ls (v :: .ref a :: rest)) := by
  obtain ⟨⟨L, h1, h2, h3⟩, hS⟩ := I
  obtain ⟨q0, hq⟩ := h1 _ _ _ _ ha
  subst hr
  exact va_put S.1 S.2.1 S.2.2.2.2 hc.2.1 ty hc.2.2.1 hc.2.2.2 S.2.2.2.1 hK.1 h2 h3 hS q0 (g_in.snd hq) hc.1 k hk (S.2.2.2.2 _ hl) (fun _ h => h) hfin (hc.2.2.1 k hk) hn hfit hlen hdg (fun H1 locs1 hP hD hS => kk H1 locs1 ⟨g_G.set h1 h3 hq hP hD, hS⟩)
theorem g_putN (S : CallFix p m c cc nL s args lw_all own) (hK : g_K Γ s) (I : g_I Γ ph s H locs) {ci : Nat} {C : String} {T : u_T} {N : Nat} {ty : Nat → FieldType} (hc : g_cls ci C T N ty) {j i : Nat} {fs : List Value} (ha : ph j i a = some (.inr (ci, fs))) (k : Nat) (hk : k < N) {ref host : String} {index : Nat} (hl : Cond.fieldLinkNest own index ref (T k).2.1 (T k).2.2.1 host ∈ lw_tbl) (hr : (T k).1 = ref) (hfin : (T k).2.2.2 = false) {v : Value} (hn : narrow (ty k) v = v) (hfit : fits (ty k) v = true) (hlen : k < fs.length) (hdg : decode cc pc = .ok (.putfield index, 3))
    (kk : ∀ (H1 : Heap) (locs1 : List Loc), g_I Γ (gput ph j i a (.inr (ci, fs.set k v))) s H1 locs1 → W p l e R s m args below meth c H1 locs1 cells slots Q (F0 m (pc + 3) ls rest)) : W p l e R s m args below meth c H locs cells slots Q (F0 m pc ls (v :: .ref a :: rest)) := by
  obtain ⟨⟨L, h1, h2, h3⟩, hS⟩ := I
  obtain ⟨q0, hq⟩ := h1 _ _ _ _ ha
  subst hr
  exact va_putN S.1 S.2.1 S.2.2.2.2 hc.2.1 ty hc.2.2.1 hc.2.2.2 S.2.2.2.1 hK.1 h2 h3 hS q0 (g_in.snd hq) hc.1 k hk (va_Nw.use rfl (hK.N hl rfl)) (fun _ h => h) hfin (hc.2.2.1 k hk) hn hfit hlen hdg (fun H1 locs1 hP hD hS => kk H1 locs1 ⟨g_G.set h1 h3 hq hP hD, hS⟩)
/-- a final field, in its own constructor -/
theorem g_putF (S : CallFix p m c cc nL s args lw_all own) (hK : g_K Γ s) (I : g_I Γ ph s H locs) {ci : Nat} {C : String} {T : u_T} {N : Nat} {ty : Nat → FieldType} (hc : g_cls ci C T N ty) {j i : Nat} {fs : List Value} (ha : ph j i a = some (.inr (ci, fs))) (k : Nat) (hk : k < N) {index : Nat} (hl : Cond.fieldLink own index own (T k).2.1 (T k).2.2.1 ∈ lw_all) (hr : (T k).1 = own) (hfin : (T k).2.2.2 = true) (hin2 : meth.name = "<init>") {v : Value} (hn : narrow (ty k) v = v) (hfit : fits (ty k) v = true) (hlen : k < fs.length) (hdg : decode cc pc = .ok (.putfield index, 3))
    (kk : ∀ (H1 : Heap) (locs1 : List Loc), g_I Γ (gput ph j i a (.inr (ci, fs.set k v))) s H1 locs1 → W p l e R s m args below meth c H1 locs1 cells slots Q (F0 m (pc + 3) ls rest)) : W p l e R s m args below meth c H locs cells slots Q (F0 m pc ls (v :: .ref a :: rest)) := by
  obtain ⟨⟨L, h1, h2, h3⟩, hS⟩ := I
  obtain ⟨q0, hq⟩ := h1 _ _ _ _ ha
  exact va_putF S.1 S.2.1 S.2.2.2.2 hc.2.1 ty hc.2.2.1 hc.2.2.2 S.2.2.2.1 hK.1 h2 h3 hS q0 (g_in.snd hq) hc.1 k hk (S.2.2.2.2 _ hl) (fun _ h => by rw [hr] at h; exact h) hfin hin2 hr (hc.2.2.1 k hk) hn hfit hlen hdg (fun H1 locs1 hP hD hS => kk H1 locs1 ⟨g_G.set h1 h3 hq hP hD, hS⟩)
theorem g_gets (S : CallFix p m c cc nL s args lw_all own) (hK : g_K Γ s) (I : g_I Γ ph s H locs) (k : Nat) {C n d : String} {v : Value} (hz : (g_sv Γ)[k]? = some (C, n, d, v)) {index : Nat} (hl : Cond.fieldLink own index C n d ∈ lw_all) (hdg : decode cc pc = .ok (.getstatic index, 3))
    (kk : W p l e R s m args below meth c H locs cells slots Q (F0 m (pc + 3) ls (v :: rest))) : W p l e R s m args below meth c H locs cells slots Q (F0 m pc ls rest) :=
  va_gets S.1 S.2.1 (hK.Z k hz) I.2 S.2.2.2.1 (S.2.2.2.2 _ hl) (fun _ h => h) hdg kk
theorem g_getsN (S : CallFix p m c cc nL s args lw_all own) (hK : g_K Γ s) (I : g_I Γ ph s H locs) (k : Nat) {C n d host : String} {v : Value} (hz : (g_sv Γ)[k]? = some (C, n, d, v)) {index : Nat} (hl : Cond.fieldLinkNest own index C n d host ∈ lw_tbl) (hdg : decode cc pc = .ok (.getstatic index, 3))
    (kk : W p l e R s m args below meth c H locs cells slots Q (F0 m (pc + 3) ls (v :: rest))) : W p l e R s m args below meth c H locs cells slots Q (F0 m pc ls rest) :=
  va_getsN S.1 S.2.1 (hK.Z k hz) I.2 S.2.2.2.1 (va_Nw.use rfl (hK.N hl rfl)) (fun _ h => h) hdg kk
/-! arrays: reads -/
theorem g_alen (S : CallFix p m c cc nL s args lw_all own) (hK : g_K Γ s) (I : g_I Γ ph s H locs) {t0 : Nat} {x : vp_A} (ha : g_at Γ ph a (.inl (g_t Γ t0, x))) {ty : FieldType} (ht : (g_ty Γ)[t0]? = some (g_t Γ t0, ty)) {v : Int32} (hv : Int32.ofNat x.1 = v) (hdg : decode cc pc = .ok (.arraylength, 1))
    (kk : W p l e R s m args below meth c H locs cells slots Q (F0 m (pc + 1) ls (.int v :: rest))) : W p l e R s m args below meth c H locs cells slots Q (F0 m pc ls (.ref a :: rest)) := by
  obtain ⟨ws, q0, hP, he⟩ := I.read hK ha
  exact va_alen S.1 S.2.1 hK.1 hP q0 t0 he ht hv hdg kk
theorem g_iald (S : CallFix p m c cc nL s args lw_all own) (hK : g_K Γ s) (I : g_I Γ ph s H locs) {n : Nat} {f : Nat → Int32} (ha : g_at Γ ph a (.inl (g_t Γ 0, n, .inl f))) {i : Int32} (hin : vp_in i n) (hdg : decode cc pc = .ok (.iaload, 1))
    (kk : W p l e R s m args below meth c H locs cells slots Q (F0 m (pc + 1) ls (.int (f i.toNatClampNeg) :: rest))) : W p l e R s m args below meth c H locs cells slots Q (F0 m pc ls (.int i :: .ref a :: rest)) := by
  obtain ⟨ws, q0, hP, he⟩ := I.read hK ha
  exact va_iald S.1 S.2.1 hK.1 hP q0 0 he rfl hin hdg kk
theorem g_zald (S : CallFix p m c cc nL s args lw_all own) (hK : g_K Γ s) (I : g_I Γ ph s H locs) {n : Nat} {f : Nat → Int32} (ha : g_at Γ ph a (.inl (g_t Γ 1, n, .inl f))) {i : Int32} (hin : vp_in i n) (hdg : decode cc pc = .ok (.baload, 1))
    (kk : W p l e R s m args below meth c H locs cells slots Q (F0 m (pc + 1) ls (.int (f i.toNatClampNeg) :: rest))) : W p l e R s m args below meth c H locs cells slots Q (F0 m pc ls (.int i :: .ref a :: rest)) := by
  obtain ⟨ws, q0, hP, he⟩ := I.read hK ha
  exact va_zald S.1 S.2.1 hK.1 hP q0 1 he rfl hin hdg kk
theorem g_cald (S : CallFix p m c cc nL s args lw_all own) (hK : g_K Γ s) (I : g_I Γ ph s H locs) {n : Nat} {f : Nat → Int32} (ha : g_at Γ ph a (.inl (g_t Γ 2, n, .inl f))) {i : Int32} (hin : vp_in i n) (hdg : decode cc pc = .ok (.caload, 1))
    (kk : W p l e R s m args below meth c H locs cells slots Q (F0 m (pc + 1) ls (.int (f i.toNatClampNeg) :: rest))) : W p l e R s m args below meth c H locs cells slots Q (F0 m pc ls (.int i :: .ref a :: rest)) := by
  obtain ⟨ws, q0, hP, he⟩ := I.read hK ha
  exact va_cald S.1 S.2.1 hK.1 hP q0 2 he rfl hin hdg kk
theorem g_bald (S : CallFix p m c cc nL s args lw_all own) (hK : g_K Γ s) (I : g_I Γ ph s H locs) {n : Nat} {f : Nat → Int32} (ha : g_at Γ ph a (.inl (g_t Γ 3, n, .inl f))) {i : Int32} (hin : vp_in i n) (hdg : decode cc pc = .ok (.baload, 1))
    (kk : W p l e R s m args below meth c H locs cells slots Q (F0 m (pc + 1) ls (.int (f i.toNatClampNeg) :: rest))) : W p l e R s m args below meth c H locs cells slots Q (F0 m pc ls (.int i :: .ref a :: rest)) := by
  obtain ⟨ws, q0, hP, he⟩ := I.read hK ha
  exact va_bald S.1 S.2.1 hK.1 hP q0 3 he rfl hin hdg kk
theorem g_lald (S : CallFix p m c cc nL s args lw_all own) (hK : g_K Γ s) (I : g_I Γ ph s H locs) {n : Nat} {f : Nat → Int64} (ha : g_at Γ ph a (.inl (g_t Γ 4, n, .inr (.inl f)))) {i : Int32} (hin : vp_in i n) (hdg : decode cc pc = .ok (.laload, 1))
    (kk : W p l e R s m args below meth c H locs cells slots Q (F0 m (pc + 1) ls (.long (f i.toNatClampNeg) :: rest))) : W p l e R s m args below meth c H locs cells slots Q (F0 m pc ls (.int i :: .ref a :: rest)) := by
  obtain ⟨ws, q0, hP, he⟩ := I.read hK ha
  exact va_lald S.1 S.2.1 hK.1 hP q0 4 he rfl hin hdg kk
theorem g_fald (S : CallFix p m c cc nL s args lw_all own) (hK : g_K Γ s) (I : g_I Γ ph s H locs) {n : Nat} {f : Nat → UInt32} (ha : g_at Γ ph a (.inl (g_t Γ 5, n, .inr (.inr (.inl f))))) {i : Int32} (hin : vp_in i n) (hdg : decode cc pc = .ok (.faload, 1))
    (kk : W p l e R s m args below meth c H locs cells slots Q (F0 m (pc + 1) ls (.float (f i.toNatClampNeg) :: rest))) : W p l e R s m args below meth c H locs cells slots Q (F0 m pc ls (.int i :: .ref a :: rest)) := by
  obtain ⟨ws, q0, hP, he⟩ := I.read hK ha
  exact va_fald S.1 S.2.1 hK.1 hP q0 5 he rfl hin hdg kk
theorem g_dald (S : CallFix p m c cc nL s args lw_all own) (hK : g_K Γ s) (I : g_I Γ ph s H locs) {n : Nat} {f : Nat → UInt64} (ha : g_at Γ ph a (.inl (g_t Γ 6, n, .inr (.inr (.inr (.inl f)))))) {i : Int32} (hin : vp_in i n) (hdg : decode cc pc = .ok (.daload, 1))
    (kk : W p l e R s m args below meth c H locs cells slots Q (F0 m (pc + 1) ls (.double (f i.toNatClampNeg) :: rest))) : W p l e R s m args below meth c H locs cells slots Q (F0 m pc ls (.int i :: .ref a :: rest)) := by
  obtain ⟨ws, q0, hP, he⟩ := I.read hK ha
  exact va_dald S.1 S.2.1 hK.1 hP q0 6 he rfl hin hdg kk
theorem g_aald (S : CallFix p m c cc nL s args lw_all own) (hK : g_K Γ s) (I : g_I Γ ph s H locs) (t0 : Nat) {C : String} (ht : (g_ty Γ)[t0]? = some (g_t Γ t0, .object C)) {n : Nat} {f : Nat → Option Nat} (ha : g_at Γ ph a (.inl (g_t Γ t0, n, .inr (.inr (.inr (.inr f)))))) {i : Int32} (hin : vp_in i n) (hdg : decode cc pc = .ok (.aaload, 1))
    (kk : W p l e R s m args below meth c H locs cells slots Q (F0 m (pc + 1) ls (va_rf (f i.toNatClampNeg) :: rest))) : W p l e R s m args below meth c H locs cells slots Q (F0 m pc ls (.int i :: .ref a :: rest)) := by
  obtain ⟨ws, q0, hP, he⟩ := I.read hK ha
  exact va_aldq S.1 S.2.1 hK.1 hP q0 t0 he ht hin hdg kk
/-! arrays: stores -/
theorem g_iast (S : CallFix p m c cc nL s args lw_all own) (hK : g_K Γ s) (I : g_I Γ ph s H locs) {j i n : Nat} {f : Nat → Int32} (ha : ph j i a = some (.inl (g_t Γ 0, n, .inl f))) {k x : Int32} (hin : vp_in k n) (hdg : decode cc pc = .ok (.iastore, 1))
    (kk : ∀ (H1 : Heap) (locs1 : List Loc), g_I Γ (gput ph j i a (.inl (g_t Γ 0, n, .inl (upd f k.toNatClampNeg x)))) s H1 locs1 → W p l e R s m args below meth c H1 locs1 cells slots Q (F0 m (pc + 1) ls rest)) : W p l e R s m args below meth c H locs cells slots Q (F0 m pc ls (.int x :: .int k :: .ref a :: rest)) := by
  obtain ⟨⟨L, h1, h2, h3⟩, hS⟩ := I
  obtain ⟨q0, hq⟩ := h1 _ _ _ _ ha
  exact va_iast S.1 S.2.1 hK.1 h2 h3 hS q0 0 (g_in.snd hq) rfl hin hdg (fun H1 locs1 hP hD hS => kk H1 locs1 ⟨g_G.set h1 h3 hq hP hD, hS⟩)
theorem g_zast (S : CallFix p m c cc nL s args lw_all own) (hK : g_K Γ s) (I : g_I Γ ph s H locs) {j i n : Nat} {f : Nat → Int32} (ha : ph j i a = some (.inl (g_t Γ 1, n, .inl f))) {k x : Int32} (hin : vp_in k n) (hdg : decode cc pc = .ok (.bastore, 1))
    (kk : ∀ (H1 : Heap) (locs1 : List Loc), g_I Γ (gput ph j i a (.inl (g_t Γ 1, n, .inl (upd f k.toNatClampNeg (vp_nar .boolean x))))) s H1 locs1 → W p l e R s m args below meth c H1 locs1 cells slots Q (F0 m (pc + 1) ls rest)) : W p l e R s m args below meth c H locs cells slots Q (F0 m pc ls (.int x :: .int k :: .ref a :: rest)) := by
  obtain ⟨⟨L, h1, h2, h3⟩, hS⟩ := I
  obtain ⟨q0, hq⟩ := h1 _ _ _ _ ha
  exact va_zast S.1 S.2.1 hK.1 h2 h3 hS q0 1 (g_in.snd hq) rfl hin hdg (fun H1 locs1 hP hD hS => kk H1 locs1 ⟨g_G.set h1 h3 hq hP hD, hS⟩)
theorem g_cast (S : CallFix p m c cc nL s args lw_all own) (hK : g_K Γ s) (I : g_I Γ ph s H locs) {j i n : Nat} {f : Nat → Int32} (ha : ph j i a = some (.inl (g_t Γ 2, n, .inl f))) {k x : Int32} (hin : vp_in k n) (hdg : decode cc pc = .ok (.castore, 1))
    (kk : ∀ (H1 : Heap) (locs1 : List Loc), g_I Γ (gput ph j i a (.inl (g_t Γ 2, n, .inl (upd f k.toNatClampNeg (vp_nar .char x))))) s H1 locs1 → W p l e R s m args below meth c H1 locs1 cells slots Q (F0 m (pc + 1) ls rest)) : W p l e R s m args below meth c H locs cells slots Q (F0 m pc ls (.int x :: .int k :: .ref a :: rest)) := by
  obtain ⟨⟨L, h1, h2, h3⟩, hS⟩ := I
  obtain ⟨q0, hq⟩ := h1 _ _ _ _ ha
  exact va_cast S.1 S.2.1 hK.1 h2 h3 hS q0 2 (g_in.snd hq) rfl hin hdg (fun H1 locs1 hP hD hS => kk H1 locs1 ⟨g_G.set h1 h3 hq hP hD, hS⟩)
theorem g_bast (S : CallFix p m c cc nL s args lw_all own) (hK : g_K Γ s) (I : g_I Γ ph s H locs) {j i n : Nat} {f : Nat → Int32} (ha : ph j i a = some (.inl (g_t Γ 3, n, .inl f))) {k x : Int32} (hin : vp_in k n) (hdg : decode cc pc = .ok (.bastore, 1))
    (kk : ∀ (H1 : Heap) (locs1 : List Loc), g_I Γ (gput ph j i a (.inl (g_t Γ 3, n, .inl (upd f k.toNatClampNeg (vp_nar .byte x))))) s H1 locs1 → W p l e R s m args below meth c H1 locs1 cells slots Q (F0 m (pc + 1) ls rest)) : W p l e R s m args below meth c H locs cells slots Q (F0 m pc ls (.int x :: .int k :: .ref a :: rest)) := by
  obtain ⟨⟨L, h1, h2, h3⟩, hS⟩ := I
  obtain ⟨q0, hq⟩ := h1 _ _ _ _ ha
  exact va_bast S.1 S.2.1 hK.1 h2 h3 hS q0 3 (g_in.snd hq) rfl hin hdg (fun H1 locs1 hP hD hS => kk H1 locs1 ⟨g_G.set h1 h3 hq hP hD, hS⟩)
theorem g_last (S : CallFix p m c cc nL s args lw_all own) (hK : g_K Γ s) (I : g_I Γ ph s H locs) {j i n : Nat} {f : Nat → Int64} (ha : ph j i a = some (.inl (g_t Γ 4, n, .inr (.inl f)))) {k : Int32} {x : Int64} (hin : vp_in k n) (hdg : decode cc pc = .ok (.lastore, 1))
    (kk : ∀ (H1 : Heap) (locs1 : List Loc), g_I Γ (gput ph j i a (.inl (g_t Γ 4, n, .inr (.inl (vp_updL f k.toNatClampNeg x))))) s H1 locs1 → W p l e R s m args below meth c H1 locs1 cells slots Q (F0 m (pc + 1) ls rest)) : W p l e R s m args below meth c H locs cells slots Q (F0 m pc ls (.long x :: .int k :: .ref a :: rest)) := by
  obtain ⟨⟨L, h1, h2, h3⟩, hS⟩ := I
  obtain ⟨q0, hq⟩ := h1 _ _ _ _ ha
  exact va_last S.1 S.2.1 hK.1 h2 h3 hS q0 4 (g_in.snd hq) rfl hin hdg (fun H1 locs1 hP hD hS => kk H1 locs1 ⟨g_G.set h1 h3 hq hP hD, hS⟩)
theorem g_fast (S : CallFix p m c cc nL s args lw_all own) (hK : g_K Γ s) (I : g_I Γ ph s H locs) {j i n : Nat} {f : Nat → UInt32} (ha : ph j i a = some (.inl (g_t Γ 5, n, .inr (.inr (.inl f))))) {k : Int32} {x : UInt32} (hin : vp_in k n) (hdg : decode cc pc = .ok (.fastore, 1))
    (kk : ∀ (H1 : Heap) (locs1 : List Loc), g_I Γ (gput ph j i a (.inl (g_t Γ 5, n, .inr (.inr (.inl (vf_upd f k.toNatClampNeg x)))))) s H1 locs1 → W p l e R s m args below meth c H1 locs1 cells slots Q (F0 m (pc + 1) ls rest)) : W p l e R s m args below meth c H locs cells slots Q (F0 m pc ls (.float x :: .int k :: .ref a :: rest)) := by
  obtain ⟨⟨L, h1, h2, h3⟩, hS⟩ := I
  obtain ⟨q0, hq⟩ := h1 _ _ _ _ ha
  exact va_fast S.1 S.2.1 hK.1 h2 h3 hS q0 5 (g_in.snd hq) rfl hin hdg (fun H1 locs1 hP hD hS => kk H1 locs1 ⟨g_G.set h1 h3 hq hP hD, hS⟩)
theorem g_dast (S : CallFix p m c cc nL s args lw_all own) (hK : g_K Γ s) (I : g_I Γ ph s H locs) {j i n : Nat} {f : Nat → UInt64} (ha : ph j i a = some (.inl (g_t Γ 6, n, .inr (.inr (.inr (.inl f)))))) {k : Int32} {x : UInt64} (hin : vp_in k n) (hdg : decode cc pc = .ok (.dastore, 1))
    (kk : ∀ (H1 : Heap) (locs1 : List Loc), g_I Γ (gput ph j i a (.inl (g_t Γ 6, n, .inr (.inr (.inr (.inl (vf_upd f k.toNatClampNeg x))))))) s H1 locs1 → W p l e R s m args below meth c H1 locs1 cells slots Q (F0 m (pc + 1) ls rest)) : W p l e R s m args below meth c H locs cells slots Q (F0 m pc ls (.double x :: .int k :: .ref a :: rest)) := by
  obtain ⟨⟨L, h1, h2, h3⟩, hS⟩ := I
  obtain ⟨q0, hq⟩ := h1 _ _ _ _ ha
  exact va_dast S.1 S.2.1 hK.1 h2 h3 hS q0 6 (g_in.snd hq) rfl hin hdg (fun H1 locs1 hP hD hS => kk H1 locs1 ⟨g_G.set h1 h3 hq hP hD, hS⟩)
/-! new cells -/
theorem g_new (S : CallFix p m c cc nL s args lw_all own) (hK : g_K Γ s) (I : g_I Γ ph s H locs) (j i : Nat) {ci : Nat} {C : String} {T : u_T} {N : Nat} {ty : Nat → FieldType} (hc : g_cls ci C T N ty) {index : Nat} (hl : Cond.classLink own index C ∈ lw_all) (hi : Cond.instantiable C N ∈ lw_all) (hini : Cond.initialized C ∈ lw_all) {fs : List Value} (hfs : ∀ j, j < N → defaultValue (ty j) = vp_V fs j) (hcells : cells + 1 ≤ R.cells) (hslots : slots + N ≤ R.slots) (hdg : decode cc pc = .ok (.new index, 3))
    (kk : ∀ (q : Nat) (H1 : Heap), (∀ j i : Nat, ph j i q = none) → g_I Γ (gput ph j i q (.inr (ci, fs))) s H1 locs → W p l e R s m args below meth c H1 locs (cells + 1) (slots + N) Q (F0 m (pc + 3) ls (.ref q :: rest))) : W p l e R s m args below meth c H locs cells slots Q (F0 m pc ls rest) := by
  obtain ⟨⟨L, h1, h2, h3⟩, hS⟩ := I
  exact va_new S.1 S.2.1 S.2.2.2.2 hc.2.1 ty hc.2.2.1 S.2.2.2.1 (S.2.2.2.2 _ hl) (S.2.2.2.2 _ hi) (S.2.2.2.2 _ hini) hK.1 h2 h3 hS hK.hA hc.1 hfs hcells hslots hdg (fun q H1 hP hD hS => kk q H1 (g_fresh h1 hD) ⟨g_G.push j i h1 hP hD, hS⟩)
/-- the cell's contents of a new array -/
def g_zero (atype : ArrayType) (N : Nat) : vp_A := match atype with
  | .long => (N, .inr (.inl fun _ => 0))
  | .float => (N, .inr (.inr (.inl fun _ => 0)))
  | .double => (N, .inr (.inr (.inr (.inl fun _ => 0))))
  | _ => (N, .inl fun _ => 0)
end GA

/-! cached Integers: those of -128 .. 127 lie in the cache; Γ's g_c gives their addresses -/
set_option maxRecDepth 100000
/-- the box of a number from 0 on -/
def g_bx (Γ : g_C) (n : Nat) : Nat := g_c Γ (n + 128)
section IR
variable {p : Program} {l : Launch} {e : Env} {R : Room} {s : State} {m : MethodId} {args : Array Value} {below : List Frame} {meth : Method} {c : Code} {H : Heap} {locs : List Loc} {cells slots : Nat} {Q : State → Prop}
variable {cc : ByteArray} {pc : Nat} {ls : Array Slot} {rest : List Value} {Γ : g_C} {ph : g_H} {a nL : Nat} {own : String}
theorem g_ctab (S : CallFix p m c cc nL s args lw_all own) (hK : g_K Γ s) (I : g_I Γ ph s H locs) {n : Nat} (hn : n < 128) {i : Int32} (hi : i = nI (n + 128)) (hdg : decode cc pc = .ok (.aaload, 1))
    (kk : W p l e R s m args below meth c H locs cells slots Q (F0 m (pc + 1) ls (.ref (g_bx Γ n) :: rest))) : W p l e R s m args below meth c H locs cells slots Q (F0 m pc ls (.int i :: .ref (g_c Γ 256) :: rest)) := by
  subst hi
  exact vb_tq S.1 S.2.1 hK.2.2.2.2.2.1 I.2 (vp_in_nI (by omega) (by decide)) (by rw [nI_clamp (by omega)]; rfl) hdg kk
theorem vb_c_n (n : Nat) : vb_c (n + 128) = nI n := by
  unfold vb_c
  rw [show Int32.ofNat (n + 128) = nI (n + 128) from rfl, ← nI_add, show nI 128 = 128 from rfl, Int32.add_sub_cancel]
theorem g_geti (S : CallFix p m c cc nL s args lw_all own) (hK : g_K Γ s) (I : g_I Γ ph s H locs) {n : Nat} (hn : n < 128) {index : Nat} (hl : Cond.fieldLink own index "java/lang/Integer" "value" "I" ∈ lw_all) (hdg : decode cc pc = .ok (.getfield index, 3))
    (kk : W p l e R s m args below meth c H locs cells slots Q (F0 m (pc + 3) ls (.int (nI n) :: rest))) : W p l e R s m args below meth c H locs cells slots Q (F0 m pc ls (.ref (g_bx Γ n) :: rest)) := by
  rw [← vb_c_n] at kk
  exact va_getX S.1 S.2.1 hK.2.2.2.2.2.2.1.2 (i := n + 128) (by omega) I.2 S.2.2.2.1 (S.2.2.2.2 _ hl) (fun _ h => h) hdg kk
theorem g_recvB (hK : g_K Γ s) (I : g_I Γ ph s H locs) {n : Nat} (hn : n < 128) : ∃ cell : Cell, H[g_bx Γ n]? = some cell ∧ cell.vm.isStatics = false ∧ s.vm.findClass "java/lang/Integer" = some cell.cls := by
  obtain ⟨cell, h1, h2, h3, -⟩ := (hK.2.2.2.2.2.2.1.1 (n + 128) (by omega)).kept I.2.2.1
  exact ⟨cell, h1, h2, h3⟩
end IR
/-! locals that hold a reference or null -/
section AQ
variable {p : Program} {l : Launch} {e : Env} {R : Room} {s : State} {m : MethodId} {args : Array Value} {below : List Frame} {meth : Method} {c : Code} {H : Heap} {locs : List Loc} {cells slots : Nat} {Q : State → Prop}
variable {cc : ByteArray} {pc : Nat} {ls : Array Slot} {rest : List Value}
theorem g_aloadq_n (hexec : p.tables.exec = Jvm.exec) (hb : c.code = cc) {k : Fin 4} {i : Nat} {r : Option Nat} (hdg : decode cc pc = .ok (.aload_n k, 1)) (hi : (k : Nat) = i) (hl : ls[i]? = some (.val (va_rf r)))
    (kk : W p l e R s m args below meth c H locs cells slots Q (F0 m (pc + 1) ls (va_rf r :: rest))) : W p l e R s m args below meth c H locs cells slots Q (F0 m pc ls rest) := by
  cases r with
  | none => exact lv_aload_nN hexec hb hdg hi hl kk
  | some x => exact lv_aload_n hexec hb hdg hi hl kk
theorem g_aloadq (hexec : p.tables.exec = Jvm.exec) (hb : c.code = cc) {i : Nat} {r : Option Nat} (hdg : decode cc pc = .ok (.aload i, 2)) (hl : ls[i]? = some (.val (va_rf r)))
    (kk : W p l e R s m args below meth c H locs cells slots Q (F0 m (pc + 2) ls (va_rf r :: rest))) : W p l e R s m args below meth c H locs cells slots Q (F0 m pc ls rest) := by
  cases r with
  | none => exact lv_aloadN hexec hb hdg hl kk
  | some x => exact lv_aload hexec hb hdg hl kk
theorem rf_nar (C : String) (r : Option Nat) : narrow (.object C) (va_rf r) = va_rf r := by cases r <;> rfl
theorem rf_fit (C : String) (r : Option Nat) : fits (.object C) (va_rf r) = true := by cases r <;> rfl
end AQ
/-! a field named through a class below its own -/
section FU
variable {p : Program} {l : Launch} {e : Env} {R : Room} {s : State} {m : MethodId} {args : Array Value} {below : List Frame} {meth : Method} {c : Code} {H : Heap} {locs : List Loc} {cells slots : Nat} {Q : State → Prop}
variable {cc : ByteArray} {pc : Nat} {ls : Array Slot} {rest : List Value} {Γ : g_C} {ph : g_H} {a nL : Nat} {own : String}
theorem g_getU (S : CallFix p m c cc nL s args lw_all own) (hK : g_K Γ s) (I : g_I Γ ph s H locs) {ci : Nat} {C : String} {T : u_T} {N : Nat} {ty : Nat → FieldType} (hc : g_cls ci C T N ty) {fs : List Value} (ha : g_at Γ ph a (.inr (ci, fs))) (k : Nat) (hk : k < N) {ref : String} {index : Nat} (hl : Cond.fieldLink own index ref (T k).2.1 (T k).2.2.1 ∈ lw_all) (hr : Cond.sameField ref (T k).1 (T k).2.1 (T k).2.2.1 ∈ lw_all) {v : Value} (hv : fs[k]? = some v) (hdg : decode cc pc = .ok (.getfield index, 3))
    (kk : W p l e R s m args below meth c H locs cells slots Q (F0 m (pc + 3) ls (v :: rest))) : W p l e R s m args below meth c H locs cells slots Q (F0 m pc ls (.ref a :: rest)) := by
  obtain ⟨ws, q0, hP, he⟩ := I.read hK ha
  exact va_get S.1 S.2.1 S.2.2.2.2 hc.2.1 S.2.2.2.1 hK.1 hP q0 he hc.1 k hk (S.2.2.2.2 _ hl) (u_same (S.2.2.2.2 _ hr)) hv hdg kk
theorem g_putU (S : CallFix p m c cc nL s args lw_all own) (hK : g_K Γ s) (I : g_I Γ ph s H locs) {ci : Nat} {C : String} {T : u_T} {N : Nat} {ty : Nat → FieldType} (hc : g_cls ci C T N ty) {j i : Nat} {fs : List Value} (ha : ph j i a = some (.inr (ci, fs))) (k : Nat) (hk : k < N) {ref : String} {index : Nat} (hl : Cond.fieldLink own index ref (T k).2.1 (T k).2.2.1 ∈ lw_all) (hr : Cond.sameField ref (T k).1 (T k).2.1 (T k).2.2.1 ∈ lw_all) (hfin : (T k).2.2.2 = false) {v : Value} (hn : narrow (ty k) v = v) (hfit : fits (ty k) v = true) (hlen : k < fs.length) (hdg : decode cc pc = .ok (.putfield index, 3))
    (kk : ∀ (H1 : Heap) (locs1 : List Loc), g_I Γ (gput ph j i a (.inr (ci, fs.set k v))) s H1 locs1 → W p l e R s m args below meth c H1 locs1 cells slots Q (F0 m (pc + 3) ls rest)) : W p l e R s m args below meth c H locs cells slots Q (F0 m pc ls (v :: .ref a :: rest)) := by
  obtain ⟨⟨L, h1, h2, h3⟩, hS⟩ := I
  obtain ⟨q0, hq⟩ := h1 _ _ _ _ ha
  exact va_put S.1 S.2.1 S.2.2.2.2 hc.2.1 ty hc.2.2.1 hc.2.2.2 S.2.2.2.1 hK.1 h2 h3 hS q0 (g_in.snd hq) hc.1 k hk (S.2.2.2.2 _ hl) (u_same (S.2.2.2.2 _ hr)) hfin (hc.2.2.1 k hk) hn hfit hlen hdg (fun H1 locs1 hP hD hS => kk H1 locs1 ⟨g_G.set h1 h3 hq hP hD, hS⟩)
end FU

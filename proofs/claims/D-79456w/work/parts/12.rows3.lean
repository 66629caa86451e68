/-! ROWS over the ghost heap: behind a call by what it returns; a method's end -/
set_option maxRecDepth 100000
section GC
variable {p : Program} {l : Launch} {e : Env} {R : Room} {s : State} {m : MethodId} {args : Array Value} {below : List Frame} {meth : Method} {c : Code} {H : Heap} {locs : List Loc} {cells slots : Nat} {Q : State → Prop}
variable {cc : ByteArray} {pc : Nat} {ls : Array Slot} {rest st0 : List Value} {Γ : g_C} {ph : g_H} {a nL : Nat} {own : String} {mc ms : Nat} {a9 : Array Value} {px : String → Nat → g_H → Prop}
theorem g_cix {po : Int32 → g_H → Prop} (hr : vx_Run p l e R s m args below meth c H locs cells slots mc ms (F0 m pc ls st0) rest (g_Q Γ (g_oi po) a9) (g_X Γ px) (g_A Γ)) (I : g_I Γ ph s H locs)
    (kx : ∀ (E : String) (ce : Cell) (q : Nat) (ph1 : g_H) (H1 : Heap) (locs1 : List Loc), px E q ph1 → g_I Γ ph1 s H1 locs1 → H1[q]? = some ce → ce.vm = .none → s.vm.findClass E = some ce.cls → vx_W p l e R s m args below meth c H1 locs1 (cells + mc) (slots + ms) Q (F0 m pc ls rest) q)
    (kk : (∀ v : Int32, ∀ (ph1 : g_H) (H1 : Heap) (locs1 : List Loc), po v ph1 → g_I Γ ph1 s H1 locs1 → W p l e R s m args below meth c H1 locs1 (cells + mc) (slots + ms) Q (F0 m (pc + 3) ls (.int v :: rest)))) : W p l e R s m args below meth c H locs cells slots Q (F0 m pc ls st0) := by
  refine g_call (k3 := 3) hr I kx (fun r ph1 H1 locs1 hp I1 => ?_)
  obtain ⟨v, rfl, hp⟩ := hp
  exact kk v ph1 H1 locs1 hp I1
theorem g_ci {po : Int32 → g_H → Prop} (hr : vx_Run p l e R s m args below meth c H locs cells slots mc ms (F0 m pc ls st0) rest (g_Q Γ (g_oi po) a9) (g_X Γ g_no) (g_A Γ)) (I : g_I Γ ph s H locs)
    (kk : (∀ v : Int32, ∀ (ph1 : g_H) (H1 : Heap) (locs1 : List Loc), po v ph1 → g_I Γ ph1 s H1 locs1 → W p l e R s m args below meth c H1 locs1 (cells + mc) (slots + ms) Q (F0 m (pc + 3) ls (.int v :: rest)))) : W p l e R s m args below meth c H locs cells slots Q (F0 m pc ls st0) := by
  refine g_call (k3 := 3) hr I (fun _ _ _ _ _ _ h => h.elim) (fun r ph1 H1 locs1 hp I1 => ?_)
  obtain ⟨v, rfl, hp⟩ := hp
  exact kk v ph1 H1 locs1 hp I1
theorem g_cfx {po : UInt32 → g_H → Prop} (hr : vx_Run p l e R s m args below meth c H locs cells slots mc ms (F0 m pc ls st0) rest (g_Q Γ (g_of po) a9) (g_X Γ px) (g_A Γ)) (I : g_I Γ ph s H locs)
    (kx : ∀ (E : String) (ce : Cell) (q : Nat) (ph1 : g_H) (H1 : Heap) (locs1 : List Loc), px E q ph1 → g_I Γ ph1 s H1 locs1 → H1[q]? = some ce → ce.vm = .none → s.vm.findClass E = some ce.cls → vx_W p l e R s m args below meth c H1 locs1 (cells + mc) (slots + ms) Q (F0 m pc ls rest) q)
    (kk : (∀ v : UInt32, ∀ (ph1 : g_H) (H1 : Heap) (locs1 : List Loc), po v ph1 → g_I Γ ph1 s H1 locs1 → W p l e R s m args below meth c H1 locs1 (cells + mc) (slots + ms) Q (F0 m (pc + 3) ls (.float v :: rest)))) : W p l e R s m args below meth c H locs cells slots Q (F0 m pc ls st0) := by
  refine g_call (k3 := 3) hr I kx (fun r ph1 H1 locs1 hp I1 => ?_)
  obtain ⟨v, rfl, hp⟩ := hp
  exact kk v ph1 H1 locs1 hp I1
theorem g_cf {po : UInt32 → g_H → Prop} (hr : vx_Run p l e R s m args below meth c H locs cells slots mc ms (F0 m pc ls st0) rest (g_Q Γ (g_of po) a9) (g_X Γ g_no) (g_A Γ)) (I : g_I Γ ph s H locs)
    (kk : (∀ v : UInt32, ∀ (ph1 : g_H) (H1 : Heap) (locs1 : List Loc), po v ph1 → g_I Γ ph1 s H1 locs1 → W p l e R s m args below meth c H1 locs1 (cells + mc) (slots + ms) Q (F0 m (pc + 3) ls (.float v :: rest)))) : W p l e R s m args below meth c H locs cells slots Q (F0 m pc ls st0) := by
  refine g_call (k3 := 3) hr I (fun _ _ _ _ _ _ h => h.elim) (fun r ph1 H1 locs1 hp I1 => ?_)
  obtain ⟨v, rfl, hp⟩ := hp
  exact kk v ph1 H1 locs1 hp I1
theorem g_clx {po : Int64 → g_H → Prop} (hr : vx_Run p l e R s m args below meth c H locs cells slots mc ms (F0 m pc ls st0) rest (g_Q Γ (g_ol po) a9) (g_X Γ px) (g_A Γ)) (I : g_I Γ ph s H locs)
    (kx : ∀ (E : String) (ce : Cell) (q : Nat) (ph1 : g_H) (H1 : Heap) (locs1 : List Loc), px E q ph1 → g_I Γ ph1 s H1 locs1 → H1[q]? = some ce → ce.vm = .none → s.vm.findClass E = some ce.cls → vx_W p l e R s m args below meth c H1 locs1 (cells + mc) (slots + ms) Q (F0 m pc ls rest) q)
    (kk : (∀ v : Int64, ∀ (ph1 : g_H) (H1 : Heap) (locs1 : List Loc), po v ph1 → g_I Γ ph1 s H1 locs1 → W p l e R s m args below meth c H1 locs1 (cells + mc) (slots + ms) Q (F0 m (pc + 3) ls (.long v :: rest)))) : W p l e R s m args below meth c H locs cells slots Q (F0 m pc ls st0) := by
  refine g_call (k3 := 3) hr I kx (fun r ph1 H1 locs1 hp I1 => ?_)
  obtain ⟨v, rfl, hp⟩ := hp
  exact kk v ph1 H1 locs1 hp I1
theorem g_cl {po : Int64 → g_H → Prop} (hr : vx_Run p l e R s m args below meth c H locs cells slots mc ms (F0 m pc ls st0) rest (g_Q Γ (g_ol po) a9) (g_X Γ g_no) (g_A Γ)) (I : g_I Γ ph s H locs)
    (kk : (∀ v : Int64, ∀ (ph1 : g_H) (H1 : Heap) (locs1 : List Loc), po v ph1 → g_I Γ ph1 s H1 locs1 → W p l e R s m args below meth c H1 locs1 (cells + mc) (slots + ms) Q (F0 m (pc + 3) ls (.long v :: rest)))) : W p l e R s m args below meth c H locs cells slots Q (F0 m pc ls st0) := by
  refine g_call (k3 := 3) hr I (fun _ _ _ _ _ _ h => h.elim) (fun r ph1 H1 locs1 hp I1 => ?_)
  obtain ⟨v, rfl, hp⟩ := hp
  exact kk v ph1 H1 locs1 hp I1
theorem g_cvx {po : g_H → Prop} (hr : vx_Run p l e R s m args below meth c H locs cells slots mc ms (F0 m pc ls st0) rest (g_Q Γ (g_ov po) a9) (g_X Γ px) (g_A Γ)) (I : g_I Γ ph s H locs)
    (kx : ∀ (E : String) (ce : Cell) (q : Nat) (ph1 : g_H) (H1 : Heap) (locs1 : List Loc), px E q ph1 → g_I Γ ph1 s H1 locs1 → H1[q]? = some ce → ce.vm = .none → s.vm.findClass E = some ce.cls → vx_W p l e R s m args below meth c H1 locs1 (cells + mc) (slots + ms) Q (F0 m pc ls rest) q)
    (kk : (∀ (ph1 : g_H) (H1 : Heap) (locs1 : List Loc), po ph1 → g_I Γ ph1 s H1 locs1 → W p l e R s m args below meth c H1 locs1 (cells + mc) (slots + ms) Q (F0 m (pc + 3) ls rest))) : W p l e R s m args below meth c H locs cells slots Q (F0 m pc ls st0) := by
  refine g_call (k3 := 3) hr I kx (fun r ph1 H1 locs1 hp I1 => ?_)
  obtain ⟨rfl, hp⟩ := hp
  exact kk ph1 H1 locs1 hp I1
theorem g_cv {po : g_H → Prop} (hr : vx_Run p l e R s m args below meth c H locs cells slots mc ms (F0 m pc ls st0) rest (g_Q Γ (g_ov po) a9) (g_X Γ g_no) (g_A Γ)) (I : g_I Γ ph s H locs)
    (kk : (∀ (ph1 : g_H) (H1 : Heap) (locs1 : List Loc), po ph1 → g_I Γ ph1 s H1 locs1 → W p l e R s m args below meth c H1 locs1 (cells + mc) (slots + ms) Q (F0 m (pc + 3) ls rest))) : W p l e R s m args below meth c H locs cells slots Q (F0 m pc ls st0) := by
  refine g_call (k3 := 3) hr I (fun _ _ _ _ _ _ h => h.elim) (fun r ph1 H1 locs1 hp I1 => ?_)
  obtain ⟨rfl, hp⟩ := hp
  exact kk ph1 H1 locs1 hp I1
theorem g_crx {po : Nat → g_H → Prop} (hr : vx_Run p l e R s m args below meth c H locs cells slots mc ms (F0 m pc ls st0) rest (g_Q Γ (g_or po) a9) (g_X Γ px) (g_A Γ)) (I : g_I Γ ph s H locs)
    (kx : ∀ (E : String) (ce : Cell) (q : Nat) (ph1 : g_H) (H1 : Heap) (locs1 : List Loc), px E q ph1 → g_I Γ ph1 s H1 locs1 → H1[q]? = some ce → ce.vm = .none → s.vm.findClass E = some ce.cls → vx_W p l e R s m args below meth c H1 locs1 (cells + mc) (slots + ms) Q (F0 m pc ls rest) q)
    (kk : (∀ v : Nat, ∀ (ph1 : g_H) (H1 : Heap) (locs1 : List Loc), po v ph1 → g_I Γ ph1 s H1 locs1 → W p l e R s m args below meth c H1 locs1 (cells + mc) (slots + ms) Q (F0 m (pc + 3) ls (.ref v :: rest)))) : W p l e R s m args below meth c H locs cells slots Q (F0 m pc ls st0) := by
  refine g_call (k3 := 3) hr I kx (fun r ph1 H1 locs1 hp I1 => ?_)
  obtain ⟨v, rfl, hp⟩ := hp
  exact kk v ph1 H1 locs1 hp I1
theorem g_cr {po : Nat → g_H → Prop} (hr : vx_Run p l e R s m args below meth c H locs cells slots mc ms (F0 m pc ls st0) rest (g_Q Γ (g_or po) a9) (g_X Γ g_no) (g_A Γ)) (I : g_I Γ ph s H locs)
    (kk : (∀ v : Nat, ∀ (ph1 : g_H) (H1 : Heap) (locs1 : List Loc), po v ph1 → g_I Γ ph1 s H1 locs1 → W p l e R s m args below meth c H1 locs1 (cells + mc) (slots + ms) Q (F0 m (pc + 3) ls (.ref v :: rest)))) : W p l e R s m args below meth c H locs cells slots Q (F0 m pc ls st0) := by
  refine g_call (k3 := 3) hr I (fun _ _ _ _ _ _ h => h.elim) (fun r ph1 H1 locs1 hp I1 => ?_)
  obtain ⟨v, rfl, hp⟩ := hp
  exact kk v ph1 H1 locs1 hp I1
theorem g_cqx {po : Option Nat → g_H → Prop} (hr : vx_Run p l e R s m args below meth c H locs cells slots mc ms (F0 m pc ls st0) rest (g_Q Γ (g_oq po) a9) (g_X Γ px) (g_A Γ)) (I : g_I Γ ph s H locs)
    (kx : ∀ (E : String) (ce : Cell) (q : Nat) (ph1 : g_H) (H1 : Heap) (locs1 : List Loc), px E q ph1 → g_I Γ ph1 s H1 locs1 → H1[q]? = some ce → ce.vm = .none → s.vm.findClass E = some ce.cls → vx_W p l e R s m args below meth c H1 locs1 (cells + mc) (slots + ms) Q (F0 m pc ls rest) q)
    (kk : (∀ v : Option Nat, ∀ (ph1 : g_H) (H1 : Heap) (locs1 : List Loc), po v ph1 → g_I Γ ph1 s H1 locs1 → W p l e R s m args below meth c H1 locs1 (cells + mc) (slots + ms) Q (F0 m (pc + 3) ls (va_rf v :: rest)))) : W p l e R s m args below meth c H locs cells slots Q (F0 m pc ls st0) := by
  refine g_call (k3 := 3) hr I kx (fun r ph1 H1 locs1 hp I1 => ?_)
  obtain ⟨v, rfl, hp⟩ := hp
  exact kk v ph1 H1 locs1 hp I1
theorem g_cq {po : Option Nat → g_H → Prop} (hr : vx_Run p l e R s m args below meth c H locs cells slots mc ms (F0 m pc ls st0) rest (g_Q Γ (g_oq po) a9) (g_X Γ g_no) (g_A Γ)) (I : g_I Γ ph s H locs)
    (kk : (∀ v : Option Nat, ∀ (ph1 : g_H) (H1 : Heap) (locs1 : List Loc), po v ph1 → g_I Γ ph1 s H1 locs1 → W p l e R s m args below meth c H1 locs1 (cells + mc) (slots + ms) Q (F0 m (pc + 3) ls (va_rf v :: rest)))) : W p l e R s m args below meth c H locs cells slots Q (F0 m pc ls st0) := by
  refine g_call (k3 := 3) hr I (fun _ _ _ _ _ _ h => h.elim) (fun r ph1 H1 locs1 hp I1 => ?_)
  obtain ⟨v, rfl, hp⟩ := hp
  exact kk v ph1 H1 locs1 hp I1
theorem g_cFix {po : Int32 → g_H → Prop} (hr : vx_Run5 p l e R s m args below meth c H locs cells slots mc ms (F0 m pc ls st0) rest (g_Q Γ (g_oi po) a9) (g_X Γ px) (g_A Γ)) (I : g_I Γ ph s H locs)
    (kx : ∀ (E : String) (ce : Cell) (q : Nat) (ph1 : g_H) (H1 : Heap) (locs1 : List Loc), px E q ph1 → g_I Γ ph1 s H1 locs1 → H1[q]? = some ce → ce.vm = .none → s.vm.findClass E = some ce.cls → vx_W p l e R s m args below meth c H1 locs1 (cells + mc) (slots + ms) Q (F0 m pc ls rest) q)
    (kk : (∀ v : Int32, ∀ (ph1 : g_H) (H1 : Heap) (locs1 : List Loc), po v ph1 → g_I Γ ph1 s H1 locs1 → W p l e R s m args below meth c H1 locs1 (cells + mc) (slots + ms) Q (F0 m (pc + 5) ls (.int v :: rest)))) : W p l e R s m args below meth c H locs cells slots Q (F0 m pc ls st0) := by
  refine g_call (k3 := 5) hr I kx (fun r ph1 H1 locs1 hp I1 => ?_)
  obtain ⟨v, rfl, hp⟩ := hp
  exact kk v ph1 H1 locs1 hp I1
theorem g_cFi {po : Int32 → g_H → Prop} (hr : vx_Run5 p l e R s m args below meth c H locs cells slots mc ms (F0 m pc ls st0) rest (g_Q Γ (g_oi po) a9) (g_X Γ g_no) (g_A Γ)) (I : g_I Γ ph s H locs)
    (kk : (∀ v : Int32, ∀ (ph1 : g_H) (H1 : Heap) (locs1 : List Loc), po v ph1 → g_I Γ ph1 s H1 locs1 → W p l e R s m args below meth c H1 locs1 (cells + mc) (slots + ms) Q (F0 m (pc + 5) ls (.int v :: rest)))) : W p l e R s m args below meth c H locs cells slots Q (F0 m pc ls st0) := by
  refine g_call (k3 := 5) hr I (fun _ _ _ _ _ _ h => h.elim) (fun r ph1 H1 locs1 hp I1 => ?_)
  obtain ⟨v, rfl, hp⟩ := hp
  exact kk v ph1 H1 locs1 hp I1
theorem g_cFfx {po : UInt32 → g_H → Prop} (hr : vx_Run5 p l e R s m args below meth c H locs cells slots mc ms (F0 m pc ls st0) rest (g_Q Γ (g_of po) a9) (g_X Γ px) (g_A Γ)) (I : g_I Γ ph s H locs)
    (kx : ∀ (E : String) (ce : Cell) (q : Nat) (ph1 : g_H) (H1 : Heap) (locs1 : List Loc), px E q ph1 → g_I Γ ph1 s H1 locs1 → H1[q]? = some ce → ce.vm = .none → s.vm.findClass E = some ce.cls → vx_W p l e R s m args below meth c H1 locs1 (cells + mc) (slots + ms) Q (F0 m pc ls rest) q)
    (kk : (∀ v : UInt32, ∀ (ph1 : g_H) (H1 : Heap) (locs1 : List Loc), po v ph1 → g_I Γ ph1 s H1 locs1 → W p l e R s m args below meth c H1 locs1 (cells + mc) (slots + ms) Q (F0 m (pc + 5) ls (.float v :: rest)))) : W p l e R s m args below meth c H locs cells slots Q (F0 m pc ls st0) := by
  refine g_call (k3 := 5) hr I kx (fun r ph1 H1 locs1 hp I1 => ?_)
  obtain ⟨v, rfl, hp⟩ := hp
  exact kk v ph1 H1 locs1 hp I1
theorem g_cFf {po : UInt32 → g_H → Prop} (hr : vx_Run5 p l e R s m args below meth c H locs cells slots mc ms (F0 m pc ls st0) rest (g_Q Γ (g_of po) a9) (g_X Γ g_no) (g_A Γ)) (I : g_I Γ ph s H locs)
    (kk : (∀ v : UInt32, ∀ (ph1 : g_H) (H1 : Heap) (locs1 : List Loc), po v ph1 → g_I Γ ph1 s H1 locs1 → W p l e R s m args below meth c H1 locs1 (cells + mc) (slots + ms) Q (F0 m (pc + 5) ls (.float v :: rest)))) : W p l e R s m args below meth c H locs cells slots Q (F0 m pc ls st0) := by
  refine g_call (k3 := 5) hr I (fun _ _ _ _ _ _ h => h.elim) (fun r ph1 H1 locs1 hp I1 => ?_)
  obtain ⟨v, rfl, hp⟩ := hp
  exact kk v ph1 H1 locs1 hp I1
theorem g_cFlx {po : Int64 → g_H → Prop} (hr : vx_Run5 p l e R s m args below meth c H locs cells slots mc ms (F0 m pc ls st0) rest (g_Q Γ (g_ol po) a9) (g_X Γ px) (g_A Γ)) (I : g_I Γ ph s H locs)
    (kx : ∀ (E : String) (ce : Cell) (q : Nat) (ph1 : g_H) (H1 : Heap) (locs1 : List Loc), px E q ph1 → g_I Γ ph1 s H1 locs1 → H1[q]? = some ce → ce.vm = .none → s.vm.findClass E = some ce.cls → vx_W p l e R s m args below meth c H1 locs1 (cells + mc) (slots + ms) Q (F0 m pc ls rest) q)
    (kk : (∀ v : Int64, ∀ (ph1 : g_H) (H1 : Heap) (locs1 : List Loc), po v ph1 → g_I Γ ph1 s H1 locs1 → W p l e R s m args below meth c H1 locs1 (cells + mc) (slots + ms) Q (F0 m (pc + 5) ls (.long v :: rest)))) : W p l e R s m args below meth c H locs cells slots Q (F0 m pc ls st0) := by
  refine g_call (k3 := 5) hr I kx (fun r ph1 H1 locs1 hp I1 => ?_)
  obtain ⟨v, rfl, hp⟩ := hp
  exact kk v ph1 H1 locs1 hp I1
theorem g_cFl {po : Int64 → g_H → Prop} (hr : vx_Run5 p l e R s m args below meth c H locs cells slots mc ms (F0 m pc ls st0) rest (g_Q Γ (g_ol po) a9) (g_X Γ g_no) (g_A Γ)) (I : g_I Γ ph s H locs)
    (kk : (∀ v : Int64, ∀ (ph1 : g_H) (H1 : Heap) (locs1 : List Loc), po v ph1 → g_I Γ ph1 s H1 locs1 → W p l e R s m args below meth c H1 locs1 (cells + mc) (slots + ms) Q (F0 m (pc + 5) ls (.long v :: rest)))) : W p l e R s m args below meth c H locs cells slots Q (F0 m pc ls st0) := by
  refine g_call (k3 := 5) hr I (fun _ _ _ _ _ _ h => h.elim) (fun r ph1 H1 locs1 hp I1 => ?_)
  obtain ⟨v, rfl, hp⟩ := hp
  exact kk v ph1 H1 locs1 hp I1
theorem g_cFvx {po : g_H → Prop} (hr : vx_Run5 p l e R s m args below meth c H locs cells slots mc ms (F0 m pc ls st0) rest (g_Q Γ (g_ov po) a9) (g_X Γ px) (g_A Γ)) (I : g_I Γ ph s H locs)
    (kx : ∀ (E : String) (ce : Cell) (q : Nat) (ph1 : g_H) (H1 : Heap) (locs1 : List Loc), px E q ph1 → g_I Γ ph1 s H1 locs1 → H1[q]? = some ce → ce.vm = .none → s.vm.findClass E = some ce.cls → vx_W p l e R s m args below meth c H1 locs1 (cells + mc) (slots + ms) Q (F0 m pc ls rest) q)
    (kk : (∀ (ph1 : g_H) (H1 : Heap) (locs1 : List Loc), po ph1 → g_I Γ ph1 s H1 locs1 → W p l e R s m args below meth c H1 locs1 (cells + mc) (slots + ms) Q (F0 m (pc + 5) ls rest))) : W p l e R s m args below meth c H locs cells slots Q (F0 m pc ls st0) := by
  refine g_call (k3 := 5) hr I kx (fun r ph1 H1 locs1 hp I1 => ?_)
  obtain ⟨rfl, hp⟩ := hp
  exact kk ph1 H1 locs1 hp I1
theorem g_cFv {po : g_H → Prop} (hr : vx_Run5 p l e R s m args below meth c H locs cells slots mc ms (F0 m pc ls st0) rest (g_Q Γ (g_ov po) a9) (g_X Γ g_no) (g_A Γ)) (I : g_I Γ ph s H locs)
    (kk : (∀ (ph1 : g_H) (H1 : Heap) (locs1 : List Loc), po ph1 → g_I Γ ph1 s H1 locs1 → W p l e R s m args below meth c H1 locs1 (cells + mc) (slots + ms) Q (F0 m (pc + 5) ls rest))) : W p l e R s m args below meth c H locs cells slots Q (F0 m pc ls st0) := by
  refine g_call (k3 := 5) hr I (fun _ _ _ _ _ _ h => h.elim) (fun r ph1 H1 locs1 hp I1 => ?_)
  obtain ⟨rfl, hp⟩ := hp
  exact kk ph1 H1 locs1 hp I1
theorem g_cFrx {po : Nat → g_H → Prop} (hr : vx_Run5 p l e R s m args below meth c H locs cells slots mc ms (F0 m pc ls st0) rest (g_Q Γ (g_or po) a9) (g_X Γ px) (g_A Γ)) (I : g_I Γ ph s H locs)
    (kx : ∀ (E : String) (ce : Cell) (q : Nat) (ph1 : g_H) (H1 : Heap) (locs1 : List Loc), px E q ph1 → g_I Γ ph1 s H1 locs1 → H1[q]? = some ce → ce.vm = .none → s.vm.findClass E = some ce.cls → vx_W p l e R s m args below meth c H1 locs1 (cells + mc) (slots + ms) Q (F0 m pc ls rest) q)
    (kk : (∀ v : Nat, ∀ (ph1 : g_H) (H1 : Heap) (locs1 : List Loc), po v ph1 → g_I Γ ph1 s H1 locs1 → W p l e R s m args below meth c H1 locs1 (cells + mc) (slots + ms) Q (F0 m (pc + 5) ls (.ref v :: rest)))) : W p l e R s m args below meth c H locs cells slots Q (F0 m pc ls st0) := by
  refine g_call (k3 := 5) hr I kx (fun r ph1 H1 locs1 hp I1 => ?_)
  obtain ⟨v, rfl, hp⟩ := hp
  exact kk v ph1 H1 locs1 hp I1
theorem g_cFr {po : Nat → g_H → Prop} (hr : vx_Run5 p l e R s m args below meth c H locs cells slots mc ms (F0 m pc ls st0) rest (g_Q Γ (g_or po) a9) (g_X Γ g_no) (g_A Γ)) (I : g_I Γ ph s H locs)
    (kk : (∀ v : Nat, ∀ (ph1 : g_H) (H1 : Heap) (locs1 : List Loc), po v ph1 → g_I Γ ph1 s H1 locs1 → W p l e R s m args below meth c H1 locs1 (cells + mc) (slots + ms) Q (F0 m (pc + 5) ls (.ref v :: rest)))) : W p l e R s m args below meth c H locs cells slots Q (F0 m pc ls st0) := by
  refine g_call (k3 := 5) hr I (fun _ _ _ _ _ _ h => h.elim) (fun r ph1 H1 locs1 hp I1 => ?_)
  obtain ⟨v, rfl, hp⟩ := hp
  exact kk v ph1 H1 locs1 hp I1
theorem g_cFqx {po : Option Nat → g_H → Prop} (hr : vx_Run5 p l e R s m args below meth c H locs cells slots mc ms (F0 m pc ls st0) rest (g_Q Γ (g_oq po) a9) (g_X Γ px) (g_A Γ)) (I : g_I Γ ph s H locs)
    (kx : ∀ (E : String) (ce : Cell) (q : Nat) (ph1 : g_H) (H1 : Heap) (locs1 : List Loc), px E q ph1 → g_I Γ ph1 s H1 locs1 → H1[q]? = some ce → ce.vm = .none → s.vm.findClass E = some ce.cls → vx_W p l e R s m args below meth c H1 locs1 (cells + mc) (slots + ms) Q (F0 m pc ls rest) q)
    (kk : (∀ v : Option Nat, ∀ (ph1 : g_H) (H1 : Heap) (locs1 : List Loc), po v ph1 → g_I Γ ph1 s H1 locs1 → W p l e R s m args below meth c H1 locs1 (cells + mc) (slots + ms) Q (F0 m (pc + 5) ls (va_rf v :: rest)))) : W p l e R s m args below meth c H locs cells slots Q (F0 m pc ls st0) := by
  refine g_call (k3 := 5) hr I kx (fun r ph1 H1 locs1 hp I1 => ?_)
  obtain ⟨v, rfl, hp⟩ := hp
  exact kk v ph1 H1 locs1 hp I1
theorem g_cFq {po : Option Nat → g_H → Prop} (hr : vx_Run5 p l e R s m args below meth c H locs cells slots mc ms (F0 m pc ls st0) rest (g_Q Γ (g_oq po) a9) (g_X Γ g_no) (g_A Γ)) (I : g_I Γ ph s H locs)
    (kk : (∀ v : Option Nat, ∀ (ph1 : g_H) (H1 : Heap) (locs1 : List Loc), po v ph1 → g_I Γ ph1 s H1 locs1 → W p l e R s m args below meth c H1 locs1 (cells + mc) (slots + ms) Q (F0 m (pc + 5) ls (va_rf v :: rest)))) : W p l e R s m args below meth c H locs cells slots Q (F0 m pc ls st0) := by
  refine g_call (k3 := 5) hr I (fun _ _ _ _ _ _ h => h.elim) (fun r ph1 H1 locs1 hp I1 => ?_)
  obtain ⟨v, rfl, hp⟩ := hp
  exact kk v ph1 H1 locs1 hp I1
/-! a method's end -/
theorem g_iret (S : CallFix p m c cc nL s args lw_all own) (hr : meth.sig.returnType = some .int) (hlk : meth.locks = false) (I : g_I Γ ph s H locs) {post : Option Value → g_H → Prop} {v : Int32} (hdg : decode cc pc = .ok (.ireturn, 1)) (hc : cells ≤ mc) (hs : slots ≤ ms) (hQ : Q = vx_MQ below (g_Q Γ post) (g_X Γ px) args s mc ms (g_A Γ)) (hp : post (some (.int v)) ph) : W p l e R s m args below meth c H locs cells slots Q (F0 m pc ls [.int v]) := by
  subst hQ
  exact W.widen hc hs (vx_ret (W.iret S.1 S.2.1 hr (fun t ht hW => ⟨⟨_, ph, rfl, hp, by rw [ht]; exact I.1⟩, I.2.F ht⟩) I.2.2.2 hdg hlk))
theorem g_zret (S : CallFix p m c cc nL s args lw_all own) {ty : FieldType} (hr : meth.sig.returnType = some ty) (hlk : meth.locks = false) (I : g_I Γ ph s H locs) {post : Option Value → g_H → Prop} {v : Int32} (hn : narrow ty (.int v) = .int v) (hdg : decode cc pc = .ok (.ireturn, 1)) (hc : cells ≤ mc) (hs : slots ≤ ms) (hQ : Q = vx_MQ below (g_Q Γ post) (g_X Γ px) args s mc ms (g_A Γ)) (hp : post (some (.int v)) ph) : W p l e R s m args below meth c H locs cells slots Q (F0 m pc ls [.int v]) := by
  subst hQ
  exact W.widen hc hs (vx_ret (W.zret S.1 S.2.1 hr hn (fun t ht hW => ⟨⟨_, ph, rfl, hp, by rw [ht]; exact I.1⟩, I.2.F ht⟩) I.2.2.2 hdg hlk))
theorem g_vret (S : CallFix p m c cc nL s args lw_all own) (hr : meth.sig.returnType = none) (hlk : meth.locks = false) (I : g_I Γ ph s H locs) {post : Option Value → g_H → Prop} (hdg : decode cc pc = .ok (.return_, 1)) (hc : cells ≤ mc) (hs : slots ≤ ms) (hQ : Q = vx_MQ below (g_Q Γ post) (g_X Γ px) args s mc ms (g_A Γ)) (hp : post none ph) : W p l e R s m args below meth c H locs cells slots Q (F0 m pc ls []) := by
  subst hQ
  exact W.widen hc hs (vx_ret (W.vret S.1 S.2.1 hr (fun t ht hW => ⟨⟨_, ph, rfl, hp, by rw [ht]; exact I.1⟩, I.2.F ht⟩) I.2.2.2 hdg hlk))
theorem g_fret (S : CallFix p m c cc nL s args lw_all own) (hr : meth.sig.returnType = some .float) (hlk : meth.locks = false) (I : g_I Γ ph s H locs) {post : Option Value → g_H → Prop} {v : UInt32} (hdg : decode cc pc = .ok (.freturn, 1)) (hc : cells ≤ mc) (hs : slots ≤ ms) (hQ : Q = vx_MQ below (g_Q Γ post) (g_X Γ px) args s mc ms (g_A Γ)) (hp : post (some (.float v)) ph) : W p l e R s m args below meth c H locs cells slots Q (F0 m pc ls [.float v]) := by
  subst hQ
  exact W.widen hc hs (vx_ret (W.fret S.1 S.2.1 hr (fun t ht hW => ⟨⟨_, ph, rfl, hp, by rw [ht]; exact I.1⟩, I.2.F ht⟩) I.2.2.2 hdg hlk))
theorem g_aret (S : CallFix p m c cc nL s args lw_all own) {rt : FieldType} (hr : meth.sig.returnType = some rt) (hrt : (∃ n, rt = .object n) ∨ ∃ t, rt = .array t) (hlk : meth.locks = false) (I : g_I Γ ph s H locs) {post : Option Value → g_H → Prop} {q : Nat} (hdg : decode cc pc = .ok (.areturn, 1)) (hc : cells ≤ mc) (hs : slots ≤ ms) (hQ : Q = vx_MQ below (g_Q Γ post) (g_X Γ px) args s mc ms (g_A Γ)) (hp : post (some (.ref q)) ph) : W p l e R s m args below meth c H locs cells slots Q (F0 m pc ls [.ref q]) := by
  subst hQ
  exact W.widen hc hs (vx_ret (W.aret S.1 S.2.1 hr hrt (Or.inr ⟨_, rfl⟩) (fun t ht hW => ⟨⟨_, ph, rfl, hp, by rw [ht]; exact I.1⟩, I.2.F ht⟩) I.2.2.2 hdg hlk))
theorem g_aretN (S : CallFix p m c cc nL s args lw_all own) {rt : FieldType} (hr : meth.sig.returnType = some rt) (hrt : (∃ n, rt = .object n) ∨ ∃ t, rt = .array t) (hlk : meth.locks = false) (I : g_I Γ ph s H locs) {post : Option Value → g_H → Prop} (hdg : decode cc pc = .ok (.areturn, 1)) (hc : cells ≤ mc) (hs : slots ≤ ms) (hQ : Q = vx_MQ below (g_Q Γ post) (g_X Γ px) args s mc ms (g_A Γ)) (hp : post (some .null) ph) : W p l e R s m args below meth c H locs cells slots Q (F0 m pc ls [.null]) := by
  subst hQ
  exact W.widen hc hs (vx_ret (W.aret S.1 S.2.1 hr hrt (Or.inl rfl) (fun t ht hW => ⟨⟨_, ph, rfl, hp, by rw [ht]; exact I.1⟩, I.2.F ht⟩) I.2.2.2 hdg hlk))
/-! an exception that goes on to the caller -/
theorem g_out (S : CallFix p m c cc nL s args lw_all own) (hlk : meth.locks = false) (hex : ∀ x ∈ c.exceptionTable.toList, False) (I : g_I Γ ph s H locs) {post : Option Value → g_H → Prop} {E : String} {ce : Cell} {q : Nat} (hcell : H[q]? = some ce) (hv : ce.vm = .none) (hcl : s.vm.findClass E = some ce.cls) (hc : cells ≤ mc) (hs : slots ≤ ms) (hQ : Q = vx_MQ below (g_Q Γ post) (g_X Γ px) args s mc ms (g_A Γ)) (hp : px E q ph) : vx_W p l e R s m args below meth c H locs cells slots Q (F0 m pc ls rest) q := by
  subst hQ
  exact vx_out (fun x hx => (hex x hx).elim) hlk hcell hv hcl (fun t ht hW => ⟨⟨ph, hp, by rw [ht]; exact I.1⟩, I.2.F ht⟩) I.2.2.2 hc hs
/-- out of a method with handlers, none of which takes it: each covers other rows, or asks for a class that the thrown one's isn't castable to -/
theorem g_outP {E : String} (S : CallFix p m c cc nL s args lw_all own) (hlk : meth.locks = false) (hpass : ∀ z ∈ c.exceptionTable.toList, covers z pc = false ∨ (z.catchType ≠ 0 ∧ ∃ nm : String, (Cond.classLink own z.catchType nm).before args s = true ∧ va_Nc E nm s)) (I : g_I Γ ph s H locs) {post : Option Value → g_H → Prop} {ce : Cell} {q : Nat} (hcell : H[q]? = some ce) (hv : ce.vm = .none) (hcl : s.vm.findClass E = some ce.cls) (hc : cells ≤ mc) (hs : slots ≤ ms) (hQ : Q = vx_MQ below (g_Q Γ post) (g_X Γ px) args s mc ms (g_A Γ)) (hp : px E q ph) : vx_W p l e R s m args below meth c H locs cells slots Q (F0 m pc ls rest) q := by
  subst hQ
  exact vx_outP S.2.2.2.1 hlk hpass hcell hv hcl (fun t ht hW => ⟨⟨ph, hp, by rw [ht]; exact I.1⟩, I.2.F ht⟩) I.2.2.2 hc hs
end GC

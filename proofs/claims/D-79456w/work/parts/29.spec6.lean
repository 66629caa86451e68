/-! THE PURE PICTURE: rows of forces, the rack -/
set_option maxRecDepth 100000
theorem ix_r {r : Int32} (h : vp_in r 3) {k : Nat} (hk : k < 16) : vp_in (16 * r + nI k) 48 ∧ (16 * r + nI k).toNatClampNeg = 16 * r.toNatClampNeg + k := by
  obtain ⟨j, h1, h2, h3⟩ := vp_j h (by decide)
  rw [h3, h2, show (16 : Int32) = nI 16 from rfl, pk_mul]
  exact ix_k (by omega) (by decide)
theorem ix_ri {r i : Int32} (h : vp_in r 3) (hi : vp_in i 16) : vp_in (16 * r + i) 48 ∧ (16 * r + i).toNatClampNeg = 16 * r.toNatClampNeg + i.toNatClampNeg := by
  obtain ⟨j, h1, h2, h3⟩ := vp_j hi (by decide)
  rw [h3, h2]
  exact ix_r h h1
theorem sn_of {K : Nat} {x : Int32} (h : fb K x.toUInt32) : vn_sni2f x = false := by
  have h := fb_n32 h
  unfold vf_n32 at h
  unfold vn_sni2f
  rw [show decide (x.toUInt32 &&& 0x7fffffff > 0x7f800000) = false from decide_eq_false (UInt32.not_lt.mpr h)]
  rfl
theorem fr_iff {w : m_w} (hw : WF w) {x : Int32} : btw x 0 (w 145 - 1) = true ↔ vp_in x (nFo w) := by
  rw [hw.2.2.2.1.1]
  exact vp_isBtw (Nat.lt_of_le_of_lt hw.2.2.2.1.2 (by decide))
theorem fr_ix {w : m_w} (hw : WF w) {x : Int32} (h : vp_in x (nFo w)) : vp_in (146 + x) 170 ∧ (146 + x).toNatClampNeg = 146 + x.toNatClampNeg := by
  have h8 := hw.2.2.2.1.2
  obtain ⟨j, h1, rfl, h3⟩ := vp_j h (by omega)
  rw [h3]
  exact ix_k (b := 146) (by omega) (by decide)
theorem fr_ixk {w : m_w} (hw : WF w) {k : Nat} (h : k < nFo w) : vp_in (146 + nI k) 170 ∧ (146 + nI k).toNatClampNeg = 146 + k := ix_k (b := 146) (by have := hw.2.2.2.1.2; omega) (by decide)
theorem FW.at {w : m_w} (hw : WF w) (hf : FW w) {x : Int32} (h : vp_in x (nFo w)) : fb 7 (w (146 + x.toNatClampNeg)).toUInt32 := by
  have h8 := hw.2.2.2.1.2
  obtain ⟨j, h1, rfl, h3⟩ := vp_j h (by omega)
  rw [h3]
  exact hf j h1
theorem isRw_iff {r : Int32} : btw r 0 2 = true ↔ vp_in r 3 := by
  have := vp_isBtw (x := r) (n := 3) (by decide)
  rw [show nI 3 - 1 = 2 from rfl] at this
  exact this
/-- a row kept: the first n forces -/
def kpN (rr : Nat → UInt32) (w : m_w) (r : Int32) : Nat → Nat → UInt32
  | 0 => rr
  | n + 1 => vf_upd (kpN rr w r n) (16 * r.toNatClampNeg + n) (w (146 + n)).toUInt32
/-- rows: how many of each; those there hold floats of the run -/
def RW (K : Nat) (a : Nat → Nat → Int32) (rr : Nat → UInt32) : Prop := ∀ r, r < 3 → (a 17 r = nI (a 17 r).toNatClampNeg ∧ (a 17 r).toNatClampNeg ≤ 16) ∧ (∀ k, k < (a 17 r).toNatClampNeg → fb K (rr (16 * r + k)))
theorem RW.mono {K L : Nat} {a : Nat → Nat → Int32} {rr : Nat → UInt32} (h : RW K a rr) (hl : K ≤ L) : RW L a rr := fun r hr => ⟨(h r hr).1, fun k hk => fb_mono ((h r hr).2 k hk) hl⟩
def sc1 (v : UInt32) : Int32 := if Op.cmpValue (FP.fcmp v 1065353216) .l ≤ 0 then 0 else 1
def scV (x : UInt32) (p : Int32) : UInt32 := FP.fdiv (FP.fmul x (FP.i2f p)) 1120403456
def scN (rr : Nat → UInt32) (f t p : Int32) : Nat → (Nat → UInt32) × Int32
  | 0 => (rr, 0)
  | n + 1 => (vf_upd (scN rr f t p n).1 (16 * t.toNatClampNeg + n) (scV ((scN rr f t p n).1 (16 * f.toNatClampNeg + n)) p), (scN rr f t p n).2 + sc1 (scV ((scN rr f t p n).1 (16 * f.toNatClampNeg + n)) p))
theorem vf_upd_n {α : Type} {f : Nat → α} {k j : Nat} {x : α} (h : j ≠ k) : vf_upd f k x j = f j := if_neg h
theorem vf_upd_s {α : Type} (f : Nat → α) (k : Nat) (x : α) : vf_upd f k x k = x := if_pos rfl
theorem scN_src {rr : Nat → UInt32} {f t p : Int32} (hf : vp_in f 3) (ht : vp_in t 3) {n k : Nat} (hn : n ≤ k) (hk : k < 16) : (scN rr f t p n).1 (16 * f.toNatClampNeg + k) = rr (16 * f.toNatClampNeg + k) := by
  obtain ⟨i, h1, h2, h3⟩ := vp_j hf (by decide)
  obtain ⟨j, g1, g2, g3⟩ := vp_j ht (by decide)
  induction n with
  | zero => rfl
  | succ n ih =>
    show vf_upd _ _ _ _ = _
    rw [vf_upd_n (by omega), ih (by omega)]
theorem pc_ok {p : Int32} (h : btw p 0 999 = true) : ∃ n, n ≤ 999 ∧ p = nI n := by
  have h1 := vp_isBtw (x := p) (n := 1000) (by decide)
  rw [show nI 1000 - 1 = 999 from rfl] at h1
  obtain ⟨n, g1, g2, -⟩ := vp_j (h1.mp h) (by decide)
  exact ⟨n, by omega, g2⟩
theorem fb_sc0 {K : Nat} {x : UInt32} {p : Int32} (h : fb K x) (hp : btw p 0 999 = true) (hK : K ≤ 90) : fb (K + 10) (FP.fmul x (FP.i2f p)) := by
  obtain ⟨n, h1, rfl⟩ := pc_ok hp
  exact fb_mul h (fb_i2f (by omega) (by omega) (by decide)) (by omega)
theorem fb_sc {K : Nat} {x : UInt32} {p : Int32} (h : fb K x) (hp : btw p 0 999 = true) (hK : K ≤ 90) : fb (K + 4) (scV x p) := by
  have h1 := fb_sc0 h hp hK
  exact fb_div (K := K + 4) (L := 6) (fb_mono h1 (by omega)) fge_100 (by omega)
theorem scN_oth {rr : Nat → UInt32} {f t p : Int32} {n j : Nat} (h : j < 16 * t.toNatClampNeg ∨ 16 * t.toNatClampNeg + n ≤ j) : (scN rr f t p n).1 j = rr j := by
  induction n with
  | zero => rfl
  | succ n ih =>
    show vf_upd _ _ _ _ = _
    rw [vf_upd_n (by omega), ih (by omega)]
theorem scN_fb {K : Nat} {rr : Nat → UInt32} {f t p : Int32} (hf : vp_in f 3) (ht : vp_in t 3) (hp : btw p 0 999 = true) (hK : K ≤ 90) {n : Nat} (hn : n ≤ 16) (h : ∀ k, k < n → fb K (rr (16 * f.toNatClampNeg + k))) : ∀ k, k < n → fb (K + 4) ((scN rr f t p n).1 (16 * t.toNatClampNeg + k)) := by
  induction n with
  | zero => intro k hk; omega
  | succ n ih =>
    intro k hk
    show fb _ (vf_upd _ _ _ _)
    by_cases e : k = n
    · subst e
      rw [vf_upd_s, scN_src hf ht (Nat.le_refl _) (by omega)]
      exact fb_sc (h k (by omega)) hp hK
    · rw [vf_upd_n (by omega)]
      exact ih (by omega) (fun k hk => h k (by omega)) k (by omega)
theorem kpN_oth {rr : Nat → UInt32} {w : m_w} {r : Int32} {n j : Nat} (h : j < 16 * r.toNatClampNeg ∨ 16 * r.toNatClampNeg + n ≤ j) : kpN rr w r n j = rr j := by
  induction n with
  | zero => rfl
  | succ n ih =>
    show vf_upd _ _ _ _ = _
    rw [vf_upd_n (by omega), ih (by omega)]
theorem kpN_fb {rr : Nat → UInt32} {w : m_w} {r : Int32} {n : Nat} (h : ∀ k, k < n → fb 7 (w (146 + k)).toUInt32) : ∀ k, k < n → fb 7 (kpN rr w r n (16 * r.toNatClampNeg + k)) := by
  induction n with
  | zero => intro k hk; omega
  | succ n ih =>
    intro k hk
    show fb _ (vf_upd _ _ _ _)
    by_cases e : k = n
    · subst e
      rw [vf_upd_s]
      exact h k (by omega)
    · rw [vf_upd_n (by omega)]
      exact ih (fun k hk => h k (by omega)) k (by omega)
/-! the rack -/
def onRk (r : Nat → Int32) : Int32 := sumN 6 (fun k => if r k < 0 then 0 else 1)
def clN (r : Nat → Int32) : Nat → Nat → Int32
  | 0 => r
  | n + 1 => upd (clN r n) n (-1)
def nNote (w : m_w) (kind h : Int32) : m_why := if ¬ kind = 4 ∧ ¬ hX w h 2 = kind then some (18, hX w h 2) else none
def lefV (w : m_w) (h : Int32) : Int32 := if ¬ h < 0 ∧ isHo w h = true ∧ hasCr w h = false then hX w h 3 - hX w h 4 else 0
def lefS (w : m_w) (r : Nat → Int32) : Int32 := sumN 6 (fun k => lefV w (r k))
/-! a float constant by its wide index -/
section LFW
variable {p : Program} {l : Launch} {e : Env} {R : Room} {s : State} {m : MethodId} {args : Array Value} {below : List Frame} {meth : Method} {c : Code} {H : Heap} {locs : List Loc} {cells slots : Nat} {Q : State → Prop}
variable {cc : ByteArray} {pc : Nat} {ls : Array Slot} {rest : List Value}
theorem g_ldcfw (hexec : p.tables.exec = Jvm.exec) (hb : c.code = cc) {own : String} {index : Nat} {v : UInt32} (hown : s.vm.findClass own = some m.cls) (hconst : (Cond.constantFloat own index v).before args s = true) (hdg : decode cc pc = .ok (.ldc_w index, 3)) (k : W p l e R s m args below meth c H locs cells slots Q (F0 m (pc + 3) ls (.float v :: rest))) : W p l e R s m args below meth c H locs cells slots Q (F0 m pc ls rest) := by
  intro T hT X
  obtain ⟨t, a, b⟩ := k T hT X
  obtain ⟨kc, cf, hk, hcf, hcp⟩ := Cond.constantFloat_spec hown hconst
  obtain ⟨k', hk', he⟩ := X.warmed.alike.2.2 _ _ hk
  refine ⟨t, ?_, b⟩
  have hd : decode c.code (F0 m pc ls rest).pc = .ok (.ldc_w index, 3) := by rw [hb]; exact hdg
  jvm_step X.here [hexec, hd, ldc_w.wp_float (s := T) (f := F0 m pc ls rest) X.here.top hk' (by rw [he]; exact hcf) hcp]
  exact a
end LFW

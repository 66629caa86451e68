/-! THE REFERENCE IN THE MAKING: its object, the arrays that are there yet -/
set_option maxRecDepth 100000
def cu (c : Nat → Option (Nat × va_E)) (k q : Nat) (e : va_E) : Nat → Option (Nat × va_E) := fun j => if j = k then some (q, e) else c j
def mH (mo : Nat) (fs : List Value) (c : Nat → Option (Nat × va_E)) (ph : g_H) : g_H := fun j i q => if 40 ≤ j then (if i = 0 then (if j = 40 then (if q = mo then some (.inr (4, fs)) else none) else match c (j - 40) with
  | some p => if q = p.1 then some p.2 else none
  | none => none) else ph j i q) else ph j i q
section MH
variable {Γ : g_C} {mo : Nat} {fs : List Value} {c : Nat → Option (Nat × va_E)} {ph : g_H} {s : State} {H : Heap} {locs : List Loc}
theorem mH_obj : mH mo fs c ph 40 0 mo = some (.inr (4, fs)) := by simp [mH]
theorem mH_f {fs' : List Value} : gput (mH mo fs c ph) 40 0 mo (.inr (4, fs')) = mH mo fs' c ph := by
  funext j i q
  unfold gput gset
  by_cases hj : j = 40
  · subst hj
    by_cases hi : i = 0
    · subst hi
      by_cases hq : q = mo
      · simp [pput, mH, hq]
      · simp [pput, mH, hq]
    · simp [hi, mH]
  · rw [if_neg hj]
    simp [mH, hj]
theorem mH_new {k q : Nat} {e : va_E} (h0 : k ≠ 0) (hc : c k = none) : gput (mH mo fs c ph) (40 + k) 0 q e = mH mo fs (cu c k q e) ph := by
  funext j i q'
  unfold gput gset
  by_cases hj : j = 40 + k
  · subst hj
    by_cases hi : i = 0
    · subst hi
      by_cases hq : q' = q
      · simp [pput, mH, h0, cu, hq, Nat.add_sub_cancel_left]
      · simp [pput, mH, h0, cu, hq, Nat.add_sub_cancel_left, hc]
    · simp [hi, mH]
  · rw [if_neg hj]
    by_cases h4 : 40 ≤ j
    · have hjk : j - 40 ≠ k := by omega
      simp [mH, h4, cu, hjk]
    · simp [mH, h4]
theorem mH_0 (hp : ∀ j, 40 ≤ j → ∀ q, ph j 0 q = none) : gput ph 40 0 mo (.inr (4, fs)) = mH mo fs (fun _ => none) ph := by
  funext j i q
  unfold gput gset
  by_cases hj : j = 40
  · subst hj
    by_cases hi : i = 0
    · subst hi
      by_cases hq : q = mo
      · simp [pput, mH, hq]
      · simp [pput, mH, hq, hp 40 (by decide)]
    · simp [hi, mH]
  · rw [if_neg hj]
    by_cases h4 : 40 ≤ j
    · by_cases hi : i = 0
      · subst hi
        simp [mH, h4, hj, hp j h4]
      · simp [mH, h4, hi]
    · simp [mH, h4]
theorem mH_end {ad : Nat → Nat} {f : Nat → Int32} {a : Nat → Nat → Int32} {rr : Nat → UInt32} (hf : fs = m_obj ad f) (hc : ∀ k, c k = if m_isA k = true then some (ad k, .inl (g_t Γ (mT k), m_cell k a rr)) else none) : mH mo fs c ph = mG Γ mo ad f a rr ph := by
  funext j i q
  subst hf
  unfold mH mG mP
  by_cases h4 : 40 ≤ j
  · by_cases hi : i = 0
    · by_cases hj : j = 40
      · simp [h4, hi, hj]
      · simp only [h4, hi, hj, if_true, if_false]
        rw [hc]
        by_cases hA : m_isA (j - 40) = true
        · simp [hA]
        · simp [hA]
    · simp [h4, hi]
  · simp [h4]
end MH
def x5z : List Value := [.int 0, .int 0, .int 0, .int 0, .int 0, .null, .null, .null, .null, .int 0, .int 0, .int 0, .null, .int 0, .null, .null, .null, .null, .null, .null, .int 0, .null, .null, .null, .null, .int 0, .int 0, .int 0, .int 0, .int 0]
def x5f : Nat → Int32 := fun j => if j = 20 then 4 else if j = 28 then -1 else 0
def x5a : Nat → Nat → Int32 := fun _ _ => 0
def x5r : Nat → UInt32 := fun _ => 0
def x5w : m_w := upd (upd (upd (x5a 5) 101 3) 102 21) 103 30
def mkN : Nat → m_w
  | 0 => x5w
  | n + 1 => upd (upd (mkN n) (125 + 3 * n) (-1)) (125 + 3 * n + 2) 20
def x5A : Nat → Nat → Int32 := va_up (va_up x5a 5 (mkN 2)) 19 (clN (x5a 19) 6)
theorem mk_ix {k : Nat} (h : k < 2) : (vp_in (125 + 3 * nI k) 170 ∧ (125 + 3 * nI k).toNatClampNeg = 125 + 3 * k) ∧ vp_in (125 + 3 * nI k + 2) 170 ∧ (125 + 3 * nI k + 2).toNatClampNeg = 125 + 3 * k + 2 := by
  have e : (125 : Int32) + 3 * nI k = nI (125 + 3 * k) := by
    rw [show (125 : Int32) = nI 125 from rfl, show (3 : Int32) = nI 3 from rfl, pk_mul, nI_add]
  have e2 : nI (125 + 3 * k) + 2 = nI (125 + 3 * k + 2) := by rw [show (2 : Int32) = nI 2 from rfl, nI_add]
  rw [e, e2]
  exact ⟨⟨vp_in_nI (by omega) (by decide), nI_clamp (by omega)⟩, vp_in_nI (by omega) (by decide), nI_clamp (by omega)⟩
section OB0
variable {p : Program} {l : Launch} {e : Env} {R : Room} {s : State} {m : MethodId} {args : Array Value} {below : List Frame} {meth : Method} {c : Code} {H : Heap} {locs : List Loc} {cells slots : Nat} {Q : State → Prop}
variable {cc : ByteArray} {pc nL : Nat} {ls : Array Slot} {rest : List Value} {own : String} {a : Nat}
/-- Object's own constructor -/
theorem g_obj (S : CallFix p m c cc nL s args lw_all own) (hs : ls.size = nL) {idx : Nat} (hl : Cond.methodLink own idx Lib.objectInit ∈ lw_all) (hdg : decode cc pc = .ok (.invokespecial idx, 3)) (hf : 1 ≤ R.frames) (hlo : (rest.map fun v => v.category).sum + 12 ≤ R.locals)
    (kk : W p l e R s m args below meth c H locs cells slots Q (F0 m (pc + 3) ls rest)) : W p l e R s m args below meth c H locs cells slots Q (F0 m pc ls (.ref a :: rest)) :=
  W.objInit S.1 S.2.1 S.2.2.2.1 (S.2.2.2.2 _ hl) (S.2.2.2.2 _ q197) (S.2.2.2.2 _ q198) (g := F0 m pc ls (.ref a :: rest)) rfl (hs.trans S.2.2.1.symm) rfl hdg hf (by show 2 * 0 + _ + 12 ≤ _; omega) kk
end OB0

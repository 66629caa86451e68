/-! THE REFERENCE's WORLD: its object lies in part 40 of region 0, its array of field k in part 40 + k -/
set_option maxRecDepth 100000
theorem k_X5 : g_cls 4 RX5 TX5 30 tyX5 := ⟨rfl, in_X5, tyX5_ok, nmX5⟩
/-- an answer of a boolean method -/
def b2i (b : Bool) : Int32 := if b then 1 else 0
theorem b2i_t : b2i true = 1 := rfl
theorem b2i_f : b2i false = 0 := rfl
theorem b2i_eq0 (b : Bool) : b2i b = 0 ↔ b = false := by cases b <;> decide
theorem b2i_ne0 (b : Bool) : ¬ b2i b = 0 ↔ b = true := by cases b <;> decide
theorem b2i_1 {c : Bool} (h : c = true) : (1 : Int32) = b2i c := by rw [h]; rfl
theorem b2i_0 {c : Bool} (h : c = false) : (0 : Int32) = b2i c := by rw [h]; rfl
theorem b2i_nar (b : Bool) : narrow .boolean (.int (b2i b)) = .int (b2i b) := by cases b <;> rfl
theorem b2i_fit (b : Bool) : fits .boolean (.int (b2i b)) = true := by cases b <;> rfl
def m_isA (k : Nat) : Bool := k == 5 || k == 6 || k == 7 || k == 8 || k == 12 || k == 14 || k == 15 || k == 16 || k == 17 || k == 18 || k == 19 || k == 21 || k == 22 || k == 23 || k == 24
def mL (k : Nat) : Nat := if k = 6 then 1360 else if k = 12 then 24 else if k = 14 then 21 else if k = 15 then 21 else if k = 16 then 48 else if k = 17 then 3 else if k = 18 then 3 else if k = 19 then 6 else if k = 21 then 60 else if k = 22 then 31 else if k = 23 then 31 else if k = 24 then 31 else 170
def mT (k : Nat) : Nat := if k = 18 then 1 else if k = 21 then 2 else if k = 16 then 5 else 0
def m_obj (ad : Nat → Nat) (f : Nat → Int32) : List Value := [.int (f 0), .int (f 1), .int (f 2), .int (f 3), .int (f 4), .ref (ad 5), .ref (ad 6), .ref (ad 7), .ref (ad 8), .int (f 9), .int (f 10), .int (f 11), .ref (ad 12), .int (f 13), .ref (ad 14), .ref (ad 15), .ref (ad 16), .ref (ad 17), .ref (ad 18), .ref (ad 19), .int (f 20), .ref (ad 21), .ref (ad 22), .ref (ad 23), .ref (ad 24), .int (f 25), .int (f 26), .int (f 27), .int (f 28), .int (f 29)]
def m_cell (k : Nat) (a : Nat → Nat → Int32) (rr : Nat → UInt32) : vp_A := if k = 16 then (48, .inr (.inr (.inl rr))) else (mL k, .inl (a k))
def mP (Γ : g_C) (mo : Nat) (ad : Nat → Nat) (f : Nat → Int32) (a : Nat → Nat → Int32) (rr : Nat → UInt32) (j : Nat) : Nat → Option va_E := fun q => if j = 40 then (if q = mo then some (.inr (4, m_obj ad f)) else none) else (if m_isA (j - 40) = true ∧ q = ad (j - 40) then some (.inl (g_t Γ (mT (j - 40)), m_cell (j - 40) a rr)) else none)
/-- the reference's world put into a ghost heap -/
def mG (Γ : g_C) (mo : Nat) (ad : Nat → Nat) (f : Nat → Int32) (a : Nat → Nat → Int32) (rr : Nat → UInt32) (ph : g_H) : g_H := fun j i => if 40 ≤ j then (if i = 0 then mP Γ mo ad f a rr j else ph j i) else ph j i
section MG
variable {Γ : g_C} {mo : Nat} {ad : Nat → Nat} {f : Nat → Int32} {a : Nat → Nat → Int32} {rr : Nat → UInt32} {ph : g_H}
theorem mG_at (j : Nat) (hj : 40 ≤ j) : mG Γ mo ad f a rr ph j 0 = mP Γ mo ad f a rr j := by simp [mG, hj]
theorem mG_obj : mG Γ mo ad f a rr ph 40 0 mo = some (.inr (4, m_obj ad f)) := by simp [mG, mP]
theorem mG_arr (k : Nat) (hk : m_isA k = true) (h16 : k ≠ 16) : mG Γ mo ad f a rr ph (40 + k) 0 (ad k) = some (.inl (g_t Γ (mT k), mL k, .inl (a k))) := by
  have h0 : ¬ (40 + k = 40) := by
    intro h
    have : k = 0 := by omega
    subst this
    exact absurd hk (by decide)
  have h9 : ¬ k = 0 := by omega
  rw [mG_at _ (by omega)]
  simp [mP, h9, Nat.add_sub_cancel_left, hk, m_cell, h16]
theorem mG_rows : mG Γ mo ad f a rr ph 56 0 (ad 16) = some (.inl (g_t Γ 5, 48, .inr (.inr (.inl rr)))) := by
  rw [mG_at _ (by omega)]
  simp [mP, m_isA, m_cell, mT]
theorem mG_f {f' : Nat → Int32} {fs : List Value} (h : fs = m_obj ad f') : gput (mG Γ mo ad f a rr ph) 40 0 mo (.inr (4, fs)) = mG Γ mo ad f' a rr ph := by
  subst h
  funext j i q
  unfold gput gset
  by_cases hj : j = 40
  · subst hj
    by_cases hi : i = 0
    · subst hi
      by_cases hq : q = mo
      · simp [pput, mG, mP, hq]
      · simp [pput, mG, mP, hq]
    · simp [hi, mG]
  · rw [if_neg hj]
    by_cases h4 : 40 ≤ j
    · by_cases hi : i = 0
      · simp [mG, h4, hi, mP, hj]
      · simp [mG, h4, hi]
    · simp [mG, h4]
theorem mG_a (k : Nat) (hk : m_isA k = true) (h16 : k ≠ 16) (g : Nat → Int32) : gput (mG Γ mo ad f a rr ph) (40 + k) 0 (ad k) (.inl (g_t Γ (mT k), mL k, .inl g)) = mG Γ mo ad f (va_up a k g) rr ph := by
  have h0 : k ≠ 0 := by
    intro h
    subst h
    exact absurd hk (by decide)
  funext j i q
  unfold gput gset
  by_cases hj : j = 40 + k
  · subst hj
    by_cases hi : i = 0
    · subst hi
      by_cases hq : q = ad k
      · simp [pput, mG, mP, hq, h0, Nat.add_sub_cancel_left, hk, m_cell, h16, va_up]
      · simp [pput, mG, mP, hq, h0, Nat.add_sub_cancel_left]
    · simp [hi, mG]
  · rw [if_neg hj]
    by_cases h4 : 40 ≤ j
    · by_cases hi : i = 0
      · subst hi
        have hjk : j - 40 ≠ k := by omega
        by_cases hj0 : j = 40
        · simp [mG, hj0, mP]
        · by_cases h6 : j - 40 = 16
          · simp [mG, h4, mP, hj0, m_cell, h6]
          · simp [mG, h4, mP, hj0, m_cell, va_up, hjk]
      · simp [mG, h4, hi]
    · simp [mG, h4]
theorem mG_r (g : Nat → UInt32) : gput (mG Γ mo ad f a rr ph) 56 0 (ad 16) (.inl (g_t Γ 5, 48, .inr (.inr (.inl g)))) = mG Γ mo ad f a g ph := by
  funext j i q
  unfold gput gset
  by_cases hj : j = 56
  · subst hj
    by_cases hi : i = 0
    · subst hi
      by_cases hq : q = ad 16
      · simp [pput, mG, mP, hq, m_isA, m_cell, mT]
      · simp [pput, mG, mP, hq]
    · simp [hi, mG]
  · rw [if_neg hj]
    by_cases h4 : 40 ≤ j
    · by_cases hi : i = 0
      · subst hi
        have h6 : j - 40 ≠ 16 := by omega
        by_cases hj0 : j = 40
        · simp [mG, hj0, mP]
        · simp [mG, h4, mP, hj0, m_cell, h6]
      · simp [mG, h4, hi]
    · simp [mG, h4]
end MG
theorem vp_lit {i : Int32} {n : Nat} (h : ¬ (i < 0 ∨ n ≤ i.toNatClampNeg)) : vp_in i n := h
def m_ref (f : Nat → Int32) (c : Int32) : Nat → Int32 := upd (upd (upd f 1 (f 3)) 2 (f 4)) 0 c
section MR
variable {p : Program} {l : Launch} {e : Env} {R : Room} {s : State} {m : MethodId} {args : Array Value} {below : List Frame} {meth : Method} {c : Code} {H : Heap} {locs : List Loc} {cells slots : Nat} {Q : State → Prop}
variable {cc : ByteArray} {pc : Nat} {ls : Array Slot} {rest : List Value} {Γ : g_C} {ph : g_H} {q nL : Nat} {own : String}
theorem m_iald (S : CallFix p m c cc nL s args lw_all own) (hK : g_K Γ s) (I : g_I Γ ph s H locs) {n k : Nat} {f : Nat → Int32} (ha : g_at Γ ph q (.inl (g_t Γ 0, n, .inl f))) {i : Int32} (hin : vp_in i n) (hk : i.toNatClampNeg = k) (hdg : decode cc pc = .ok (.iaload, 1))
    (kk : W p l e R s m args below meth c H locs cells slots Q (F0 m (pc + 1) ls (.int (f k) :: rest))) : W p l e R s m args below meth c H locs cells slots Q (F0 m pc ls (.int i :: .ref q :: rest)) := by
  subst hk; exact g_iald S hK I ha hin hdg kk
theorem m_iast (S : CallFix p m c cc nL s args lw_all own) (hK : g_K Γ s) (I : g_I Γ ph s H locs) {j i n k : Nat} {f : Nat → Int32} (ha : ph j i q = some (.inl (g_t Γ 0, n, .inl f))) {x9 : Int32} {x : Int32} (hin : vp_in x9 n) (hk : x9.toNatClampNeg = k) (hdg : decode cc pc = .ok (.iastore, 1))
    (kk : ∀ (H1 : Heap) (locs1 : List Loc), g_I Γ (gput ph j i q (.inl (g_t Γ 0, n, .inl (upd f k x)))) s H1 locs1 → W p l e R s m args below meth c H1 locs1 cells slots Q (F0 m (pc + 1) ls rest)) : W p l e R s m args below meth c H locs cells slots Q (F0 m pc ls (.int x :: .int x9 :: .ref q :: rest)) := by
  subst hk; exact g_iast S hK I ha hin hdg kk
theorem m_zald (S : CallFix p m c cc nL s args lw_all own) (hK : g_K Γ s) (I : g_I Γ ph s H locs) {n k : Nat} {f : Nat → Int32} (ha : g_at Γ ph q (.inl (g_t Γ 1, n, .inl f))) {i : Int32} (hin : vp_in i n) (hk : i.toNatClampNeg = k) (hdg : decode cc pc = .ok (.baload, 1))
    (kk : W p l e R s m args below meth c H locs cells slots Q (F0 m (pc + 1) ls (.int (f k) :: rest))) : W p l e R s m args below meth c H locs cells slots Q (F0 m pc ls (.int i :: .ref q :: rest)) := by
  subst hk; exact g_zald S hK I ha hin hdg kk
theorem m_zast (S : CallFix p m c cc nL s args lw_all own) (hK : g_K Γ s) (I : g_I Γ ph s H locs) {j i n k : Nat} {f : Nat → Int32} (ha : ph j i q = some (.inl (g_t Γ 1, n, .inl f))) {x9 : Int32} {x : Int32} (hin : vp_in x9 n) (hk : x9.toNatClampNeg = k) (hdg : decode cc pc = .ok (.bastore, 1))
    (kk : ∀ (H1 : Heap) (locs1 : List Loc), g_I Γ (gput ph j i q (.inl (g_t Γ 1, n, .inl (upd f k (vp_nar .boolean x))))) s H1 locs1 → W p l e R s m args below meth c H1 locs1 cells slots Q (F0 m (pc + 1) ls rest)) : W p l e R s m args below meth c H locs cells slots Q (F0 m pc ls (.int x :: .int x9 :: .ref q :: rest)) := by
  subst hk; exact g_zast S hK I ha hin hdg kk
theorem m_cald (S : CallFix p m c cc nL s args lw_all own) (hK : g_K Γ s) (I : g_I Γ ph s H locs) {n k : Nat} {f : Nat → Int32} (ha : g_at Γ ph q (.inl (g_t Γ 2, n, .inl f))) {i : Int32} (hin : vp_in i n) (hk : i.toNatClampNeg = k) (hdg : decode cc pc = .ok (.caload, 1))
    (kk : W p l e R s m args below meth c H locs cells slots Q (F0 m (pc + 1) ls (.int (f k) :: rest))) : W p l e R s m args below meth c H locs cells slots Q (F0 m pc ls (.int i :: .ref q :: rest)) := by
  subst hk; exact g_cald S hK I ha hin hdg kk
theorem m_cast (S : CallFix p m c cc nL s args lw_all own) (hK : g_K Γ s) (I : g_I Γ ph s H locs) {j i n k : Nat} {f : Nat → Int32} (ha : ph j i q = some (.inl (g_t Γ 2, n, .inl f))) {x9 : Int32} {x : Int32} (hin : vp_in x9 n) (hk : x9.toNatClampNeg = k) (hdg : decode cc pc = .ok (.castore, 1))
    (kk : ∀ (H1 : Heap) (locs1 : List Loc), g_I Γ (gput ph j i q (.inl (g_t Γ 2, n, .inl (upd f k (vp_nar .char x))))) s H1 locs1 → W p l e R s m args below meth c H1 locs1 cells slots Q (F0 m (pc + 1) ls rest)) : W p l e R s m args below meth c H locs cells slots Q (F0 m pc ls (.int x :: .int x9 :: .ref q :: rest)) := by
  subst hk; exact g_cast S hK I ha hin hdg kk
theorem m_fald (S : CallFix p m c cc nL s args lw_all own) (hK : g_K Γ s) (I : g_I Γ ph s H locs) {n k : Nat} {f : Nat → UInt32} (ha : g_at Γ ph q (.inl (g_t Γ 5, n, .inr (.inr (.inl f))))) {i : Int32} (hin : vp_in i n) (hk : i.toNatClampNeg = k) (hdg : decode cc pc = .ok (.faload, 1))
    (kk : W p l e R s m args below meth c H locs cells slots Q (F0 m (pc + 1) ls (.float (f k) :: rest))) : W p l e R s m args below meth c H locs cells slots Q (F0 m pc ls (.int i :: .ref q :: rest)) := by
  subst hk; exact g_fald S hK I ha hin hdg kk
theorem m_fast (S : CallFix p m c cc nL s args lw_all own) (hK : g_K Γ s) (I : g_I Γ ph s H locs) {j i n k : Nat} {f : Nat → UInt32} (ha : ph j i q = some (.inl (g_t Γ 5, n, .inr (.inr (.inl f))))) {x9 : Int32} {x : UInt32} (hin : vp_in x9 n) (hk : x9.toNatClampNeg = k) (hdg : decode cc pc = .ok (.fastore, 1))
    (kk : ∀ (H1 : Heap) (locs1 : List Loc), g_I Γ (gput ph j i q (.inl (g_t Γ 5, n, .inr (.inr (.inl (vf_upd f k x)))))) s H1 locs1 → W p l e R s m args below meth c H1 locs1 cells slots Q (F0 m (pc + 1) ls rest)) : W p l e R s m args below meth c H locs cells slots Q (F0 m pc ls (.float x :: .int x9 :: .ref q :: rest)) := by
  subst hk; exact g_fast S hK I ha hin hdg kk
end MR
section MA
variable {Γ : g_C} {mo : Nat} {ad : Nat → Nat} {f : Nat → Int32} {a : Nat → Nat → Int32} {rr : Nat → UInt32} {ph : g_H} {s : State} {H : Heap} {locs : List Loc}
theorem mG_5 : mG Γ mo ad f a rr ph 45 0 (ad 5) = some (.inl (g_t Γ 0, 170, .inl (a 5))) := mG_arr 5 rfl (by decide)
theorem mI_5 {g : Nat → Int32} (I : g_I Γ (gput (mG Γ mo ad f a rr ph) 45 0 (ad 5) (.inl (g_t Γ 0, 170, .inl g))) s H locs) : g_I Γ (mG Γ mo ad f (va_up a 5 g) rr ph) s H locs := by rw [← mG_a 5 rfl (by decide)]; exact I
theorem mG_6 : mG Γ mo ad f a rr ph 46 0 (ad 6) = some (.inl (g_t Γ 0, 1360, .inl (a 6))) := mG_arr 6 rfl (by decide)
theorem mI_6 {g : Nat → Int32} (I : g_I Γ (gput (mG Γ mo ad f a rr ph) 46 0 (ad 6) (.inl (g_t Γ 0, 1360, .inl g))) s H locs) : g_I Γ (mG Γ mo ad f (va_up a 6 g) rr ph) s H locs := by rw [← mG_a 6 rfl (by decide)]; exact I
theorem mG_7 : mG Γ mo ad f a rr ph 47 0 (ad 7) = some (.inl (g_t Γ 0, 170, .inl (a 7))) := mG_arr 7 rfl (by decide)
theorem mI_7 {g : Nat → Int32} (I : g_I Γ (gput (mG Γ mo ad f a rr ph) 47 0 (ad 7) (.inl (g_t Γ 0, 170, .inl g))) s H locs) : g_I Γ (mG Γ mo ad f (va_up a 7 g) rr ph) s H locs := by rw [← mG_a 7 rfl (by decide)]; exact I
theorem mG_8 : mG Γ mo ad f a rr ph 48 0 (ad 8) = some (.inl (g_t Γ 0, 170, .inl (a 8))) := mG_arr 8 rfl (by decide)
theorem mI_8 {g : Nat → Int32} (I : g_I Γ (gput (mG Γ mo ad f a rr ph) 48 0 (ad 8) (.inl (g_t Γ 0, 170, .inl g))) s H locs) : g_I Γ (mG Γ mo ad f (va_up a 8 g) rr ph) s H locs := by rw [← mG_a 8 rfl (by decide)]; exact I
theorem mG_12 : mG Γ mo ad f a rr ph 52 0 (ad 12) = some (.inl (g_t Γ 0, 24, .inl (a 12))) := mG_arr 12 rfl (by decide)
theorem mI_12 {g : Nat → Int32} (I : g_I Γ (gput (mG Γ mo ad f a rr ph) 52 0 (ad 12) (.inl (g_t Γ 0, 24, .inl g))) s H locs) : g_I Γ (mG Γ mo ad f (va_up a 12 g) rr ph) s H locs := by rw [← mG_a 12 rfl (by decide)]; exact I
theorem mG_14 : mG Γ mo ad f a rr ph 54 0 (ad 14) = some (.inl (g_t Γ 0, 21, .inl (a 14))) := mG_arr 14 rfl (by decide)
theorem mI_14 {g : Nat → Int32} (I : g_I Γ (gput (mG Γ mo ad f a rr ph) 54 0 (ad 14) (.inl (g_t Γ 0, 21, .inl g))) s H locs) : g_I Γ (mG Γ mo ad f (va_up a 14 g) rr ph) s H locs := by rw [← mG_a 14 rfl (by decide)]; exact I
theorem mG_15 : mG Γ mo ad f a rr ph 55 0 (ad 15) = some (.inl (g_t Γ 0, 21, .inl (a 15))) := mG_arr 15 rfl (by decide)
theorem mI_15 {g : Nat → Int32} (I : g_I Γ (gput (mG Γ mo ad f a rr ph) 55 0 (ad 15) (.inl (g_t Γ 0, 21, .inl g))) s H locs) : g_I Γ (mG Γ mo ad f (va_up a 15 g) rr ph) s H locs := by rw [← mG_a 15 rfl (by decide)]; exact I
theorem mG_17 : mG Γ mo ad f a rr ph 57 0 (ad 17) = some (.inl (g_t Γ 0, 3, .inl (a 17))) := mG_arr 17 rfl (by decide)
theorem mI_17 {g : Nat → Int32} (I : g_I Γ (gput (mG Γ mo ad f a rr ph) 57 0 (ad 17) (.inl (g_t Γ 0, 3, .inl g))) s H locs) : g_I Γ (mG Γ mo ad f (va_up a 17 g) rr ph) s H locs := by rw [← mG_a 17 rfl (by decide)]; exact I
theorem mG_18 : mG Γ mo ad f a rr ph 58 0 (ad 18) = some (.inl (g_t Γ 1, 3, .inl (a 18))) := mG_arr 18 rfl (by decide)
theorem mI_18 {g : Nat → Int32} (I : g_I Γ (gput (mG Γ mo ad f a rr ph) 58 0 (ad 18) (.inl (g_t Γ 1, 3, .inl g))) s H locs) : g_I Γ (mG Γ mo ad f (va_up a 18 g) rr ph) s H locs := by rw [← mG_a 18 rfl (by decide)]; exact I
theorem mG_19 : mG Γ mo ad f a rr ph 59 0 (ad 19) = some (.inl (g_t Γ 0, 6, .inl (a 19))) := mG_arr 19 rfl (by decide)
theorem mI_19 {g : Nat → Int32} (I : g_I Γ (gput (mG Γ mo ad f a rr ph) 59 0 (ad 19) (.inl (g_t Γ 0, 6, .inl g))) s H locs) : g_I Γ (mG Γ mo ad f (va_up a 19 g) rr ph) s H locs := by rw [← mG_a 19 rfl (by decide)]; exact I
theorem mG_21 : mG Γ mo ad f a rr ph 61 0 (ad 21) = some (.inl (g_t Γ 2, 60, .inl (a 21))) := mG_arr 21 rfl (by decide)
theorem mI_21 {g : Nat → Int32} (I : g_I Γ (gput (mG Γ mo ad f a rr ph) 61 0 (ad 21) (.inl (g_t Γ 2, 60, .inl g))) s H locs) : g_I Γ (mG Γ mo ad f (va_up a 21 g) rr ph) s H locs := by rw [← mG_a 21 rfl (by decide)]; exact I
theorem mG_22 : mG Γ mo ad f a rr ph 62 0 (ad 22) = some (.inl (g_t Γ 0, 31, .inl (a 22))) := mG_arr 22 rfl (by decide)
theorem mI_22 {g : Nat → Int32} (I : g_I Γ (gput (mG Γ mo ad f a rr ph) 62 0 (ad 22) (.inl (g_t Γ 0, 31, .inl g))) s H locs) : g_I Γ (mG Γ mo ad f (va_up a 22 g) rr ph) s H locs := by rw [← mG_a 22 rfl (by decide)]; exact I
theorem mG_23 : mG Γ mo ad f a rr ph 63 0 (ad 23) = some (.inl (g_t Γ 0, 31, .inl (a 23))) := mG_arr 23 rfl (by decide)
theorem mI_23 {g : Nat → Int32} (I : g_I Γ (gput (mG Γ mo ad f a rr ph) 63 0 (ad 23) (.inl (g_t Γ 0, 31, .inl g))) s H locs) : g_I Γ (mG Γ mo ad f (va_up a 23 g) rr ph) s H locs := by rw [← mG_a 23 rfl (by decide)]; exact I
theorem mG_24 : mG Γ mo ad f a rr ph 64 0 (ad 24) = some (.inl (g_t Γ 0, 31, .inl (a 24))) := mG_arr 24 rfl (by decide)
theorem mI_24 {g : Nat → Int32} (I : g_I Γ (gput (mG Γ mo ad f a rr ph) 64 0 (ad 24) (.inl (g_t Γ 0, 31, .inl g))) s H locs) : g_I Γ (mG Γ mo ad f (va_up a 24 g) rr ph) s H locs := by rw [← mG_a 24 rfl (by decide)]; exact I
theorem mI_f {f' : Nat → Int32} {fs : List Value} (I : g_I Γ (gput (mG Γ mo ad f a rr ph) 40 0 mo (.inr (4, fs))) s H locs) (h : fs = m_obj ad f') : g_I Γ (mG Γ mo ad f' a rr ph) s H locs := by rw [← mG_f h]; exact I
theorem mI_r {g : Nat → UInt32} (I : g_I Γ (gput (mG Γ mo ad f a rr ph) 56 0 (ad 16) (.inl (g_t Γ 5, 48, .inr (.inr (.inl g))))) s H locs) : g_I Γ (mG Γ mo ad f a g ph) s H locs := by rw [← mG_r]; exact I
end MA

/-! THE PURE PICTURE: plans as they are read. t: the text, L: its length, i: where -/
set_option maxRecDepth 100000
def nx (t : Nat → Int32) (L i : Nat) : Int32 := if i < L then t i else -1
def dig (c : Int32) : Bool := btw c 48 57
/-- a place, a lamp: read?, where then, what was read -/
def rP (t : Nat → Int32) (L i : Nat) : Bool × Nat × Option Int32 :=
  if nx t L i = 103 then (true, i + 1, some (-1))
  else if dig (nx t L i) = false then (false, i, none)
  else if dig (nx t L (i + 1)) = true then (true, i + 2, some (10 * (nx t L i - 48) + nx t L (i + 1) - 48))
  else (true, i + 1, some (nx t L i - 48))
def rL (t : Nat → Int32) (L i : Nat) : Bool × Nat × Option Int32 := if dig (nx t L i) = false then (false, i, none) else (true, i + 1, some (nx t L i - 48))
def isSg (c : Int32) : Bool := decide (c = 62) || decide (c = 114) || decide (c = 43) || decide (c = 45) || decide (c = 42)
/-- a step: read?, where then, its sign, who, what -/
def rS (t : Nat → Int32) (L i : Nat) : Bool × Nat × Int32 × Option Int32 × Option Int32 :=
  if nx t L i = 99 ∨ nx t L i = 117 then (true, i + 1, nx t L i, none, none)
  else if ¬ nx t L i = 48 ∧ ¬ nx t L i = 49 then (false, i, nx t L i, none, none)
  else if isSg (nx t L (i + 1)) = false then (false, i + 1, nx t L (i + 1), some (nx t L i - 48), none)
  else if nx t L (i + 1) = 114 then (true, i + 2, nx t L (i + 1), some (nx t L i - 48), none)
  else if nx t L (i + 1) = 62 then ((rP t L (i + 2)).1, (rP t L (i + 2)).2.1, nx t L (i + 1), some (nx t L i - 48), (rP t L (i + 2)).2.2)
  else ((rL t L (i + 2)).1, (rL t L (i + 2)).2.1, nx t L (i + 1), some (nx t L i - 48), (rL t L (i + 2)).2.2)
def oset (g : Nat → Int32) (n : Nat) : Option Int32 → Nat → Int32
  | none => g
  | some x => upd g n x
/-- where, how many steps, their signs, who, what -/
abbrev m_rd : Type := Nat × Nat × (Nat → Int32) × (Nat → Int32) × (Nat → Int32)
def rd1 (t : Nat → Int32) (L : Nat) (S : m_rd) : m_rd := ((rS t L S.1).2.1, if (rS t L S.1).1 = true then S.2.1 + 1 else S.2.1, upd S.2.2.1 S.2.1 (rS t L S.1).2.2.1, oset S.2.2.2.1 S.2.1 (rS t L S.1).2.2.2.1, oset S.2.2.2.2 S.2.1 (rS t L S.1).2.2.2.2)
def rdF (t : Nat → Int32) (L : Nat) : Nat → m_rd → Bool × m_rd
  | 0, S => (false, S)
  | d + 1, S => if (rS t L S.1).1 = true ∧ nx t L (rS t L S.1).2.1 = 59 then rdF t L d ((rd1 t L S).1 + 1, (rd1 t L S).2) else ((rS t L S.1).1, rd1 t L S)
def rdP (t : Nat → Int32) (L : Nat) (a : Nat → Nat → Int32) : Bool × m_rd := rdF t L (L + 1) (0, 0, a 22, a 23, a 24)
def rdOk (t : Nat → Int32) (L : Nat) (a : Nat → Nat → Int32) : Bool := (rdP t L a).1 && decide ((rdP t L a).2.1 = L)
theorem nx_lt {t : Nat → Int32} {L i : Nat} (h : ¬ nx t L i = -1) : i < L := by
  unfold nx at h
  rcases Nat.lt_or_ge i L with q | q
  · exact q
  · exact absurd (if_neg (Nat.not_lt.mpr q)) h
theorem nx_c {t : Nat → Int32} {L i : Nat} {c : Int32} (h : nx t L i = c) (hc : ¬ c = -1) : i < L := nx_lt (by rw [h]; exact hc)
theorem nx_dig {t : Nat → Int32} {L i : Nat} (h : dig (nx t L i) = true) : i < L := nx_lt (fun e => by rw [e] at h; exact absurd h (by decide))
def okT (f : Nat → Int32) : Prop := okL f ∧ (f 26 = nI (tA f) ∧ tA f ≤ 60) ∧ f 27 = nI (tS f) ∧ tS f ≤ 30
theorem tA_u {f : Nat → Int32} {n : Nat} (h : n < 2 ^ 31) : tA (upd f 26 (nI n)) = n := by unfold tA; rw [upd_s]; exact nI_clamp h
theorem tL_u {f : Nat → Int32} {x : Int32} : tL (upd f 26 x) = tL f := rfl
theorem tS_u {f : Nat → Int32} {x : Int32} : tS (upd f 26 x) = tS f := rfl
theorem okT_u {f : Nat → Int32} (h : okT f) {n : Nat} (hn : n ≤ 60) : okT (upd f 26 (nI n)) := by
  refine ⟨h.1, ⟨?_, ?_⟩, h.2.2⟩
  · rw [tA_u (by omega)]; exact upd_s _ _ _
  · rw [tA_u (by omega)]; exact hn
theorem okT_s {f : Nat → Int32} (h : okT f) : vp_in (f 27) 31 ∧ (f 27).toNatClampNeg = tS f := ⟨by rw [h.2.2.1]; exact vp_in_nI (by have := h.2.2.2; omega) (by decide), rfl⟩
theorem nx_f {f t : Nat → Int32} (h : okT f) : (f 26 < f 25) ↔ tA f < tL f := by
  have h1 := h.1.2
  have h2 := h.2.1.2
  rw [h.2.1.1, h.1.1, nI_ltI (by omega) (by omega)]
theorem nx_u {f t : Nat → Int32} {n : Nat} (h : n < 2 ^ 31) : nx t (tL (upd f 26 (nI n))) (tA (upd f 26 (nI n))) = nx t (tL f) n := by rw [tA_u h]; rfl
theorem rP_le {t : Nat → Int32} {L i : Nat} (h : i ≤ L) : i ≤ (rP t L i).2.1 ∧ (rP t L i).2.1 ≤ L := by
  unfold rP
  split
  · rename_i h1
    have := nx_c h1 (by decide)
    exact ⟨Nat.le_succ _, this⟩
  · split
    · exact ⟨Nat.le_refl _, h⟩
    · rename_i h2
      have h2 := nx_dig (Bool.of_not_eq_false h2)
      split
      · rename_i h3
        have := nx_dig h3
        exact ⟨by show i ≤ i + 2; omega, this⟩
      · exact ⟨Nat.le_succ _, h2⟩
theorem rL_le {t : Nat → Int32} {L i : Nat} (h : i ≤ L) : i ≤ (rL t L i).2.1 ∧ (rL t L i).2.1 ≤ L := by
  unfold rL
  split
  · exact ⟨Nat.le_refl _, h⟩
  · rename_i h2
    exact ⟨Nat.le_succ _, nx_dig (Bool.of_not_eq_false h2)⟩
theorem isSg_lt {t : Nat → Int32} {L i : Nat} (h : isSg (nx t L i) = true) : i < L := nx_lt (fun e => by rw [e] at h; exact absurd h (by decide))
theorem rS_le {t : Nat → Int32} {L i : Nat} (h : i ≤ L) : i ≤ (rS t L i).2.1 ∧ (rS t L i).2.1 ≤ L ∧ ((rS t L i).1 = true → i + 1 ≤ (rS t L i).2.1) := by
  unfold rS
  split
  · rename_i h1
    have : i < L := h1.elim (fun q => nx_c q (by decide)) (fun q => nx_c q (by decide))
    exact ⟨Nat.le_succ _, this, fun _ => Nat.le_refl _⟩
  · split
    · exact ⟨Nat.le_refl _, h, fun q => absurd (show false = true from q) (by decide)⟩
    · rename_i h2
      have h2 : i < L := nx_lt (fun e => h2 (by rw [e]; decide))
      split
      · exact ⟨Nat.le_succ _, h2, fun q => absurd (show false = true from q) (by decide)⟩
      · rename_i h3
        have h3 := isSg_lt (Bool.of_not_eq_false h3)
        split
        · exact ⟨by show i ≤ i + 2; omega, h3, fun _ => by show i + 1 ≤ i + 2; omega⟩
        · split
          · have := rP_le (t := t) (L := L) (i := i + 2) h3
            exact ⟨by show i ≤ (rP t L (i + 2)).2.1; omega, this.2, fun _ => by show i + 1 ≤ (rP t L (i + 2)).2.1; omega⟩
          · have := rL_le (t := t) (L := L) (i := i + 2) h3
            exact ⟨by show i ≤ (rL t L (i + 2)).2.1; omega, this.2, fun _ => by show i + 1 ≤ (rL t L (i + 2)).2.1; omega⟩
theorem at_1 {f : Nat → Int32} (h : okT f) : upd f 26 (f 26 + 1) = upd f 26 (nI (tA f + 1)) := by rw [h.2.1.1, nI_1]
theorem at_2 {f : Nat → Int32} {n : Nat} : upd (upd f 26 (nI n)) 26 (nI n + 1) = upd f 26 (nI (n + 1)) := by rw [upd_uu, nI_1]
theorem mG_c {Γ : g_C} {mo : Nat} {ad : Nat → Nat} {f f' : Nat → Int32} {a a' : Nat → Nat → Int32} {rr : Nat → UInt32} {ph : g_H} (h1 : f = f') (h2 : a = a') : mG Γ mo ad f a rr ph = mG Γ mo ad f' a' rr ph := by rw [h1, h2]
theorem va_rr {α : Type} {f : Nat → α} {i j : Nat} {x y z : α} (h : i ≠ j) : va_up (va_up (va_up f i x) j y) i z = va_up (va_up f i z) j y := by
  rw [va_cm (f := f) (i := i) (j := j) h, va_uu, va_cm (f := f) (i := j) (j := i) (Ne.symm h)]
theorem va_6 {a : Nat → Nat → Int32} {x y z x' y' z' : Nat → Int32} : va_up (va_up (va_up (va_up (va_up (va_up a 22 x) 23 y) 24 z) 22 x') 23 y') 24 z' = va_up (va_up (va_up a 22 x') 23 y') 24 z' := by
  funext k
  unfold va_up
  by_cases h1 : k = 24
  · simp [h1]
  · by_cases h2 : k = 23
    · simp [h2]
    · by_cases h3 : k = 22
      · simp [h3]
      · simp [h1, h2, h3]
def rdR (f : Nat → Int32) (a : Nat → Nat → Int32) : m_rd := (rdP (a 21) (tL f) a).2
def rdB (f : Nat → Int32) (a : Nat → Nat → Int32) : Bool := rdOk (a 21) (tL f) a
def rd0 (f : Nat → Int32) (a : Nat → Nat → Int32) : Nat → Int32 := upd (upd (upd f 26 (nI (rdR f a).1)) 27 (nI (rdR f a).2.1)) 25 0
def rdW (f : Nat → Int32) (a : Nat → Nat → Int32) : Nat → Int32 := if rdB f a = true then rd0 f a else upd (rd0 f a) 28 (nI (rdR f a).1)
theorem upd_rr {f : Nat → Int32} {i j : Nat} {x y z : Int32} (h : i ≠ j) : upd (upd (upd f i x) j y) i z = upd (upd f i z) j y := by
  funext k
  unfold upd
  by_cases h1 : k = i
  · subst h1; simp [h]
  · simp [h1]
theorem tA_n {f : Nat → Int32} {i : Nat} {x : Int32} (h : i < 2 ^ 31) : tA (upd (upd f 26 (nI i)) 27 x) = i := by
  show (upd (upd f 26 (nI i)) 27 x 26).toNatClampNeg = i
  rw [upd_n (by decide), upd_s]
  exact nI_clamp h
theorem tS_n {f : Nat → Int32} {n : Nat} (h : n < 2 ^ 31) : tS (upd f 27 (nI n)) = n := by
  show (upd f 27 (nI n) 27).toNatClampNeg = n
  rw [upd_s]
  exact nI_clamp h
theorem okT_n {f : Nat → Int32} (h : okL f) {i n : Nat} (hi : i ≤ 60) (hn : n ≤ 30) : okT (upd (upd f 26 (nI i)) 27 (nI n)) := by
  refine ⟨h, ⟨?_, ?_⟩, ?_, ?_⟩
  · rw [tA_n (by omega), upd_n (by decide), upd_s]
  · rw [tA_n (by omega)]; exact hi
  · rw [tS_n (by omega), upd_s]
  · rw [tS_n (by omega)]; exact hn
theorem n_b2i {n : Nat} {b : Bool} : nI n + b2i b = nI (if b = true then n + 1 else n) := by
  cases b
  · exact Int32.add_zero _
  · exact nI_1 n
theorem rd1_ok {t : Nat → Int32} {L : Nat} {S : m_rd} (h1 : S.1 ≤ L) (h2 : 2 * S.2.1 ≤ S.1) : (rd1 t L S).1 ≤ L ∧ 2 * (rd1 t L S).2.1 ≤ (rd1 t L S).1 + 1 ∧ S.1 ≤ (rd1 t L S).1 := by
  obtain ⟨a1, a2, a3⟩ := rS_le (t := t) h1
  refine ⟨a2, ?_, a1⟩
  show 2 * (if (rS t L S.1).1 = true then S.2.1 + 1 else S.2.1) ≤ (rS t L S.1).2.1 + 1
  split
  · rename_i h
    have := a3 h
    omega
  · omega

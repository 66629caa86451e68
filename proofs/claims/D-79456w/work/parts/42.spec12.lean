/-! THE PURE PICTURE: least moves, level by level -/
set_option maxRecDepth 100000
def bO2 (b : Nat → Int32) (B : Nat → Nat) : Prop := ∀ i, i ≤ 20 → b i = nI (B i) - 1 ∧ B i ≤ 22
theorem bO2.up {b : Nat → Int32} {B : Nat → Nat} (h : bO2 b B) {j v : Nat} {x : Int32} (hx : x = nI v - 1) (hv : v ≤ 22) : bO2 (upd b j x) (uN B j v) := by
  intro i hi
  unfold upd uN
  by_cases e : i = j
  · rw [if_pos e, if_pos e]; exact ⟨hx, hv⟩
  · rw [if_neg e, if_neg e]; exact h i hi
theorem bO2_0 {b : Nat → Int32} {s v : Nat} {x : Int32} (hx : x = nI v - 1) (hv : v ≤ 22) : bO2 (upd (clN b 21) s x) (B0 s v) :=
  bO2.up (fun i hi => ⟨by rw [clN_at (by omega)]; rfl, Nat.zero_le _⟩) hx hv
/-- how many were found -/
def cnN (B : Nat → Nat) : Nat → Nat
  | 0 => 0
  | n + 1 => cnN B n + (if B n = 0 then 0 else 1)
theorem cnN_le (B : Nat → Nat) (n : Nat) : cnN B n ≤ n := by
  induction n with
  | zero => exact Nat.le_refl _
  | succ n ih => show cnN B n + _ ≤ n + 1; split <;> omega
theorem cnN_same {B : Nat → Nat} {j v n : Nat} (h : n ≤ j) : cnN (uN B j v) n = cnN B n := by
  induction n with
  | zero => rfl
  | succ n ih =>
    show cnN _ n + (if uN B j v n = 0 then 0 else 1) = cnN B n + (if B n = 0 then 0 else 1)
    rw [ih (by omega)]
    unfold uN
    rw [if_neg (show ¬ n = j by omega)]
theorem cnN_up {B : Nat → Nat} {j v n : Nat} (h : j < n) (h0 : B j = 0) (hv : v ≠ 0) : cnN (uN B j v) n = cnN B n + 1 := by
  induction n with
  | zero => omega
  | succ n ih =>
    show cnN _ n + (if uN B j v n = 0 then 0 else 1) = cnN B n + (if B n = 0 then 0 else 1) + 1
    by_cases e : j = n
    · subst e
      rw [cnN_same (Nat.le_refl _), h0, if_pos rfl]
      unfold uN
      rw [if_pos rfl, if_neg hv]
    · rw [ih (by omega)]
      have e2 : uN B j v n = B n := if_neg (by omega)
      rw [e2]
      omega
/-- found: at the least number of moves, at most N; not found: with no m ≤ n -/
def lvl (w : m_w) (s N n : Nat) (B : Nat → Nat) : Prop := ∀ i, i ≤ nN w → (∀ d, B i = d + 1 → d ≤ N ∧ Wk w s d i ∧ ∀ m, m < d → ¬ Wk w s m i) ∧ (B i = 0 → ∀ m, m ≤ n → ¬ Wk w s m i)
def stb (w : m_w) (s : Nat) (B : Nat → Nat) : Prop := ∀ m i, i ≤ nN w → Wk w s m i → B i ≠ 0
theorem Wk.le {w : m_w} {s : Nat} (hs : s ≤ nN w) : ∀ {m i : Nat}, Wk w s m i → i ≤ nN w
  | 0, _, h => by rw [show _ = s from h]; exact hs
  | _ + 1, _, ⟨_, _, _, h, _⟩ => h
theorem lvl_0 {w : m_w} {s : Nat} : lvl w s 0 0 (B0 s 1) := by
  intro i hi
  unfold B0 uN
  by_cases e : i = s
  · rw [if_pos e]
    refine ⟨fun d hd => ?_, fun q => absurd q (by decide)⟩
    obtain rfl : d = 0 := by omega
    exact ⟨Nat.le_refl _, e, fun m hm => absurd hm (Nat.not_lt_zero _)⟩
  · rw [if_neg e]
    refine ⟨fun d hd => absurd (show 0 = d + 1 from hd) (by omega), fun _ m hm => ?_⟩
    obtain rfl : m = 0 := by omega
    exact e
/-- one more found at level n + 1 -/
theorem lvl_up {w : m_w} {s n i j : Nat} {B : Nat → Nat} (h : lvl w s (n + 1) n B) (hi : i ≤ nN w) (hj : j ≤ nN w) (hb : B i = n + 1) (h0 : B j = 0) (hy : wyN w i j = true) : lvl w s (n + 1) n (uN B j (n + 2)) := by
  intro k hk
  unfold uN
  by_cases e : k = j
  · rw [if_pos e]
    subst e
    refine ⟨fun d hd => ?_, fun q => absurd q (by omega)⟩
    obtain rfl : d = n + 1 := by omega
    refine ⟨Nat.le_refl _, ⟨i, hi, ((h i hi).1 n hb).2.1, hj, hy⟩, fun m hm => (h k hk).2 h0 m (by omega)⟩
  · rw [if_neg e]
    exact h k hk
theorem lvl_end {w : m_w} {s n : Nat} {B : Nat → Nat} (hs : s ≤ nN w) (h : lvl w s (n + 1) n B) (hc : ∀ i, i ≤ nN w → ∀ j, j ≤ nN w → B i = n + 1 → wyN w i j = true → B j ≠ 0) : lvl w s (n + 1) (n + 1) B := by
  intro j hj
  refine ⟨(h j hj).1, fun h0 m hm => ?_⟩
  rcases Nat.lt_or_ge m (n + 1) with q | q
  · exact (h j hj).2 h0 m (by omega)
  · obtain rfl : m = n + 1 := by omega
    rintro ⟨i, hi, hw, -, hy⟩
    have hne : B i ≠ 0 := fun z => (h i hi).2 z n (Nat.le_refl _) hw
    obtain ⟨d, hd⟩ : ∃ d, B i = d + 1 := ⟨B i - 1, by omega⟩
    obtain ⟨a1, a2, a3⟩ := (h i hi).1 d hd
    rcases Nat.lt_trichotomy d n with e | e | e
    · exact (h j hj).2 h0 (d + 1) (by omega) ⟨i, hi, a2, hj, hy⟩
    · subst e; exact hc i hi j hj hd hy h0
    · exact a3 n e hw
theorem stb_of {w : m_w} {s n : Nat} {B : Nat → Nat} (hs : s ≤ nN w) (h : lvl w s n n B) (hc : ∀ i, i ≤ nN w → ∀ j, j ≤ nN w → B i = n + 1 → wyN w i j = true → B j ≠ 0) : stb w s B := by
  intro m
  induction m with
  | zero => intro i hi hw q; exact (h i hi).2 q 0 (Nat.zero_le _) hw
  | succ m ih =>
    rintro j hj ⟨i, hi, hw, -, hy⟩ h0
    have hne := ih i hi hw
    obtain ⟨d, hd⟩ : ∃ d, B i = d + 1 := ⟨B i - 1, by omega⟩
    obtain ⟨a1, a2, a3⟩ := (h i hi).1 d hd
    rcases Nat.lt_or_ge d n with e | e
    · exact (h j hj).2 h0 (d + 1) (by omega) ⟨i, hi, a2, hj, hy⟩
    · obtain rfl : d = n := by omega
      exact hc i hi j hj hd hy h0
theorem lvl_w {w : m_w} {s N M n : Nat} {B : Nat → Nat} (h : lvl w s N n B) (hm : N ≤ M) : lvl w s M n B := fun i hi => ⟨fun d hd => ⟨Nat.le_trans ((h i hi).1 d hd).1 hm, ((h i hi).1 d hd).2⟩, (h i hi).2⟩
theorem stb_le {w : m_w} {s : Nat} {B B' : Nat → Nat} (h : stb w s B) (hl : ∀ i, i ≤ nN w → B i ≠ 0 → B' i ≠ 0) : stb w s B' := fun m i hi hw => hl i hi (h m i hi hw)

/-! THE PURE PICTURE: a wall is a row w of ints (the reference's own); what the methods answer of it -/
set_option maxRecDepth 100000
abbrev m_w : Type := Nat → Int32
def nN (w : m_w) : Nat := (w 0).toNatClampNeg
def nLa (w : m_w) : Nat := (w 104).toNatClampNeg
def nAn (w : m_w) : Nat := (w 131).toNatClampNeg
def nFo (w : m_w) : Nat := (w 145).toNatClampNeg
def hX (w : m_w) (h : Int32) (t : Nat) : Int32 := w (1 + 5 * h.toNatClampNeg + t)
def lX (w : m_w) (k : Int32) (t : Nat) : Int32 := w (105 + 5 * k.toNatClampNeg + t)
def cX (w : m_w) (c : Int32) (t : Nat) : Int32 := w (125 + 3 * c.toNatClampNeg + t)
def setC (w : m_w) (c : Int32) (t : Nat) (v : Int32) : m_w := upd w (125 + 3 * c.toNatClampNeg + t) v
def btw (v lo hi : Int32) : Bool := decide (lo ≤ v) && decide (v ≤ hi)
def sz (v : Int32) : Int32 := if v < 0 then -v else v
def isHo (w : m_w) (h : Int32) : Bool := btw h 0 (w 0 - 1)
def isPl (w : m_w) (h : Int32) : Bool := btw h (-1) (w 0 - 1)
def isLa (w : m_w) (h : Int32) : Bool := btw h 0 (w 104 - 1)
def isCl (c : Int32) : Bool := decide (c = 0) || decide (c = 1)
def hasCr (w : m_w) (h : Int32) : Bool := decide (hX w h 3 ≤ hX w h 4)
def dst (w : m_w) (x y : Int32) : Int32 := if x = -1 ∧ y = -1 then 0 else if x = -1 then hX w y 1 else if y = -1 then hX w x 1 else sz (hX w x 0 - hX w y 0) + sz (hX w x 1 - hX w y 1)
def plc (w : m_w) (c : Int32) : Int32 := cX w c 0
def lPl (w : m_w) (k : Int32) : Int32 := if 0 ≤ lX w k 1 then plc w (lX w k 1) else lX w k 0
def anyN : Nat → (Nat → Bool) → Bool
  | 0, _ => false
  | n + 1, p => anyN n p || p n
def orN : Nat → (Nat → Int32) → Int32
  | 0, _ => 0
  | n + 1, p => orN n p ||| p n
def sumN : Nat → (Nat → Int32) → Int32
  | 0, _ => 0
  | n + 1, p => sumN n p + p n
/-- the first place where p holds, from k on; -1: none -/
def fstN (n : Nat) (p : Nat → Bool) : Int32 := match (List.range n).find? p with
  | some k => nI k
  | none => -1
def litK (w : m_w) (h : Int32) (k : Nat) : Bool := decide (lX w (nI k) 4 = 1) && decide (dst w (lPl w (nI k)) h ≤ lX w (nI k) 2)
def isBr (w : m_w) (h : Int32) : Bool := anyN (nLa w) (litK w h) || decide (hX w h 1 < w 102)
def bitK (k : Nat) : Int32 := (1 : Int32) <<< (nI k &&& 31)
def carr (w : m_w) (c : Int32) : Int32 := orN (nLa w) (fun k => if lX w (nI k) 1 = c then bitK k else 0)
def bits (x : Int32) : Int32 := sumN 20 (fun k => x >>> (nI k &&& 31) &&& 1)
def isSe (w : m_w) (c : Int32) : Bool := decide (cX w c 1 = 0) && (decide (plc w c = -1) || !hasCr w (plc w c))
def hAt (w : m_w) (col row : Int32) : Int32 := fstN (nN w) (fun k => decide (hX w (nI k) 0 = col) && decide (hX w (nI k) 1 = row))
def cAt (w : m_w) (h : Int32) : Int32 := (if plc w 0 = h then 1 else 0) + (if plc w 1 = h then 2 else 0)
def lAt (w : m_w) (h : Int32) : Int32 := orN (nLa w) (fun k => if lX w (nI k) 1 < 0 ∧ lX w (nI k) 0 = h then bitK k else 0)
def aAt (w : m_w) (h : Int32) : Int32 := sumN (nAn w) (fun k => if w (132 + k) = h then 1 else 0)
/-- the rope through the first n anchors: what is out, and where it is then -/
def ropeN (w : m_w) (x : Int32) : Nat → Int32 × Int32
  | 0 => (0, x)
  | n + 1 => ((ropeN w x n).1 + dst w (ropeN w x n).2 (w (132 + n)), w (132 + n))
def rope (w : m_w) (x y : Int32) : Int32 := (ropeN w x (nAn w)).1 + dst w (ropeN w x (nAn w)).2 y
def ropeO (w : m_w) : Int32 := rope w (plc w 1) (plc w 0)
def cost (w : m_w) (c p : Int32) : Int32 := dst w (plc w c) p + bits (carr w c)
def hOf (w : m_w) (h t : Int32) : Int32 := if t = 5 then b2i (hasCr w h) else if t = 6 then b2i (isBr w h) else if t = 7 then cAt w h else if t = 8 then lAt w h else if t = 9 then aAt w h else hX w h t.toNatClampNeg
def lOf (w : m_w) (k t : Int32) : Int32 := if t = 0 then lPl w k else lX w k t.toNatClampNeg
def cOf (w : m_w) (c t : Int32) : Int32 := if t < 3 then cX w c t.toNatClampNeg else if t = 3 then carr w c else b2i (isSe w c)
/-! why something is refused: the reason and its detail -/
abbrev m_why : Type := Option (Int32 × Int32)
def m_hin (f : Nat → Int32) : m_why → Nat → Int32
  | none => f
  | some q => upd (upd f 3 q.1) 4 q.2
def nAct (w : m_w) (c : Int32) (hang : Bool) : m_why := if cX w c 1 = 2 then some (1, 0) else if hang = true ∧ cX w c 1 = 1 then some (9, 0) else none
def nClip (w : m_w) : m_why := match nAct w 0 true with
  | some q => some q
  | none => if plc w 0 = -1 then some (10, 0) else if ¬ w 131 - 1 < 0 ∧ w (131 + nAn w) = plc w 0 then some (11, plc w 0) else if w 131 - 1 = 7 then some (12, 0) else none
def nUncl (w : m_w) : m_why := match nAct w 1 true with
  | some q => some q
  | none => if plc w 1 = -1 then some (10, 0) else if w 131 = 0 ∨ ¬ w 132 = plc w 1 then some (11, plc w 1) else none
def ropeTo (w : m_w) (c p : Int32) : Int32 := if c = 0 then rope w (plc w 1) p else rope w p (plc w 0)
def nMove (w : m_w) (c p : Int32) : m_why :=
  if cX w c 1 = 2 then some (1, 0)
  else if ¬ p = -1 ∧ hasCr w p = true then some (2, p)
  else if plc w c = p then some (3, p)
  else if w 101 < dst w (plc w c) p then some (4, dst w (plc w c) p)
  else if ¬ p = -1 ∧ isBr w p = false then some (5, hX w p 1)
  else if ¬ p = -1 ∧ plc w (1 - c) = p then some (6, 1 - c)
  else if cX w c 2 < cost w c p then some (7, cost w c p)
  else if w 103 < ropeTo w c p then some (8, ropeTo w c p) else none
def lies (w : m_w) (c k : Int32) : Bool := decide (lX w k 1 < 0) && decide (lX w k 0 = plc w c)
def nTake (w : m_w) (c k : Int32) : m_why := match nAct w c false with
  | some q => some q
  | none => if lies w c k = false then some (13, k) else if bits (carr w c) = 2 then some (14, 0) else none
def nPut (w : m_w) (c k : Int32) : m_why := match nAct w c true with
  | some q => some q
  | none => if ¬ lX w k 1 = c then some (13, k) else none
def nLight (w : m_w) (c k : Int32) : m_why := match nAct w c false with
  | some q => some q
  | none => if (decide (lX w k 1 = c) || lies w c k) = false then some (13, k) else if lX w k 4 = 0 ∧ lX w k 3 = 0 then some (15, 0) else none
/-! what must hold of a wall -/
def okP (w : m_w) (p : Int32) : Prop := p = -1 ∨ vp_in p (nN w)
def okHold (w : m_w) (h : Nat) : Prop := (∃ j, j ≤ 9 ∧ w (1 + 5 * h) = nI j) ∧ (∃ j, 1 ≤ j ∧ j ≤ 20 ∧ w (1 + 5 * h + 1) = nI j) ∧ (∃ j, j ≤ 3 ∧ w (1 + 5 * h + 2) = nI j)
def okCl (w : m_w) (c : Nat) : Prop := okP w (w (125 + 3 * c)) ∧ (∃ j, j ≤ 2 ∧ w (125 + 3 * c + 1) = nI j) ∧ (∃ j, j ≤ 20 ∧ w (125 + 3 * c + 2) = nI j)
def okLa (w : m_w) (k : Nat) : Prop := okP w (w (105 + 5 * k)) ∧ (w (105 + 5 * k + 1) = -1 ∨ w (105 + 5 * k + 1) = 0 ∨ w (105 + 5 * k + 1) = 1) ∧ (w (105 + 5 * k + 4) = 0 ∨ w (105 + 5 * k + 4) = 1)
def WF (w : m_w) : Prop := (w 0 = nI (nN w) ∧ nN w ≤ 20) ∧ (w 104 = nI (nLa w) ∧ nLa w ≤ 4) ∧ (w 131 = nI (nAn w) ∧ nAn w ≤ 8) ∧ (w 145 = nI (nFo w) ∧ nFo w ≤ 16) ∧ (∀ h, h < nN w → okHold w h) ∧ (okCl w 0 ∧ okCl w 1) ∧ (∀ k, k < nLa w → okLa w k) ∧ (∀ k, k < nAn w → vp_in (w (132 + k)) (nN w))
/-! places in the row -/
theorem vp_mono {x : Int32} {n N : Nat} (h : vp_in x n) (hn : n ≤ N) : vp_in x N := fun q => h (q.elim Or.inl (fun q => Or.inr (Nat.le_trans hn q)))
theorem vp_j {x : Int32} {n : Nat} (h : vp_in x n) (hn : n < 2 ^ 31) : ∃ j : Nat, j < n ∧ x = nI j ∧ x.toNatClampNeg = j := by
  obtain ⟨j, h1, h2⟩ := vp_in_of h hn
  exact ⟨j, h1, h2, by rw [h2]; exact nI_clamp (by omega)⟩
theorem nI_c (n : Nat) : nI n = Int32.ofNat n := rfl
theorem ix_h {h t : Int32} (hh : vp_in h 20) (ht : vp_in t 5) : vp_in (1 + 5 * h + t) 170 ∧ (1 + 5 * h + t).toNatClampNeg = 1 + 5 * h.toNatClampNeg + t.toNatClampNeg := by
  obtain ⟨j, h1, h2, h3⟩ := vp_j hh (by decide)
  obtain ⟨k, h4, h5, h6⟩ := vp_j ht (by decide)
  have e : 1 + 5 * h + t = nI (1 + 5 * j + k) := by
    rw [h2, h5, show (1 : Int32) = nI 1 from rfl, show (5 : Int32) = nI 5 from rfl, pk_mul, nI_add, nI_add]
  rw [e, h3, h6]
  exact ⟨vp_in_nI (by omega) (by decide), nI_clamp (by omega)⟩
theorem ix_l {h t : Int32} (hh : vp_in h 4) (ht : vp_in t 5) : vp_in (105 + 5 * h + t) 170 ∧ (105 + 5 * h + t).toNatClampNeg = 105 + 5 * h.toNatClampNeg + t.toNatClampNeg := by
  obtain ⟨j, h1, h2, h3⟩ := vp_j hh (by decide)
  obtain ⟨k, h4, h5, h6⟩ := vp_j ht (by decide)
  have e : 105 + 5 * h + t = nI (105 + 5 * j + k) := by
    rw [h2, h5, show (105 : Int32) = nI 105 from rfl, show (5 : Int32) = nI 5 from rfl, pk_mul, nI_add, nI_add]
  rw [e, h3, h6]
  exact ⟨vp_in_nI (by omega) (by decide), nI_clamp (by omega)⟩
theorem ix_c {h t : Int32} (hh : vp_in h 2) (ht : vp_in t 3) : vp_in (125 + 3 * h + t) 170 ∧ (125 + 3 * h + t).toNatClampNeg = 125 + 3 * h.toNatClampNeg + t.toNatClampNeg := by
  obtain ⟨j, h1, h2, h3⟩ := vp_j hh (by decide)
  obtain ⟨k, h4, h5, h6⟩ := vp_j ht (by decide)
  have e : 125 + 3 * h + t = nI (125 + 3 * j + k) := by
    rw [h2, h5, show (125 : Int32) = nI 125 from rfl, show (3 : Int32) = nI 3 from rfl, pk_mul, nI_add, nI_add]
  rw [e, h3, h6]
  exact ⟨vp_in_nI (by omega) (by decide), nI_clamp (by omega)⟩
theorem ix_k {b k N : Nat} (h : b + k < N) (hN : N < 2 ^ 31) : vp_in (nI b + nI k) N ∧ (nI b + nI k).toNatClampNeg = b + k := by
  rw [nI_add]
  exact ⟨vp_in_nI h hN, nI_clamp (by omega)⟩
theorem br_isPl {w : m_w} {p : Int32} (hw : WF w) (h : okP w p) : p = -1 ∨ vp_in p 20 := h.elim Or.inl (fun q => Or.inr (vp_mono q hw.1.2))
theorem WF.h20 {w : m_w} {h : Int32} (hw : WF w) (hh : vp_in h (nN w)) : vp_in h 20 := vp_mono hh hw.1.2
theorem WF.l4 {w : m_w} {h : Int32} (hw : WF w) (hh : vp_in h (nLa w)) : vp_in h 4 := vp_mono hh hw.2.1.2
theorem WF.pl {w : m_w} (hw : WF w) {c : Int32} (hc : vp_in c 2) : okP w (plc w c) := by
  obtain ⟨j, h1, h2, h3⟩ := vp_j hc (by decide)
  unfold plc cX
  rw [h3]
  rcases (show j = 0 ∨ j = 1 by omega) with rfl | rfl
  · exact hw.2.2.2.2.2.1.1.1
  · exact hw.2.2.2.2.2.1.2.1
theorem WF.lpl {w : m_w} (hw : WF w) {k : Int32} (hk : vp_in k (nLa w)) : okP w (lPl w k) := by
  obtain ⟨j, h1, h2, h3⟩ := vp_j hk (Nat.lt_of_le_of_lt hw.2.1.2 (by decide))
  have ho := hw.2.2.2.2.2.2.1 j h1
  unfold lPl
  split
  · rename_i h
    unfold lX at h ⊢
    rw [h3] at h ⊢
    rcases ho.2.1 with e | e | e
    · rw [e] at h; exact absurd h (by decide)
    · rw [e]; exact hw.pl (vp_lit (by decide))
    · rw [e]; exact hw.pl (vp_lit (by decide))
  · unfold lX
    rw [h3]
    exact ho.1
theorem vp_isBtw {x : Int32} {n : Nat} (hn : n < 2 ^ 31) : btw x 0 (nI n - 1) = true ↔ vp_in x n := by
  unfold btw
  rw [Bool.and_eq_true, decide_eq_true_eq, decide_eq_true_eq, vp_in_iff, Int32.le_iff_toInt_le, Int32.le_iff_toInt_le]
  cases n with
  | zero =>
    have e : (nI 0 - 1).toInt = -1 := by decide
    rw [e]
    have e0 : (0 : Int32).toInt = 0 := by decide
    rw [e0]
    omega
  | succ n =>
    rw [nI_pred, nI_toInt (by omega)]
    have e0 : (0 : Int32).toInt = 0 := by decide
    rw [e0]
    omega
theorem isHo_iff {w : m_w} (hw : WF w) {h : Int32} : isHo w h = true ↔ vp_in h (nN w) := by
  unfold isHo
  rw [hw.1.1]
  exact vp_isBtw (Nat.lt_of_le_of_lt hw.1.2 (by decide))
theorem isLa_iff {w : m_w} (hw : WF w) {h : Int32} : isLa w h = true ↔ vp_in h (nLa w) := by
  unfold isLa
  rw [hw.2.1.1]
  exact vp_isBtw (Nat.lt_of_le_of_lt hw.2.1.2 (by decide))
theorem isPl_iff {w : m_w} (hw : WF w) {h : Int32} : isPl w h = true ↔ okP w h := by
  unfold okP
  rw [← isHo_iff hw]
  unfold isPl isHo btw
  simp only [Bool.and_eq_true, decide_eq_true_eq, Int32.le_iff_toInt_le]
  have e0 : (0 : Int32).toInt = 0 := by decide
  have e1 : (-1 : Int32).toInt = -1 := by decide
  rw [e0, e1]
  have hb : -1 ≤ (w 0 - 1).toInt := by
    rw [hw.1.1]
    have hn := hw.1.2
    revert hn
    generalize nN w = n
    intro hn
    cases n with
    | zero => decide
    | succ n => rw [nI_pred, nI_toInt (by omega)]; omega
  constructor
  · intro ⟨h1, h2⟩
    by_cases h3 : h.toInt = -1
    · left
      apply Int32.toInt_inj.mp
      rw [h3, e1]
    · right; exact ⟨by omega, h2⟩
  · rintro (h1 | ⟨h1, h2⟩)
    · rw [h1, e1]; exact ⟨by omega, hb⟩
    · exact ⟨by omega, h2⟩
theorem isCl_iff {c : Int32} : isCl c = true ↔ vp_in c 2 := by
  unfold isCl
  simp only [Bool.or_eq_true, decide_eq_true_eq]
  constructor
  · rintro (h | h) <;> subst h <;> exact vp_lit (by decide)
  · intro h
    obtain ⟨j, h1, h2, -⟩ := vp_j h (by decide)
    rcases (show j = 0 ∨ j = 1 by omega) with rfl | rfl
    · exact Or.inl h2
    · exact Or.inr h2

/-! THE PURE PICTURE: the public methods -/
set_option maxRecDepth 100000
def putW (w : m_w) (c k : Int32) : m_w := upd (upd w (105 + 5 * k.toNatClampNeg + 1) (-1)) (105 + 5 * k.toNatClampNeg) (plc (upd w (105 + 5 * k.toNatClampNeg + 1) (-1)) c)
def takeW (w : m_w) (c k : Int32) : m_w := upd w (105 + 5 * k.toNatClampNeg + 1) c
def litW (w : m_w) (k : Int32) : m_w := upd w (105 + 5 * k.toNatClampNeg + 4) (1 - lX w k 4)
/-- kept before a change, and changed -/
def cmA (f : Nat → Int32) (a : Nat → Nat → Int32) (w' : m_w) : Nat → Nat → Int32 := va_up (va_up (va_up a 8 (va_cpy (a 5) (a 8) 0 0 170)) 6 (va_cpy (va_cpy (a 5) (a 8) 0 0 170) (a 6) 0 (170 * rSl f) 170)) 5 w'
def pubF (f : Nat → Int32) (o : m_why) (k : Int32) : Nat → Int32 := match o with
  | some q => m_ref (m_hin f (some q)) k
  | none => remF (upd f 0 0)
def pubA (f : Nat → Int32) (a : Nat → Nat → Int32) (o : m_why) (w' : m_w) : Nat → Nat → Int32 := match o with
  | some _ => a
  | none => cmA (upd f 0 0) a w'
def pubR (o : m_why) (r : Int32) : Int32 := match o with
  | some _ => 0
  | none => r
def setOk (t v : Int32) : Bool := if t = 0 then btw v 1 6 else if t = 1 then btw v 0 21 else decide (t = 2) && btw v 5 60
def nSet (w : m_w) (t v : Int32) : m_why := if t = 2 ∧ v < ropeO w then some (17, ropeO w) else none
def setW (w : m_w) (t v : Int32) : m_w := upd w (101 + t.toNatClampNeg) v
def hdOk (c r k s : Int32) : Bool := btw c 0 9 && (btw r 1 20 && (btw k 0 3 && btw s 1 9))
def nHold (w : m_w) (c r : Int32) : m_why := if hAt w c r < 0 then none else some (16, hAt w c r)
def hdW (w : m_w) (c r k s : Int32) : m_w := upd (upd (upd (upd (upd (upd w 0 (w 0 + 1)) (1 + 5 * nN w) c) (1 + 5 * nN w + 1) r) (1 + 5 * nN w + 2) k) (1 + 5 * nN w + 3) s) (1 + 5 * nN w + 4) 0
def lpOk (r o : Int32) : Bool := btw r 1 6 && btw o 0 60
def nLamp (w : m_w) (p : Int32) : m_why := if ¬ p = -1 ∧ hasCr w p = true then some (2, p) else none
def lpW (w : m_w) (p r o : Int32) : m_w := upd (upd (upd (upd (upd (upd w 104 (w 104 + 1)) (105 + 5 * nLa w) p) (105 + 5 * nLa w + 1) (-1)) (105 + 5 * nLa w + 2) r) (105 + 5 * nLa w + 3) o) (105 + 5 * nLa w + 4) 0
theorem wA_n {w : m_w} (hw : WF w) : vp_in (132 + w 131) 170 ∧ (132 + w 131).toNatClampNeg = 132 + nAn w := by
  have := hw.2.2.1.2
  rw [hw.2.2.1.1]
  exact ix_k (b := 132) (by omega) (by decide)
theorem tk_131 {w w1 : m_w} {h : Int32} {k n : Nat} (e : tkN w h k = (w1, n)) : w1 131 = w 131 ∧ n ≤ k := by
  have h1 := tkN_n (w := w) (h := h) (n := k) (j := 131) (by omega)
  have h2 := tkN_le (w := w) (h := h) (n := k)
  rw [e] at h1 h2
  exact ⟨h1, h2⟩
theorem tk_skip {w w1 : m_w} {h : Int32} {k n : Nat} (e : tkN w h k = (w1, n)) (c : w1 (132 + k) = h) : tkN w h (k + 1) = (w1, n) := by
  show (if (tkN w h k).1 (132 + k) = h then tkN w h k else _) = _
  rw [e]
  exact if_pos c
theorem tk_take {w w1 : m_w} {h : Int32} {k n : Nat} (e : tkN w h k = (w1, n)) (c : ¬ w1 (132 + k) = h) : tkN w h (k + 1) = (upd w1 (132 + n) (w1 (132 + k)), n + 1) := by
  show (if (tkN w h k).1 (132 + k) = h then tkN w h k else (upd (tkN w h k).1 (132 + (tkN w h k).2) ((tkN w h k).1 (132 + k)), (tkN w h k).2 + 1)) = _
  rw [e]
  exact if_neg c
theorem tk_end {w w1 : m_w} {h : Int32} {n : Nat} (e : tkN w h (nAn w) = (w1, n)) : upd w1 131 (nI n) = tkW w h := by
  unfold tkW
  rw [e]
theorem ix_k0 {k : Nat} (hk : k < 8) : vp_in (132 + nI k) 170 ∧ (132 + nI k).toNatClampNeg = 132 + k := ix_k (b := 132) (by omega) (by decide)
theorem ix_k1 {k : Nat} (hk : k < 8) : vp_in (132 + nI k + 1) 170 ∧ (132 + nI k + 1).toNatClampNeg = 132 + k + 1 := by
  have h := ix_k (b := 132) (k := k + 1) (N := 170) (by omega) (by decide)
  rw [← nI_1 k, ← Int32.add_assoc] at h
  exact h
theorem okU_0 {f : Nat → Int32} (h : okU f) : okU (upd f 0 0) := h
theorem WF.take {w : m_w} (hw : WF w) {c k : Int32} (hc : vp_in c 2) (hk : vp_in k (nLa w)) : WF (takeW w c k) := by
  obtain ⟨j, h1, h2, h3⟩ := vp_j (hw.l4 hk) (by decide)
  unfold takeW
  rw [h3]
  obtain ⟨q, g1, rfl, -⟩ := vp_j hc (by decide)
  refine hw.lcarr h1 ?_
  rcases (show q = 0 ∨ q = 1 by omega) with rfl | rfl
  · exact Or.inr (Or.inl rfl)
  · exact Or.inr (Or.inr rfl)
theorem WF.put {w : m_w} (hw : WF w) {c k : Int32} (hc : vp_in c 2) (hk : vp_in k (nLa w)) : WF (putW w c k) := by
  obtain ⟨j, h1, h2, h3⟩ := vp_j (hw.l4 hk) (by decide)
  unfold putW
  rw [h3]
  have h4 : WF (upd w (105 + 5 * j + 1) (-1)) := hw.lcarr h1 (Or.inl rfl)
  exact h4.lplace h1 (h4.pl hc)
theorem set_ix {t v : Int32} (h : setOk t v = true) : vp_in (101 + t) 170 ∧ (101 + t).toNatClampNeg = 101 + t.toNatClampNeg := by
  have : t = 0 ∨ t = 1 ∨ t = 2 := by
    unfold setOk at h
    split at h
    · rename_i e; exact Or.inl e
    · split at h
      · rename_i e; exact Or.inr (Or.inl e)
      · rw [Bool.and_eq_true] at h; exact Or.inr (Or.inr (of_decide_eq_true h.1))
  rcases this with rfl | rfl | rfl
  · exact ⟨vp_lit (by decide), by decide⟩
  · exact ⟨vp_lit (by decide), by decide⟩
  · exact ⟨vp_lit (by decide), by decide⟩
theorem ix_hn {w : m_w} (hw : WF w) (h : ¬ w 0 = 20) {t : Nat} (ht : t < 5) : vp_in (1 + 5 * w 0 + nI t) 170 ∧ (1 + 5 * w 0 + nI t).toNatClampNeg = 1 + 5 * nN w + t := by
  have h1 : nN w < 20 := by
    rcases Nat.lt_or_ge (nN w) 20 with q | q
    · exact q
    · exact absurd (by rw [hw.1.1, show nN w = 20 from by have := hw.1.2; omega]; rfl) h
  have h2 := ix_h (h := nI (nN w)) (t := nI t) (vp_in_nI h1 (by decide)) (vp_in_nI ht (by decide))
  rw [nI_clamp (by omega), nI_clamp (by omega)] at h2
  rw [hw.1.1]
  have e : nN (upd w 0 (w 0)) = nN w := rfl
  exact h2
theorem ix_ln {w : m_w} (hw : WF w) (h : ¬ w 104 = 4) {t : Nat} (ht : t < 5) : vp_in (105 + 5 * w 104 + nI t) 170 ∧ (105 + 5 * w 104 + nI t).toNatClampNeg = 105 + 5 * nLa w + t := by
  have h1 : nLa w < 4 := by
    rcases Nat.lt_or_ge (nLa w) 4 with q | q
    · exact q
    · exact absurd (by rw [hw.2.1.1, show nLa w = 4 from by have := hw.2.1.2; omega]; rfl) h
  rw [hw.2.1.1]
  exact ix_lk h1 ht

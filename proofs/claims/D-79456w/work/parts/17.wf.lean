/-! THE PICTURE stays good: one lemma for a place of the row; the counts apart -/
set_option maxRecDepth 100000
def okN (n : Nat) (p : Int32) : Prop := p = -1 ∨ vp_in p n
/-- what may stand at place j of a row of n holds, nl lamps, na anchors -/
def okIx (n nl na j : Nat) (x : Int32) : Prop :=
  (∀ h, h < n → (j = 1 + 5 * h → ∃ q, q ≤ 9 ∧ x = nI q) ∧ (j = 1 + 5 * h + 1 → ∃ q, 1 ≤ q ∧ q ≤ 20 ∧ x = nI q) ∧ (j = 1 + 5 * h + 2 → ∃ q, q ≤ 3 ∧ x = nI q)) ∧
  (∀ c, c < 2 → (j = 125 + 3 * c → okN n x) ∧ (j = 125 + 3 * c + 1 → ∃ q, q ≤ 2 ∧ x = nI q) ∧ (j = 125 + 3 * c + 2 → ∃ q, q ≤ 20 ∧ x = nI q)) ∧
  (∀ k, k < nl → (j = 105 + 5 * k → okN n x) ∧ (j = 105 + 5 * k + 1 → x = -1 ∨ x = 0 ∨ x = 1) ∧ (j = 105 + 5 * k + 4 → x = 0 ∨ x = 1)) ∧
  (∀ k, k < na → j = 132 + k → vp_in x n)
def okCn (w : m_w) : Prop := (w 0 = nI (nN w) ∧ nN w ≤ 20) ∧ (w 104 = nI (nLa w) ∧ nLa w ≤ 4) ∧ (w 131 = nI (nAn w) ∧ nAn w ≤ 8) ∧ (w 145 = nI (nFo w) ∧ nFo w ≤ 16)
theorem WF.iff {w : m_w} : WF w ↔ okCn w ∧ ∀ j, okIx (nN w) (nLa w) (nAn w) j (w j) := by
  constructor
  · intro ⟨h1, h2, h3, h4, h5, h6, h7, h8⟩
    refine ⟨⟨h1, h2, h3, h4⟩, fun j => ⟨fun h hh => ?_, fun c hc => ?_, fun k hk => ?_, fun k hk e => by subst e; exact h8 k hk⟩⟩
    · obtain ⟨a1, a2, a3⟩ := h5 h hh
      exact ⟨fun e => by subst e; exact a1, fun e => by subst e; exact a2, fun e => by subst e; exact a3⟩
    · have h9 : okCl w c := by
        rcases (show c = 0 ∨ c = 1 by omega) with rfl | rfl
        · exact h6.1
        · exact h6.2
      obtain ⟨a1, a2, a3⟩ := h9
      exact ⟨fun e => by subst e; exact a1, fun e => by subst e; exact a2, fun e => by subst e; exact a3⟩
    · obtain ⟨a1, a2, a3⟩ := h7 k hk
      exact ⟨fun e => by subst e; exact a1, fun e => by subst e; exact a2, fun e => by subst e; exact a3⟩
  · intro ⟨⟨h1, h2, h3, h4⟩, h⟩
    refine ⟨h1, h2, h3, h4, fun q hq => ?_, ⟨?_, ?_⟩, fun k hk => ?_, fun k hk => (h _).2.2.2 k hk rfl⟩
    · exact ⟨((h _).1 q hq).1 rfl, ((h _).1 q hq).2.1 rfl, ((h _).1 q hq).2.2 rfl⟩
    · exact ⟨((h _).2.1 0 (by decide)).1 rfl, ((h _).2.1 0 (by decide)).2.1 rfl, ((h _).2.1 0 (by decide)).2.2 rfl⟩
    · exact ⟨((h _).2.1 1 (by decide)).1 rfl, ((h _).2.1 1 (by decide)).2.1 rfl, ((h _).2.1 1 (by decide)).2.2 rfl⟩
    · exact ⟨((h _).2.2.1 k hk).1 rfl, ((h _).2.2.1 k hk).2.1 rfl, ((h _).2.2.1 k hk).2.2 rfl⟩
theorem upd_s (w : m_w) (i : Nat) (v : Int32) : upd w i v i = v := if_pos rfl
theorem upd_n {w : m_w} {i j : Nat} {v : Int32} (h : j ≠ i) : upd w i v j = w j := if_neg h
/-- a place that is no count -/
theorem WF.set {w : m_w} (hw : WF w) {i : Nat} {v : Int32} (h0 : i ≠ 0 ∧ i ≠ 104 ∧ i ≠ 131 ∧ i ≠ 145) (hv : okIx (nN w) (nLa w) (nAn w) i v) : WF (upd w i v) := by
  obtain ⟨h1, h2⟩ := WF.iff.mp hw
  have e0 : upd w i v 0 = w 0 := upd_n (Ne.symm h0.1)
  have e1 : upd w i v 104 = w 104 := upd_n (Ne.symm h0.2.1)
  have e2 : upd w i v 131 = w 131 := upd_n (Ne.symm h0.2.2.1)
  have e3 : upd w i v 145 = w 145 := upd_n (Ne.symm h0.2.2.2)
  refine WF.iff.mpr ⟨?_, fun j => ?_⟩
  · unfold okCn nN nLa nAn nFo at h1 ⊢
    rw [e0, e1, e2, e3]
    exact h1
  · unfold nN nLa nAn at h2 hv ⊢
    rw [e0, e1, e2]
    by_cases hj : j = i
    · subst hj; rw [upd_s]; exact hv
    · rw [upd_n hj]; exact h2 j
/-- a place that nothing is asked of -/
theorem okIx.any {n nl na j : Nat} {x : Int32} (h : j = 99 ∨ j = 100 ∨ j = 101 ∨ j = 102 ∨ j = 103 ∨ (140 ≤ j)) (hn : n ≤ 20) (hl : nl ≤ 4) (ha : na ≤ 8) : okIx n nl na j x := by
  refine ⟨fun q hq => ⟨fun e => ?_, fun e => ?_, fun e => ?_⟩, fun q hq => ⟨fun e => ?_, fun e => ?_, fun e => ?_⟩, fun q hq => ⟨fun e => ?_, fun e => ?_, fun e => ?_⟩, fun q hq e => ?_⟩ <;> exact absurd e (by omega)
theorem WF.any {w : m_w} (hw : WF w) {i : Nat} {v : Int32} (h : i = 99 ∨ i = 100 ∨ i = 101 ∨ i = 102 ∨ i = 103 ∨ (140 ≤ i ∧ i ≠ 145)) : WF (upd w i v) :=
  hw.set (by omega) (okIx.any (by omega) hw.1.2 hw.2.1.2 hw.2.2.1.2)
/-- a hold's strength or wear -/
theorem WF.wear {w : m_w} (hw : WF w) {h t : Nat} {v : Int32} (hh : h < 20) (ht : t = 3 ∨ t = 4) : WF (upd w (1 + 5 * h + t) v) := by
  have a1 := hw.1.2; have a2 := hw.2.1.2; have a3 := hw.2.2.1.2
  refine hw.set (by omega) ⟨fun q hq => ⟨fun e => ?_, fun e => ?_, fun e => ?_⟩, fun q hq => ⟨fun e => ?_, fun e => ?_, fun e => ?_⟩, fun q hq => ⟨fun e => ?_, fun e => ?_, fun e => ?_⟩, fun q hq e => ?_⟩ <;> exact absurd e (by omega)
/-- a lamp's radius or oil -/
theorem WF.oil {w : m_w} (hw : WF w) {h t : Nat} {v : Int32} (hh : h < 4) (ht : t = 2 ∨ t = 3) : WF (upd w (105 + 5 * h + t) v) := by
  have a1 := hw.1.2; have a2 := hw.2.1.2; have a3 := hw.2.2.1.2
  refine hw.set (by omega) ⟨fun q hq => ⟨fun e => ?_, fun e => ?_, fun e => ?_⟩, fun q hq => ⟨fun e => ?_, fun e => ?_, fun e => ?_⟩, fun q hq => ⟨fun e => ?_, fun e => ?_, fun e => ?_⟩, fun q hq e => ?_⟩ <;> exact absurd e (by omega)
theorem WF.lplace {w : m_w} (hw : WF w) {h : Nat} {v : Int32} (hh : h < 4) (hv : okP w v) : WF (upd w (105 + 5 * h) v) := by
  have a1 := hw.1.2; have a2 := hw.2.1.2; have a3 := hw.2.2.1.2
  refine hw.set (by omega) ⟨fun q hq => ⟨fun e => ?_, fun e => ?_, fun e => ?_⟩, fun q hq => ⟨fun e => ?_, fun e => ?_, fun e => ?_⟩, fun q hq => ⟨fun e => hv, fun e => ?_, fun e => ?_⟩, fun q hq e => ?_⟩ <;> exact absurd e (by omega)
theorem WF.lcarr {w : m_w} (hw : WF w) {h : Nat} {v : Int32} (hh : h < 4) (hv : v = -1 ∨ v = 0 ∨ v = 1) : WF (upd w (105 + 5 * h + 1) v) := by
  have a1 := hw.1.2; have a2 := hw.2.1.2; have a3 := hw.2.2.1.2
  refine hw.set (by omega) ⟨fun q hq => ⟨fun e => ?_, fun e => ?_, fun e => ?_⟩, fun q hq => ⟨fun e => ?_, fun e => ?_, fun e => ?_⟩, fun q hq => ⟨fun e => ?_, fun e => hv, fun e => ?_⟩, fun q hq e => ?_⟩ <;> exact absurd e (by omega)
theorem WF.llit {w : m_w} (hw : WF w) {h : Nat} {v : Int32} (hh : h < 4) (hv : v = 0 ∨ v = 1) : WF (upd w (105 + 5 * h + 4) v) := by
  have a1 := hw.1.2; have a2 := hw.2.1.2; have a3 := hw.2.2.1.2
  refine hw.set (by omega) ⟨fun q hq => ⟨fun e => ?_, fun e => ?_, fun e => ?_⟩, fun q hq => ⟨fun e => ?_, fun e => ?_, fun e => ?_⟩, fun q hq => ⟨fun e => ?_, fun e => ?_, fun e => hv⟩, fun q hq e => ?_⟩ <;> exact absurd e (by omega)
theorem WF.cplace {w : m_w} (hw : WF w) {c : Nat} {v : Int32} (hc : c < 2) (hv : okP w v) : WF (upd w (125 + 3 * c) v) := by
  have a1 := hw.1.2; have a2 := hw.2.1.2; have a3 := hw.2.2.1.2
  refine hw.set (by omega) ⟨fun q hq => ⟨fun e => ?_, fun e => ?_, fun e => ?_⟩, fun q hq => ⟨fun e => hv, fun e => ?_, fun e => ?_⟩, fun q hq => ⟨fun e => ?_, fun e => ?_, fun e => ?_⟩, fun q hq e => ?_⟩ <;> exact absurd e (by omega)
theorem WF.cstat {w : m_w} (hw : WF w) {c : Nat} {v : Int32} (hc : c < 2) (hv : ∃ q, q ≤ 2 ∧ v = nI q) : WF (upd w (125 + 3 * c + 1) v) := by
  have a1 := hw.1.2; have a2 := hw.2.1.2; have a3 := hw.2.2.1.2
  refine hw.set (by omega) ⟨fun q hq => ⟨fun e => ?_, fun e => ?_, fun e => ?_⟩, fun q hq => ⟨fun e => ?_, fun e => hv, fun e => ?_⟩, fun q hq => ⟨fun e => ?_, fun e => ?_, fun e => ?_⟩, fun q hq e => ?_⟩ <;> exact absurd e (by omega)
theorem WF.cgrip {w : m_w} (hw : WF w) {c : Nat} {v : Int32} (hc : c < 2) (hv : ∃ q, q ≤ 20 ∧ v = nI q) : WF (upd w (125 + 3 * c + 2) v) := by
  have a1 := hw.1.2; have a2 := hw.2.1.2; have a3 := hw.2.2.1.2
  refine hw.set (by omega) ⟨fun q hq => ⟨fun e => ?_, fun e => ?_, fun e => ?_⟩, fun q hq => ⟨fun e => ?_, fun e => ?_, fun e => hv⟩, fun q hq => ⟨fun e => ?_, fun e => ?_, fun e => ?_⟩, fun q hq e => ?_⟩ <;> exact absurd e (by omega)
/-- fewer anchors, each a hold -/
theorem WF.anch {w w' : m_w} (hw : WF w) {na : Nat} (hna : na ≤ 8) (h131 : w' 131 = nI na) (ho : ∀ j, (j < 131 ∨ 140 ≤ j) → w' j = w j) (ha : ∀ k, k < na → vp_in (w' (132 + k)) (nN w)) : WF w' := by
  obtain ⟨h1, h2⟩ := WF.iff.mp hw
  have e0 := ho 0 (by omega)
  have e1 := ho 104 (by omega)
  have e3 := ho 145 (by omega)
  have en : nAn w' = na := by unfold nAn; rw [h131]; exact nI_clamp (by omega)
  have hN : nN w' = nN w := by unfold nN; rw [e0]
  have hL : nLa w' = nLa w := by unfold nLa; rw [e1]
  have hF : nFo w' = nFo w := by unfold nFo; rw [e3]
  refine WF.iff.mpr ⟨⟨⟨?_, ?_⟩, ⟨?_, ?_⟩, ⟨?_, ?_⟩, ⟨?_, ?_⟩⟩, fun j => ?_⟩
  · rw [hN, e0]; exact h1.1.1
  · rw [hN]; exact h1.1.2
  · rw [hL, e1]; exact h1.2.1.1
  · rw [hL]; exact h1.2.1.2
  · rw [en]; exact h131
  · rw [en]; exact hna
  · rw [hF, e3]; exact h1.2.2.2.1
  · rw [hF]; exact h1.2.2.2.2
  · rw [hN, hL, en]
    have a1 := hw.1.2; have a2 := hw.2.1.2
    by_cases hj : j < 131 ∨ 140 ≤ j
    · rw [ho j hj]
      exact ⟨(h2 j).1, (h2 j).2.1, (h2 j).2.2.1, fun k hk e => absurd e (by omega)⟩
    · refine ⟨fun q hq => ⟨fun e => ?_, fun e => ?_, fun e => ?_⟩, fun q hq => ⟨fun e => ?_, fun e => ?_, fun e => ?_⟩, fun q hq => ⟨fun e => ?_, fun e => ?_, fun e => ?_⟩, fun k hk e => by subst e; exact ha k hk⟩ <;> exact absurd e (by omega)

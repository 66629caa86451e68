/-! THE PURE PICTURE: what the methods do to a wall -/
set_option maxRecDepth 100000
def incW (w : m_w) (i : Nat) : m_w := upd w i (w i + 1)
def burn (w : m_w) (k : Nat) : m_w := if w (105 + 5 * k + 4) = 0 then w else upd (upd w (105 + 5 * k + 3) (w (105 + 5 * k + 3) - 1)) (105 + 5 * k + 4) (if 0 < w (105 + 5 * k + 3) - 1 then 1 else 0)
def burnN (w : m_w) : Nat → m_w
  | 0 => w
  | n + 1 => burn (burnN w n) n
def minW (w : m_w) : m_w := burnN (incW w 140) (nLa w)
def dropG (w : m_w) (k : Nat) : m_w := upd (upd (upd w (105 + 5 * k + 1) (-1)) (105 + 5 * k) (-1)) (105 + 5 * k + 4) 0
def dropCN (w : m_w) (c : Int32) : Nat → m_w
  | 0 => w
  | n + 1 => if dropCN w c n (105 + 5 * n + 1) = c then dropG (dropCN w c n) n else dropCN w c n
def toGr (w : m_w) (c : Int32) : m_w := incW (setC (setC (dropCN w c (nLa w)) c 0 (-1)) c 1 2) 144
def hangW (w : m_w) (c h : Int32) : m_w := incW (setC (setC w c 0 h) c 1 1) 143
def clipW (w : m_w) : m_w := incW (upd w (132 + nAn w) (plc w 0)) 131
def shN (w : m_w) : Nat → m_w
  | 0 => w
  | n + 1 => upd (shN w n) (132 + n) (shN w n (132 + n + 1))
def unclW (w : m_w) : m_w := shN (upd w 131 (w 131 - 1)) (nAn w - 1)
/-- the anchors but h, moved up; how many -/
def tkN (w : m_w) (h : Int32) : Nat → m_w × Nat
  | 0 => (w, 0)
  | n + 1 => if (tkN w h n).1 (132 + n) = h then tkN w h n else (upd (tkN w h n).1 (132 + (tkN w h n).2) ((tkN w h n).1 (132 + n)), (tkN w h n).2 + 1)
def tkW (w : m_w) (h : Int32) : m_w := upd (tkN w h (nAn w)).1 131 (nI (tkN w h (nAn w)).2)
def folF (w : m_w) : m_w := if isSe w 0 = true ∧ 0 < w 131 then hangW w 1 (w 132) else toGr w 1
def wearO (w : m_w) (h c : Int32) : Int32 := (if hX w h 2 = 0 then 1 else if hX w h 2 = 2 then 2 else 0) + (if ¬ hX w h 2 = 3 ∧ bits (carr w c) = 2 then 1 else 0)
def gain (k : Int32) : Int32 := if k = 0 then 2 else if k = 1 then 4 else if k = 2 then 1 else 3
def resG (w : m_w) (p g : Int32) : Int32 := if 20 < (if p = -1 then 20 else g + gain (hX w p 2)) then 20 else (if p = -1 then 20 else g + gain (hX w p 2))
def restW (w : m_w) (c : Int32) : m_w := minW (incW (setC w c 2 (resG w (plc w c) (cX w c 2))) 142)
def isWy (w : m_w) (x y : Int32) : Bool := (!decide (x = y) && !decide (w 101 < dst w x y)) && (decide (y = -1) || (!hasCr w y && isBr w y))
def movS (w : m_w) (c : Int32) : Int32 := orN (nN w) (fun k => if (nMove w c (nI k)).isSome = true then 0 else bitK k)
/-- lamps that lie at h go to the ground, and out -/
def dropHN (w : m_w) (h : Int32) : Nat → m_w
  | 0 => w
  | n + 1 => if 0 ≤ dropHN w h n (105 + 5 * n + 1) ∨ ¬ dropHN w h n (105 + 5 * n) = h then dropHN w h n else upd (upd (dropHN w h n) (105 + 5 * n) (-1)) (105 + 5 * n + 4) 0
/-! what stays -/
theorem incW_n {w : m_w} {i j : Nat} (h : j ≠ i) : incW w i j = w j := upd_n h
theorem setC_n {w : m_w} {c v : Int32} {t j : Nat} (hc : vp_in c 2) (ht : t < 3) (h : j < 125 ∨ 131 ≤ j) : setC w c t v j = w j := by
  obtain ⟨q, h1, h2, h3⟩ := vp_j hc (by decide)
  unfold setC
  rw [h3]
  exact upd_n (by omega)
theorem burn_n {w : m_w} {k j : Nat} (h : j < 105 ∨ 105 + 5 * k + 4 < j) : burn w k j = w j := by
  unfold burn
  split
  · rfl
  · rw [upd_n (by omega), upd_n (by omega)]
theorem burnN_n {w : m_w} {n j : Nat} (h : j < 105 ∨ 105 + 5 * n ≤ j) : burnN w n j = w j := by
  induction n with
  | zero => rfl
  | succ n ih => show burn _ _ _ = _; rw [burn_n (by omega), ih (by omega)]
theorem dropG_n {w : m_w} {k j : Nat} (h : j < 105 ∨ 105 + 5 * k + 4 < j) : dropG w k j = w j := by
  unfold dropG
  rw [upd_n (by omega), upd_n (by omega), upd_n (by omega)]
theorem dropCN_n {w : m_w} {c : Int32} {n j : Nat} (h : j < 105 ∨ 105 + 5 * n ≤ j) : dropCN w c n j = w j := by
  induction n with
  | zero => rfl
  | succ n ih =>
    show (if _ then _ else _ : m_w) j = _
    split
    · rw [dropG_n (by omega), ih (by omega)]
    · exact ih (by omega)
theorem dropHN_n {w : m_w} {h : Int32} {n j : Nat} (hj : j < 105 ∨ 105 + 5 * n ≤ j) : dropHN w h n j = w j := by
  induction n with
  | zero => rfl
  | succ n ih =>
    show (if _ then _ else _ : m_w) j = _
    split
    · exact ih (by omega)
    · rw [upd_n (by omega), upd_n (by omega), ih (by omega)]
theorem shN_n {w : m_w} {n j : Nat} (h : j < 132 ∨ 132 + n ≤ j) : shN w n j = w j := by
  induction n with
  | zero => rfl
  | succ n ih => show upd _ _ _ _ = _; rw [upd_n (by omega), ih (by omega)]
theorem shN_at {w : m_w} {n k : Nat} (h : k < n) : shN w n (132 + k) = w (132 + k + 1) := by
  induction n with
  | zero => omega
  | succ n ih =>
    show upd _ _ _ _ = _
    by_cases hk : k = n
    · subst hk; rw [upd_s, shN_n (by omega)]
    · rw [upd_n (by omega), ih (by omega)]
theorem tkN_le {w : m_w} {h : Int32} {n : Nat} : (tkN w h n).2 ≤ n := by
  induction n with
  | zero => exact Nat.le_refl _
  | succ n ih =>
    show (if _ then _ else _ : m_w × Nat).2 ≤ _
    split
    · omega
    · show _ + 1 ≤ _; omega
theorem tkN_n {w : m_w} {h : Int32} {n j : Nat} (hj : j < 132 ∨ 132 + (tkN w h n).2 ≤ j) : (tkN w h n).1 j = w j := by
  induction n with
  | zero => rfl
  | succ n ih =>
    show (if _ then _ else _ : m_w × Nat).1 j = _
    have hj' : j < 132 ∨ 132 + (if (tkN w h n).1 (132 + n) = h then tkN w h n else (upd (tkN w h n).1 (132 + (tkN w h n).2) ((tkN w h n).1 (132 + n)), (tkN w h n).2 + 1)).2 ≤ j := hj
    revert hj'
    split
    · exact fun q => ih q
    · intro q
      have q : j < 132 ∨ 132 + ((tkN w h n).2 + 1) ≤ j := q
      show upd _ _ _ _ = _
      rw [upd_n (by omega), ih (by omega)]
/-- each that stays is one of those before -/
theorem tkN_at {w : m_w} {h : Int32} {n k : Nat} (hk : k < (tkN w h n).2) : ∃ q, q < n ∧ (tkN w h n).1 (132 + k) = w (132 + q) := by
  induction n with
  | zero => exact absurd hk (Nat.not_lt_zero _)
  | succ n ih =>
    have hk' : k < (if (tkN w h n).1 (132 + n) = h then tkN w h n else (upd (tkN w h n).1 (132 + (tkN w h n).2) ((tkN w h n).1 (132 + n)), (tkN w h n).2 + 1)).2 := hk
    simp only [tkN]
    revert hk'
    split
    · intro q
      obtain ⟨q1, q2, q3⟩ := ih q
      exact ⟨q1, by omega, q3⟩
    · intro q
      have q : k < (tkN w h n).2 + 1 := q
      have hle := tkN_le (w := w) (h := h) (n := n)
      by_cases e : k = (tkN w h n).2
      · refine ⟨n, by omega, ?_⟩
        show upd _ _ _ _ = _
        rw [e, upd_s, tkN_n (by omega)]
      · obtain ⟨q1, q2, q3⟩ := ih (by omega)
        refine ⟨q1, by omega, ?_⟩
        show upd _ _ _ _ = _
        rw [upd_n (by omega)]
        exact q3
/-! it stays good -/
theorem okP_m1 {w : m_w} : okP w (-1) := Or.inl rfl
theorem WF.setC {w : m_w} (hw : WF w) {c v : Int32} (hc : vp_in c 2) {t : Nat} (hv : (t = 0 ∧ okP w v) ∨ (t = 1 ∧ ∃ q, q ≤ 2 ∧ v = nI q) ∨ (t = 2 ∧ ∃ q, q ≤ 20 ∧ v = nI q)) : WF (setC w c t v) := by
  obtain ⟨q, h1, h2, h3⟩ := vp_j hc (by decide)
  unfold Jvm.Pilot.CCrumblingWallLaw_law_r3399_8589e4.setC
  rw [h3]
  rcases hv with ⟨rfl, h⟩ | ⟨rfl, h⟩ | ⟨rfl, h⟩
  · exact hw.cplace h1 h
  · exact hw.cstat h1 h
  · exact hw.cgrip h1 h
theorem WF.inc {w : m_w} (hw : WF w) {i : Nat} (h : 140 ≤ i ∧ i ≠ 145) : WF (incW w i) := hw.any (by omega)
theorem nLa_eq {w w' : m_w} (h : w' 104 = w 104) : nLa w' = nLa w := by unfold nLa; rw [h]
theorem nAn_eq {w w' : m_w} (h : w' 131 = w 131) : nAn w' = nAn w := by unfold nAn; rw [h]
theorem nN_eq {w w' : m_w} (h : w' 0 = w 0) : nN w' = nN w := by unfold nN; rw [h]
theorem okP_eq {w w' : m_w} (h : w' 0 = w 0) {p : Int32} : okP w' p ↔ okP w p := by unfold okP; rw [nN_eq h]
theorem WF.burn {w : m_w} (hw : WF w) {k : Nat} (hk : k < 4) : WF (burn w k) := by
  unfold Jvm.Pilot.CCrumblingWallLaw_law_r3399_8589e4.burn
  split
  · exact hw
  · refine (hw.oil hk (Or.inr rfl)).llit hk ?_
    split
    · exact Or.inr rfl
    · exact Or.inl rfl
theorem WF.burnN {w : m_w} (hw : WF w) {n : Nat} (hn : n ≤ 4) : WF (burnN w n) := by
  induction n with
  | zero => exact hw
  | succ n ih => exact (ih (by omega)).burn (by omega)
theorem WF.min {w : m_w} (hw : WF w) : WF (minW w) := (hw.inc (by decide)).burnN hw.2.1.2
theorem WF.dropG {w : m_w} (hw : WF w) {k : Nat} (hk : k < 4) : WF (dropG w k) :=
  ((hw.lcarr hk (Or.inl rfl)).lplace hk okP_m1).llit hk (Or.inl rfl)
theorem WF.dropCN {w : m_w} (hw : WF w) {c : Int32} {n : Nat} (hn : n ≤ 4) : WF (dropCN w c n) := by
  induction n with
  | zero => exact hw
  | succ n ih =>
    show WF (if _ then _ else _)
    split
    · exact (ih (by omega)).dropG (by omega)
    · exact ih (by omega)
theorem WF.dropHN {w : m_w} (hw : WF w) {h : Int32} {n : Nat} (hn : n ≤ 4) : WF (dropHN w h n) := by
  induction n with
  | zero => exact hw
  | succ n ih =>
    show WF (if _ then _ else _)
    split
    · exact ih (by omega)
    · exact ((ih (by omega)).lplace (by omega) okP_m1).llit (by omega) (Or.inl rfl)
theorem WF.toGr {w : m_w} (hw : WF w) {c : Int32} (hc : vp_in c 2) : WF (toGr w c) :=
  (((hw.dropCN hw.2.1.2).setC hc (Or.inl ⟨rfl, okP_m1⟩)).setC hc (Or.inr (Or.inl ⟨rfl, 2, by decide, rfl⟩))).inc (by decide)
theorem WF.hang {w : m_w} (hw : WF w) {c h : Int32} (hc : vp_in c 2) (hh : okP w h) : WF (hangW w c h) :=
  ((hw.setC hc (Or.inl ⟨rfl, hh⟩)).setC hc (Or.inr (Or.inl ⟨rfl, 1, by decide, rfl⟩))).inc (by decide)
theorem WF.tk {w : m_w} (hw : WF w) {h : Int32} : WF (tkW w h) := by
  have hle := tkN_le (w := w) (h := h) (n := nAn w)
  have h8 := hw.2.2.1.2
  refine hw.anch (na := (tkN w h (nAn w)).2) (by omega) (upd_s _ _ _) (fun j hj => ?_) (fun k hk => ?_)
  · unfold tkW
    rw [upd_n (by omega), tkN_n (by omega)]
  · unfold tkW
    rw [upd_n (by omega)]
    obtain ⟨q, h1, h2⟩ := tkN_at hk
    rw [h2]
    exact hw.2.2.2.2.2.2.2 q h1
theorem WF.clip {w : m_w} (hw : WF w) (hn : nAn w < 8) (hp : ¬ plc w 0 = -1) : WF (clipW w) := by
  have e1 : upd w (132 + nAn w) (plc w 0) 131 = nI (nAn w) := by rw [upd_n (by omega)]; exact hw.2.2.1.1
  refine hw.anch (na := nAn w + 1) (by omega) ?_ (fun j hj => ?_) (fun k hk => ?_)
  · unfold clipW incW
    rw [upd_s, e1, nI_1]
  · unfold clipW incW
    rw [upd_n (by omega), upd_n (by omega)]
  · unfold clipW incW
    rw [upd_n (by omega)]
    by_cases e : k = nAn w
    · subst e; rw [upd_s]; exact (hw.pl (vp_lit (by decide))).resolve_left hp
    · rw [upd_n (by omega)]
      exact hw.2.2.2.2.2.2.2 k (by omega)
theorem WF.uncl {w : m_w} (hw : WF w) (hn : 0 < nAn w) : WF (unclW w) := by
  obtain ⟨n, hn'⟩ : ∃ n, nAn w = n + 1 := ⟨nAn w - 1, by omega⟩
  have h8 := hw.2.2.1.2
  refine hw.anch (na := n) (by omega) ?_ (fun j hj => ?_) (fun k hk => ?_)
  · unfold unclW
    rw [shN_n (by omega), upd_s, hw.2.2.1.1, hn', nI_pred]
  · unfold unclW
    rw [shN_n (by omega), upd_n (by omega)]
  · unfold unclW
    rw [hn', Nat.add_sub_cancel, shN_at hk, upd_n (by omega)]
    exact hw.2.2.2.2.2.2.2 (k + 1) (by omega)
theorem WF.folF {w : m_w} (hw : WF w) : WF (folF w) := by
  unfold Jvm.Pilot.CCrumblingWallLaw_law_r3399_8589e4.folF
  split
  · rename_i h
    refine hw.hang (vp_lit (by decide)) (Or.inr (hw.2.2.2.2.2.2.2 0 ?_))
    have h2 := h.2
    rw [hw.2.2.1.1] at h2
    cases hn : nAn w with
    | zero => rw [hn] at h2; exact absurd h2 (by decide)
    | succ n => omega
  · exact hw.toGr (vp_lit (by decide))
theorem resG_ok {w : m_w} (hw : WF w) {p g : Int32} (hp : okP w p) (hg : ∃ q, q ≤ 20 ∧ g = nI q) : ∃ q, q ≤ 20 ∧ resG w p g = nI q := by
  unfold resG
  by_cases e : p = -1
  · rw [if_pos e]
    split
    · exact ⟨20, by decide, rfl⟩
    · exact ⟨20, by decide, rfl⟩
  · rw [if_neg e]
    split
    · exact ⟨20, by decide, rfl⟩
    · rename_i h
      obtain ⟨q, hq, rfl⟩ := hg
      have hgk : ∃ r, r ≤ 4 ∧ gain (hX w p 2) = nI r := by
        unfold gain
        split
        · exact ⟨2, by decide, rfl⟩
        · split
          · exact ⟨4, by decide, rfl⟩
          · split
            · exact ⟨1, by decide, rfl⟩
            · exact ⟨3, by decide, rfl⟩
      obtain ⟨r, hr, e2⟩ := hgk
      rw [e2, nI_add] at h ⊢
      rw [show (20 : Int32) = nI 20 from rfl, nI_ltI (by decide) (by omega)] at h
      exact ⟨q + r, by omega, rfl⟩
theorem WF.grip {w : m_w} (hw : WF w) {c : Int32} (hc : vp_in c 2) : ∃ q, q ≤ 20 ∧ cX w c 2 = nI q := by
  obtain ⟨q, h1, h2, h3⟩ := vp_j hc (by decide)
  unfold cX
  rw [h3]
  rcases (show q = 0 ∨ q = 1 by omega) with rfl | rfl
  · exact hw.2.2.2.2.2.1.1.2.2
  · exact hw.2.2.2.2.2.1.2.2.2
theorem WF.rest {w : m_w} (hw : WF w) {c : Int32} (hc : vp_in c 2) : WF (restW w c) :=
  ((hw.setC hc (Or.inr (Or.inr ⟨rfl, resG_ok hw (hw.pl hc) (hw.grip hc)⟩))).inc (by decide)).min

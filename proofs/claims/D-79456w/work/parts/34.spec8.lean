/-! THE PURE PICTURE: plans carried out -/
set_option maxRecDepth 100000
def tld (w : m_w) (sg l : Int32) : Bool := if sg = 62 then isPl w l else decide (sg = 114) || (decide (sg = 99) || (decide (sg = 117) || isLa w l))
def nDo (w : m_w) (sg c l : Int32) : m_why := if sg = 42 then nLight w c l else if sg = 43 then nTake w c l else if sg = 45 then nPut w c l else if sg = 62 then nMove w c l else if sg = 99 then nClip w else if sg = 114 then nAct w c true else nUncl w
def doF (T : m_fl) (sg c l : Int32) : m_fl := if sg = 42 then (litW T.1 l, T.2) else if sg = 43 then (takeW T.1 c l, T.2) else if sg = 45 then (putW T.1 c l, T.2) else if sg = 62 then (minW (mvFl T.1 T.2.1 T.2.2 c l).1, (mvFl T.1 T.2.1 T.2.2 c l).2) else if sg = 99 then (clipW T.1, T.2) else if sg = 114 then (restW T.1 c, T.2) else (unclW T.1, T.2)
/-- a step that can be carried out: who and what are there -/
def okS (w : m_w) (sg c l : Int32) : Prop := (sg = 42 ∨ sg = 43 ∨ sg = 45 → vp_in c 2 ∧ vp_in l (nLa w)) ∧ (sg = 62 → vp_in c 2 ∧ okP w l) ∧ (sg = 114 → vp_in c 2)
/-- what a plan that was read holds of a step -/
def okR (sg c : Int32) : Prop := (sg = 99 ∨ sg = 117) ∨ (vp_in c 2 ∧ isSg sg = true)
theorem okS_of {w : m_w} (hw : WF w) {sg c l : Int32} (hr : okR sg c) (ht : tld w sg l = true) : okS w sg c l := by
  have hc : ¬ (sg = 99 ∨ sg = 117) → vp_in c 2 := fun h => (hr.resolve_left h).1
  refine ⟨fun h => ?_, fun h => ?_, fun h => ?_⟩
  · have h1 : ¬ sg = 62 ∧ ¬ sg = 114 ∧ ¬ sg = 99 ∧ ¬ sg = 117 := by
      rcases h with rfl | rfl | rfl <;> decide
    unfold tld at ht
    rw [if_neg h1.1] at ht
    simp [h1.2.1, h1.2.2.1, h1.2.2.2] at ht
    exact ⟨hc (fun q => q.elim h1.2.2.1 h1.2.2.2), (isLa_iff hw).mp ht⟩
  · subst h
    unfold tld at ht
    rw [if_pos rfl] at ht
    exact ⟨hc (by decide), (isPl_iff hw).mp ht⟩
  · subst h
    exact hc (by decide)
/-- whether a climber hangs or is hurt then who was not -/
def hrm (w w' : m_w) : m_why := if ¬ cX w' 0 1 = 0 ∧ ¬ cX w' 0 1 = cX w 0 1 then some (19, 0) else if ¬ cX w' 1 1 = 0 ∧ ¬ cX w' 1 1 = cX w 1 1 then some (19, 1) else none
theorem nDo_42 {w : m_w} {c l : Int32} : nDo w 42 c l = nLight w c l := rfl
theorem nDo_43 {w : m_w} {c l : Int32} : nDo w 43 c l = nTake w c l := rfl
theorem nDo_45 {w : m_w} {c l : Int32} : nDo w 45 c l = nPut w c l := rfl
theorem nDo_62 {w : m_w} {c l : Int32} : nDo w 62 c l = nMove w c l := rfl
theorem nDo_99 {w : m_w} {c l : Int32} : nDo w 99 c l = nClip w := rfl
theorem nDo_114 {w : m_w} {c l : Int32} : nDo w 114 c l = nAct w c true := rfl
theorem nDo_d {w : m_w} {sg c l : Int32} (h : ¬ sg = 42 ∧ ¬ sg = 43 ∧ ¬ sg = 45 ∧ ¬ sg = 62 ∧ ¬ sg = 99 ∧ ¬ sg = 114) : nDo w sg c l = nUncl w := by
  unfold nDo
  rw [if_neg h.1, if_neg h.2.1, if_neg h.2.2.1, if_neg h.2.2.2.1, if_neg h.2.2.2.2.1, if_neg h.2.2.2.2.2]
theorem doF_d {T : m_fl} {sg c l : Int32} (h : ¬ sg = 42 ∧ ¬ sg = 43 ∧ ¬ sg = 45 ∧ ¬ sg = 62 ∧ ¬ sg = 99 ∧ ¬ sg = 114) : doF T sg c l = (unclW T.1, T.2) := by
  unfold doF
  rw [if_neg h.1, if_neg h.2.1, if_neg h.2.2.1, if_neg h.2.2.2.1, if_neg h.2.2.2.2.1, if_neg h.2.2.2.2.2]
theorem WF.lit {w : m_w} (hw : WF w) {k : Int32} (hk : vp_in k (nLa w)) : WF (litW w k) := by
  obtain ⟨j, h1, h2, h3⟩ := vp_j hk (Nat.lt_of_le_of_lt hw.2.1.2 (by decide))
  have h4 : j < 4 := Nat.lt_of_lt_of_le h1 hw.2.1.2
  unfold litW
  rw [h3]
  refine hw.llit h4 ?_
  have ho := (hw.2.2.2.2.2.2.1 j h1).2.2
  unfold lX
  rw [h3]
  rcases ho with e | e
  · rw [e]; exact Or.inr (by decide)
  · rw [e]; exact Or.inl (by decide)
theorem takeW_n {w : m_w} {c k : Int32} (hk : vp_in k 4) {j : Nat} (h : j < 105 ∨ 125 ≤ j) : takeW w c k j = w j := by
  obtain ⟨q, h1, h2, h3⟩ := vp_j hk (by decide)
  unfold takeW
  rw [h3, upd_n (by omega)]
theorem putW_n {w : m_w} {c k : Int32} (hk : vp_in k 4) {j : Nat} (h : j < 105 ∨ 125 ≤ j) : putW w c k j = w j := by
  obtain ⟨q, h1, h2, h3⟩ := vp_j hk (by decide)
  unfold putW
  rw [h3, upd_n (by omega), upd_n (by omega)]
theorem litW_n {w : m_w} {k : Int32} (hk : vp_in k 4) {j : Nat} (h : j < 105 ∨ 125 ≤ j) : litW w k j = w j := by
  obtain ⟨q, h1, h2, h3⟩ := vp_j hk (by decide)
  unfold litW
  rw [h3, upd_n (by omega)]
theorem clipW_n {w : m_w} (hw : WF w) {j : Nat} (h : j < 131 ∨ 141 ≤ j) : clipW w j = w j := by
  have := hw.2.2.1.2
  unfold clipW
  rw [incW_n (by omega), upd_n (by omega)]
theorem unclW_n {w : m_w} (hw : WF w) {j : Nat} (h : j < 131 ∨ 141 ≤ j) : unclW w j = w j := by
  have := hw.2.2.1.2
  unfold unclW
  rw [shN_n (by omega), upd_n (by omega)]
theorem minW_n {w : m_w} (hw : WF w) {j : Nat} (h : j < 105 ∨ (125 ≤ j ∧ j ≠ 140)) : minW w j = w j := by
  have := hw.2.1.2
  unfold minW
  rw [burnN_n (by omega), incW_n (by omega)]
theorem restW_n {w : m_w} (hw : WF w) {c : Int32} (hc : vp_in c 2) {j : Nat} (h : j < 105 ∨ (131 ≤ j ∧ j ≠ 140 ∧ j ≠ 142)) : restW w c j = w j := by
  have h1 : WF (incW (setC w c 2 (resG w (plc w c) (cX w c 2))) 142) := (hw.setC hc (Or.inr (Or.inr ⟨rfl, resG_ok hw (hw.pl hc) (hw.grip hc)⟩))).inc (by decide)
  unfold restW
  rw [minW_n h1 (by omega), incW_n (by omega), setC_n hc (by decide) (by omega)]
/-- a step carried out: what stays -/
theorem doF_ok {T : m_fl} (hw : WF T.1) {sg c l : Int32} (hs : okS T.1 sg c l) (hn : nDo T.1 sg c l = none) (h9 : T.2.2 ≤ 9) : WF (doF T sg c l).1 ∧ nN (doF T sg c l).1 = nN T.1 ∧ (doF T sg c l).2.2 ≤ 9 ∧ (FW T.1 → FW (doF T sg c l).1) := by
  by_cases e1 : sg = 42
  · subst e1
    obtain ⟨hc, hl⟩ := hs.1 (by decide)
    have h4 := hw.l4 hl
    exact ⟨hw.lit hl, (show nN (litW T.1 l) = nN T.1 from nN_eq (litW_n h4 (by decide))), h9, fun q => q.same (fun j hj => litW_n h4 (by omega))⟩
  by_cases e2 : sg = 43
  · subst e2
    obtain ⟨hc, hl⟩ := hs.1 (by decide)
    have h4 := hw.l4 hl
    exact ⟨hw.take hc hl, (show nN (takeW T.1 c l) = nN T.1 from nN_eq (takeW_n h4 (by decide))), h9, fun q => q.same (fun j hj => takeW_n h4 (by omega))⟩
  by_cases e3 : sg = 45
  · subst e3
    obtain ⟨hc, hl⟩ := hs.1 (by decide)
    have h4 := hw.l4 hl
    exact ⟨hw.put hc hl, (show nN (putW T.1 c l) = nN T.1 from nN_eq (putW_n h4 (by decide))), h9, fun q => q.same (fun j hj => putW_n h4 (by omega))⟩
  by_cases e4 : sg = 62
  · subst e4
    obtain ⟨hc, hl⟩ := hs.2.1 rfl
    obtain ⟨a1, a2, a3, a4⟩ := mvFl_ok hw (cr := T.2.1) hc hl hn h9
    exact ⟨a1.min, (nN_eq (minW_n a1 (by decide))).trans a2, a3, fun q => (a4 q).same (fun j hj => minW_n a1 (by omega))⟩
  by_cases e5 : sg = 99
  · subst e5
    have := cl_ok hw hn
    exact ⟨hw.clip this.1 this.2, (show nN (clipW T.1) = nN T.1 from nN_eq (clipW_n hw (by decide))), h9, fun q => q.same (fun j hj => clipW_n hw (by omega))⟩
  by_cases e6 : sg = 114
  · subst e6
    have hc := hs.2.2 rfl
    exact ⟨hw.rest hc, (show nN (restW T.1 c) = nN T.1 from nN_eq (restW_n hw hc (by decide))), h9, fun q => q.same (fun j hj => restW_n hw hc (by omega))⟩
  · have hd := And.intro e1 (And.intro e2 (And.intro e3 (And.intro e4 (And.intro e5 e6))))
    rw [nDo_d hd] at hn
    rw [doF_d hd]
    exact ⟨hw.uncl (un_pos hw hn), (show nN (unclW T.1) = nN T.1 from nN_eq (unclW_n hw (by decide))), h9, fun q => q.same (fun j hj => unclW_n hw (by omega))⟩
/-- steps carried out till one fails: at which, how it failed, the wall, why -/
abbrev m_go : Type := Nat × Int32 × m_fl × (Int32 × Int32)
def gsF (sg wh wi : Nat → Int32) : Nat → Nat → m_fl → Int32 × Int32 → m_go
  | 0, k, T, y => (k, 0, T, y)
  | v + 1, k, T, y => if tld T.1 (sg k) (wi k) = false then (k, 1, T, y) else match nDo T.1 (sg k) (wh k) (wi k) with
    | some q => (k, 2, T, q)
    | none => match hrm T.1 (doF T (sg k) (wh k) (wi k)).1 with
      | some q => (k, 2, doF T (sg k) (wh k) (wi k), q)
      | none => gsF sg wh wi v (k + 1) (doF T (sg k) (wh k) (wi k)) y
def gs (f : Nat → Int32) (a : Nat → Nat → Int32) : m_go := gsF (a 22) (a 23) (a 24) (tS f) 0 (a 5, a 12, nCr f) (f 3, f 4)
def F4 (f : Nat → Int32) (y : Int32 × Int32) (n x : Int32) : Nat → Int32 := upd (upd (upd (upd f 3 y.1) 4 y.2) 13 n) 29 x
theorem F4_13 {f : Nat → Int32} {y : Int32 × Int32} {n x m : Int32} : upd (F4 f y n x) 13 m = F4 f y m x := by
  unfold F4
  exact upd_rr (by decide)
theorem F4_29 {f : Nat → Int32} {y : Int32 × Int32} {n x z : Int32} : upd (F4 f y n x) 29 z = F4 f y n z := upd_uu
theorem F4_hin {f : Nat → Int32} {y q : Int32 × Int32} {n x : Int32} : m_hin (F4 f y n x) (some q) = F4 f q n x := by
  funext k
  simp only [m_hin, F4, upd]
  by_cases h1 : k = 4
  · simp [h1]
  · by_cases h2 : k = 3
    · simp [h2]
    · simp [h1, h2]
theorem F4_id {f : Nat → Int32} {n z : Int32} (h : f 13 = n) : upd f 29 z = F4 f (f 3, f 4) n z := by
  unfold F4
  rw [upd_id (i := 3) rfl, upd_id (i := 4) rfl, upd_id h]
theorem F4_cr {f : Nat → Int32} {y : Int32 × Int32} {n : Nat} {x : Int32} (h : n < 2 ^ 31) : nCr (F4 f y (nI n) x) = n := by
  show (F4 f y (nI n) x 13).toNatClampNeg = n
  unfold F4
  rw [upd_n (by decide), upd_s]
  exact nI_clamp h
theorem F4_at13 {f : Nat → Int32} {y : Int32 × Int32} {n x : Int32} : F4 f y n x 13 = n := by
  unfold F4
  rw [upd_n (by decide), upd_s]
/-- what carrying out asks of the ints and arrays -/
def okG (f : Nat → Int32) (a : Nat → Nat → Int32) : Prop := (f 13 = nI (nCr f) ∧ nCr f ≤ 9) ∧ (f 27 = nI (tS f) ∧ tS f ≤ 30) ∧ ∀ j, j < tS f → okR (a 22 j) (a 23 j)

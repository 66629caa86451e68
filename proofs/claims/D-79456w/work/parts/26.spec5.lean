/-! THE PURE PICTURE: falls, what stays -/
set_option maxRecDepth 100000
def nCr (f : Nat → Int32) : Nat := (f 13).toNatClampNeg
theorem nCr_u {f : Nat → Int32} {n : Nat} (h : n < 2 ^ 31) : nCr (upd f 13 (nI n)) = n := by unfold nCr; rw [upd_s]; exact nI_clamp h
theorem va_cm {α : Type} {f : Nat → α} {i j : Nat} {x y : α} (h : i ≠ j) : va_up (va_up f i x) j y = va_up (va_up f j y) i x := by
  funext k
  unfold va_up
  by_cases h1 : k = i
  · subst h1; simp [h]
  · simp [h1]
theorem va_uu {α : Type} {f : Nat → α} {i : Nat} {x y : α} : va_up (va_up f i x) i y = va_up f i y := by
  funext k
  unfold va_up
  by_cases h1 : k = i
  · simp [h1]
  · simp [h1]
theorem upd_uu {f : Nat → Int32} {i : Nat} {x y : Int32} : upd (upd f i x) i y = upd f i y := by
  funext k
  unfold upd
  by_cases h1 : k = i
  · simp [h1]
  · simp [h1]
theorem va_512 {a : Nat → Nat → Int32} {x y z : Nat → Int32} : va_up (va_up (va_up a 5 x) 12 y) 5 z = va_up (va_up a 12 y) 5 z := by
  rw [va_cm (f := a) (i := 5) (j := 12) (by decide), va_uu]
theorem va_125 {a : Nat → Nat → Int32} {x y z : Nat → Int32} : va_up (va_up (va_up a 12 x) 5 y) 12 z = va_up (va_up a 12 z) 5 y := by
  rw [va_cm (f := a) (i := 12) (j := 5) (by decide), va_uu, va_cm (f := a) (i := 5) (j := 12) (by decide)]
theorem va_4 {a : Nat → Nat → Int32} {x y z u : Nat → Int32} : va_up (va_up (va_up (va_up a 12 x) 5 y) 12 z) 5 u = va_up (va_up a 12 z) 5 u := by rw [va_125, va_uu]
theorem ldx {w : m_w} (hw : WF w) (h : ¬ w 131 = 0) : vp_in (132 + w 131 - 1) 170 ∧ (132 + w 131 - 1).toNatClampNeg = 131 + nAn w := by
  obtain ⟨-, h0, -⟩ := ldA_ok hw h
  have h8 := hw.2.2.1.2
  obtain ⟨n, hn⟩ : ∃ n, nAn w = n + 1 := ⟨nAn w - 1, by omega⟩
  rw [hw.2.2.1.1, show (132 : Int32) = nI 132 from rfl, nI_add, hn, show 132 + (n + 1) = (132 + n) + 1 by omega, nI_pred]
  exact ⟨vp_in_nI (by omega) (by decide), by rw [nI_clamp (by omega)]; omega⟩
theorem kfx {w : m_w} (hw : WF w) : vp_in (146 + keep1 w 145) 170 ∧ (146 + keep1 w 145).toNatClampNeg = 146 + nFo (keep1 w) := by
  obtain ⟨h1, h2⟩ := keep1_f hw
  rw [h2]
  exact ix_k (b := 146) (by omega) (by decide)
/-- one anchor that crumbled -/
theorem ld_step {w : m_w} (hw : WF w) {h : Int32} (hz : ¬ w 131 = 0) : WF (ldW w h) ∧ nN (ldW w h) = nN w ∧ nAn (ldW w h) = nAn w ∧ WF (tkW (ldW w h) (ldA w)) ∧ nN (tkW (ldW w h) (ldA w)) = nN w ∧ nAn (tkW (ldW w h) (ldA w)) < nAn w := by
  obtain ⟨h1, h2, h3⟩ := ldA_ok hw hz
  have ha := hw.h20 h1
  have hl : WF (ldW w h) := hw.ld ha
  have e1 : nAn (ldW w h) = nAn w := nAn_eq (ldW_n ha (by omega))
  have e0 : nN (ldW w h) = nN w := nN_eq (ldW_n ha (by omega))
  have h8 := hw.2.2.1.2
  refine ⟨hl, e0, e1, hl.tk, ?_, ?_⟩
  · rw [nN_eq (tkW_n hl (by omega)), e0]
  · have := tk_lt hl (h := ldA w) (by omega) (by rw [e1, ldW_n ha (by omega)]; exact h3.symm)
    omega
theorem toGr_nN {w : m_w} (hw : WF w) {c : Int32} (hc : vp_in c 2) : nN (toGr w c) = nN w ∧ nAn (toGr w c) = nAn w := ⟨nN_eq (toGr_n hc hw (by omega)), nAn_eq (toGr_n hc hw (by omega))⟩
theorem hangW_nN {w : m_w} {c h : Int32} (hc : vp_in c 2) : nN (hangW w c h) = nN w ∧ nAn (hangW w c h) = nAn w := ⟨nN_eq (hangW_n hc (by omega)), nAn_eq (hangW_n hc (by omega))⟩
/-- how a fall changes what is kept of falls; N: how many holds -/
def flS (N : Nat) (S T : m_fl) : Prop := WF T.1 ∧ nN T.1 = N ∧ T.2.2 + nAn T.1 ≤ S.2.2 + nAn S.1 ∧ S.2.2 ≤ T.2.2 ∧ (∀ i, i < S.2.2 → T.2.1 i = S.2.1 i) ∧ (∀ i, S.2.2 ≤ i → i < T.2.2 → vp_in (T.2.1 i) N) ∧ (FW S.1 → FW T.1)
theorem flS.trans {N : Nat} {S T U : m_fl} (h1 : flS N S T) (h2 : flS N T U) : flS N S U := by
  obtain ⟨a1, a2, a3, a4, a5, a6, a7⟩ := h1
  obtain ⟨b1, b2, b3, b4, b5, b6, b7⟩ := h2
  refine ⟨b1, b2, by omega, by omega, fun i hi => by rw [b5 i (by omega), a5 i hi], fun i hi hj => ?_, fun h => b7 (a7 h)⟩
  by_cases h : i < T.2.2
  · rw [b5 i h]; exact a6 i hi h
  · exact b6 i (by omega) hj
theorem flS.same {N : Nat} {S : m_fl} {w : m_w} (h1 : WF w) (h2 : nN w = N) (h3 : nAn w ≤ nAn S.1) (h4 : FW S.1 → FW w) : flS N S (w, S.2) := ⟨h1, h2, by show S.2.2 + nAn w ≤ _; omega, Nat.le_refl _, fun _ _ => rfl, fun i h h' => absurd h (Nat.not_le.mpr h'), h4⟩
theorem wrW_s {w : m_w} {a : Int32} {x : UInt32} (ha : vp_in a 20) : ∀ j, 145 ≤ j → wrW w a x j = w j := fun j hj => wrW_n ha (by omega)
theorem FW.ld {w : m_w} (hw : WF w) (h : FW w) {q : Int32} (hz : ¬ w 131 = 0) (hq : okP w q) : FW (ldW w q) := by
  obtain ⟨h1, h2, h3⟩ := ldA_ok hw hz
  exact (h.keep hw (fb_frc hw (Or.inr h1) hq)).same (wrW_s (hw.h20 h1))
theorem ldF_ok {h : Int32} : ∀ (k : Nat) (S : m_fl), WF S.1 → vp_in h (nN S.1) → nAn S.1 < k → flS (nN S.1) S (ldF h k S) := by
  intro k
  induction k with
  | zero => intro S _ _ hk; exact absurd hk (Nat.not_lt_zero _)
  | succ k ih =>
    intro S hw hh hk
    unfold ldF
    have hc : vp_in 0 2 := vp_lit (by decide)
    split
    · exact flS.same (hw.toGr hc) (toGr_nN hw hc).1 (Nat.le_of_eq (toGr_nN hw hc).2) (fun q => q.same (fun j hj => toGr_n hc hw (by omega)))
    · rename_i hn
      have hz : ¬ S.1 131 = 0 := fun q => hn (Or.inr q)
      obtain ⟨a1, a2, a3, a4, a5, a6⟩ := ld_step hw (h := h) hz
      obtain ⟨b1, b2, b3⟩ := ldA_ok hw hz
      have hf : FW S.1 → FW (ldW S.1 h) := fun q => q.ld hw hz (Or.inr hh)
      split
      · have h1 : flS (nN S.1) S (tkW (ldW S.1 h) (ldA S.1), upd S.2.1 S.2.2 (ldA S.1), S.2.2 + 1) := by
          refine ⟨a4, a5, ?_, Nat.le_succ _, fun i hi => upd_n (by omega), fun i h1 h2 => ?_, fun q => (hf q).same (fun j hj => tkW_n a1 (by omega))⟩
          · show S.2.2 + 1 + nAn (tkW (ldW S.1 h) (ldA S.1)) ≤ _
            omega
          · have h2 : i < S.2.2 + 1 := h2
            have : i = S.2.2 := by omega
            subst this
            show vp_in (upd _ _ _ _) _
            rw [upd_s]
            exact b1
        refine h1.trans ?_
        have h2 := ih (tkW (ldW S.1 h) (ldA S.1), upd S.2.1 S.2.2 (ldA S.1), S.2.2 + 1) a4 (by show vp_in h (nN (tkW _ _)); rw [a5]; exact hh) (by show nAn (tkW _ _) < k; omega)
        rw [a5] at h2
        exact h2
      · refine flS.same (a1.hang hc ((okP_eq (ldW_n (hw.h20 b1) (by omega))).mpr (Or.inr b1))) ?_ ?_ (fun q => (hf q).same (fun j hj => hangW_n hc (by omega)))
        · rw [(hangW_nN hc).1, a2]
        · rw [(hangW_nN hc).2, a3]; exact Nat.le_refl _
theorem ldL_ok {h : Int32} {S : m_fl} (hw : WF S.1) (hh : vp_in h (nN S.1)) : flS (nN S.1) S (ldL h S) := ldF_ok _ S hw hh (Nat.lt_succ_self _)
theorem trL_ok {h : Int32} {S : m_fl} (hw : WF S.1) (hh : vp_in h (nN S.1)) : flS (nN S.1) S (trL h S) := by
  have hd : WF (trD S.1 h) := hw.trD
  have e0 : nN (trD S.1 h) = nN S.1 := nN_eq (trD_n hw (by omega))
  have h1 : flS (nN S.1) S (trD S.1 h, S.2) := flS.same hd e0 (trD_An hw) (fun q => q.same (fun j hj => trD_n hw (by omega)))
  unfold trL
  split
  · refine h1.trans ?_
    have h2 := ldL_ok (h := h) (S := (trD S.1 h, S.2)) hd (by show vp_in h (nN (trD S.1 h)); rw [e0]; exact hh)
    rw [e0] at h2
    exact h2
  · exact h1
theorem trW_ok {h : Int32} {S : m_fl} (hw : WF S.1) (hh : vp_in h (nN S.1)) : flS (nN S.1) S (trW h S) := by
  have h1 := trL_ok hw hh
  refine h1.trans ?_
  unfold trW
  split
  · exact flS.same h1.1.folF (by rw [nN_eq (folF_n h1.1 (by omega)), h1.2.1]) (by rw [nAn_eq (folF_n h1.1 (by omega))]; exact Nat.le_refl _) (fun q => q.same (fun j hj => folF_n h1.1 (by omega)))
  · exact flS.same h1.1 h1.2.1 (Nat.le_refl _) id
theorem crF_end {d k : Nat} {S : m_fl} (h : ¬ k < S.2.2) : crF d k S = S := by
  cases d with
  | zero => rfl
  | succ d => exact if_neg h
theorem crF_ok (N : Nat) : ∀ (d k : Nat) (S : m_fl), WF S.1 → nN S.1 = N → (∀ i, i < S.2.2 → vp_in (S.2.1 i) N) → flS N S (crF d k S) := by
  intro d
  induction d with
  | zero => intro k S hw hN hc; exact flS.same hw hN (Nat.le_refl _) id
  | succ d ih =>
    intro k S hw hN hc
    unfold crF
    split
    · rename_i hk
      subst hN
      have h1 := trW_ok hw (hc k hk)
      refine h1.trans (ih (k + 1) _ h1.1 h1.2.1 (fun i hi => ?_))
      by_cases h : i < S.2.2
      · rw [h1.2.2.2.2.1 i h]; exact hc i h
      · exact h1.2.2.2.2.2.1 i (by omega) hi
    · exact flS.same hw hN (Nat.le_refl _) id
theorem crW_ok {w : m_w} (hw : WF w) {cr : Nat → Int32} {h : Int32} (hh : vp_in h (nN w)) : WF (crW w cr h).1 ∧ nN (crW w cr h).1 = nN w ∧ (crW w cr h).2.2 ≤ 9 ∧ (FW w → FW (crW w cr h).1) := by
  have h1 := crF_ok (nN w) (nAn w + 2) 0 (w, upd cr 0 h, 1) hw rfl (fun i hi => by
    have hi : i < 1 := hi
    have : i = 0 := by omega
    subst this
    show vp_in (upd _ _ _ _) _
    rw [upd_s]; exact hh)
  have h8 := hw.2.2.1.2
  have h3 : (crW w cr h).2.2 + nAn (crW w cr h).1 ≤ 1 + nAn w := h1.2.2.1
  exact ⟨h1.1, h1.2.1, by omega, h1.2.2.2.2.2.2⟩
/-! a move -/
theorem bits_le {x : Int32} : ∃ b, b ≤ 20 ∧ bits x = nI b := by
  have h1 : ∀ y : Int32, ∃ b, b ≤ 1 ∧ y &&& 1 = nI b := by
    intro y
    have : y &&& 1 = 0 ∨ y &&& 1 = 1 := by
      have h : ∀ z : BitVec 32, z &&& 1#32 = 0#32 ∨ z &&& 1#32 = 1#32 := by
        intro z
        rw [BitVec.and_one_eq_setWidth_ofBool_getLsbD]
        cases z.getLsbD 0
        · exact Or.inl rfl
        · exact Or.inr rfl
      rcases h y.toBitVec with q | q
      · exact Or.inl (Int32.toBitVec_inj.mp (by rw [Int32.toBitVec_and]; exact q))
      · exact Or.inr (Int32.toBitVec_inj.mp (by rw [Int32.toBitVec_and]; exact q))
    rcases this with q | q
    · exact ⟨0, by decide, q⟩
    · exact ⟨1, by decide, q⟩
  have h2 : ∀ n, ∃ b, b ≤ n ∧ sumN n (fun k => x >>> (nI k &&& 31) &&& 1) = nI b := by
    intro n
    induction n with
    | zero => exact ⟨0, by decide, rfl⟩
    | succ n ih =>
      obtain ⟨b, b1, b2⟩ := ih
      obtain ⟨c, c1, c2⟩ := h1 (x >>> (nI n &&& 31))
      refine ⟨b + c, by omega, ?_⟩
      show sumN n _ + (x >>> (nI n &&& 31) &&& 1) = _
      rw [b2, c2, nI_add]
  exact h2 20
theorem cost_le {w : m_w} (hw : WF w) {c p : Int32} (hc : vp_in c 2) (hp : okP w p) : ∃ q, q ≤ 60 ∧ cost w c p = nI q := by
  obtain ⟨d, d1, d2⟩ := dst_le hw (hw.pl hc) hp
  obtain ⟨b, b1, b2⟩ := bits_le (x := carr w c)
  refine ⟨d + b, by omega, ?_⟩
  unfold cost
  rw [d2, b2, nI_add]
theorem nMove_g {w : m_w} {c p : Int32} (h : nMove w c p = none) : ¬ cX w c 2 < cost w c p := by
  intro q
  unfold nMove at h
  repeat (split at h; · exact absurd h (by simp))
  first | cases h | exact absurd q (by assumption) | (rw [if_pos q] at h; cases h)
theorem nMove_h {w : m_w} {c p : Int32} (h : nMove w c p = none) : ¬ (¬ p = -1 ∧ hasCr w p = true) := by
  intro q
  unfold nMove at h
  split at h
  · exact absurd h (by simp)
  · first | exact absurd h (by simp) | (rw [if_pos q] at h; exact absurd h (by simp))
theorem gr_sub {g q : Nat} (hg : g ≤ 20) (hq : q ≤ 60) (h : ¬ nI g < nI q) : nI g - nI q = nI (g - q) ∧ q ≤ g := by
  rw [nI_ltI (by omega) (by omega)] at h
  refine ⟨?_, by omega⟩
  have e : nI g = nI (g - q) + nI q := by rw [nI_add, Nat.sub_add_cancel (by omega)]
  rw [e, Int32.add_sub_cancel]
theorem mv0_n {w : m_w} {c p : Int32} (hc : vp_in c 2) {j : Nat} (h : j < 125 ∨ (131 ≤ j ∧ j ≠ 141)) : mv0 w c p j = w j := by
  unfold mv0
  rw [incW_n (by omega), setC_n hc (by decide) (by omega), setC_n hc (by decide) (by omega), setC_n hc (by decide) (by omega)]
theorem mv0_wf {w : m_w} (hw : WF w) {c p : Int32} (hc : vp_in c 2) (hp : okP w p) (hm : nMove w c p = none) : WF (mv0 w c p) := by
  obtain ⟨g, g1, g2⟩ := hw.grip hc
  obtain ⟨q, q1, q2⟩ := cost_le hw hc hp
  have h1 := nMove_g hm
  rw [g2, q2] at h1
  have h2 := gr_sub g1 q1 h1
  have a1 : WF (setC w c 2 (cX w c 2 - cost w c p)) := hw.setC hc (Or.inr (Or.inr ⟨rfl, g - q, by omega, by rw [g2, q2]; exact h2.1⟩))
  have a2 := a1.setC (v := p) hc (Or.inl ⟨rfl, (okP_eq (setC_n hc (by decide) (by omega))).mpr hp⟩)
  exact (a2.setC (v := 0) hc (Or.inr (Or.inl ⟨rfl, 0, by decide, rfl⟩))).inc (by decide)
theorem mvR_wf {w : m_w} (hw : WF w) {c p : Int32} (hc : vp_in c 2) (hp : vp_in p (nN w)) (hm : nMove w c p = none) : WF (mvR w c p) := by
  obtain ⟨j, h1, h2, h3⟩ := vp_j (hw.h20 hp) (by decide)
  unfold mvR
  rw [h3]
  exact (mv0_wf hw hc (Or.inr hp) hm).wear h1 (Or.inr rfl)
theorem mvR_n {w : m_w} (hw : WF w) {c p : Int32} (hc : vp_in c 2) (hp : vp_in p (nN w)) {j : Nat} (h : j = 0 ∨ (101 ≤ j ∧ j < 125) ∨ (131 ≤ j ∧ j ≠ 141)) : mvR w c p j = w j := by
  obtain ⟨q, h1, h2, h3⟩ := vp_j (hw.h20 hp) (by decide)
  unfold mvR
  rw [h3, upd_n (by omega), mv0_n hc (by omega)]
theorem mvFl_ok {w : m_w} (hw : WF w) {cr : Nat → Int32} {n : Nat} {c p : Int32} (hc : vp_in c 2) (hp : okP w p) (hm : nMove w c p = none) (hn : n ≤ 9) : WF (mvFl w cr n c p).1 ∧ nN (mvFl w cr n c p).1 = nN w ∧ (mvFl w cr n c p).2.2 ≤ 9 ∧ (FW w → FW (mvFl w cr n c p).1) := by
  unfold mvFl
  split
  · exact ⟨mv0_wf hw hc hp hm, nN_eq (mv0_n (j := 0) hc (by decide)), hn, fun q => q.same (fun j hj => mv0_n hc (by omega))⟩
  · rename_i h1
    have hp' := hp.resolve_left h1
    have e0 : nN (mvR w c p) = nN w := nN_eq (mvR_n hw hc hp' (by omega))
    have hf : FW w → FW (mvR w c p) := fun q => q.same (fun j hj => mvR_n hw hc hp' (by omega))
    split
    · have h2 := crW_ok (mvR_wf hw hc hp' hm) (cr := cr) (h := p) (by rw [e0]; exact hp')
      exact ⟨h2.1, by rw [h2.2.1, e0], h2.2.2.1, fun q => h2.2.2.2 (hf q)⟩
    · exact ⟨mvR_wf hw hc hp' hm, e0, hn, hf⟩
def mvT (f : Nat → Int32) (a : Nat → Nat → Int32) (c p : Int32) : m_fl := mvFl (a 5) (a 12) (nCr f) c p
def cmM (f : Nat → Int32) (a : Nat → Nat → Int32) (T : m_fl) : Nat → Nat → Int32 := va_up (va_up (va_up (va_up a 8 (va_cpy (a 5) (a 8) 0 0 170)) 6 (va_cpy (va_cpy (a 5) (a 8) 0 0 170) (a 6) 0 (170 * rSl f) 170)) 12 T.2.1) 5 (minW T.1)
def pubFm (f : Nat → Int32) (o : m_why) (T : m_fl) : Nat → Int32 := match o with
  | some q => m_ref (m_hin f (some q)) 2
  | none => upd (remF (upd f 0 0)) 13 (nI T.2.2)
def pubAm (f : Nat → Int32) (a : Nat → Nat → Int32) (o : m_why) (T : m_fl) : Nat → Nat → Int32 := match o with
  | some _ => a
  | none => cmM (upd f 0 0) a T

/-! THE PURE PICTURE: forces, falls -/
set_option maxRecDepth 100000
def shF (w : m_w) : Nat → m_w
  | 0 => w
  | n + 1 => upd (shF w n) (146 + n) (shF w n (146 + n + 1))
def keep1 (w : m_w) : m_w := if w 145 = 16 then upd (shF w 15) 145 (w 145 - 1) else w
def keepW (w : m_w) (x : UInt32) : m_w := incW (upd (keep1 w) (146 + nFo (keep1 w)) x.toInt32) 145
def frc (w : m_w) (a h : Int32) : UInt32 := if rope w (plc w 1) h = 0 then 0 else FP.fdiv (FP.i2f (2 * dst w a h)) (FP.i2f (rope w (plc w 1) h))
def ldA (w : m_w) : Int32 := w (131 + nAn w)
def wrW (w : m_w) (a : Int32) (x : UInt32) : m_w := if hX w a 2 = 3 then w else upd w (1 + 5 * a.toNatClampNeg + 4) (w (1 + 5 * a.toNatClampNeg + 4) + FP.f2i (FP.fmul x 1077936128))
def ldW (w : m_w) (h : Int32) : m_w := wrW (keepW w (frc w (ldA w) h)) (ldA w) (frc w (ldA w) h)
/-- a wall; the holds that crumbled, one behind the other; how many -/
abbrev m_fl : Type := m_w × (Nat → Int32) × Nat
def ldF (h : Int32) : Nat → m_fl → m_fl
  | 0, S => S
  | k + 1, S => if isSe S.1 1 = false ∨ S.1 131 = 0 then (toGr S.1 0, S.2) else if hasCr (ldW S.1 h) (ldA S.1) = true then ldF h k (tkW (ldW S.1 h) (ldA S.1), upd S.2.1 S.2.2 (ldA S.1), S.2.2 + 1) else (hangW (ldW S.1 h) 0 (ldA S.1), S.2)
def ldL (h : Int32) (S : m_fl) : m_fl := ldF h (nAn S.1 + 1) S
def trD (w : m_w) (h : Int32) : m_w := dropHN (tkW w h) h (nLa w)
def trL (h : Int32) (S : m_fl) : m_fl := if plc (trD S.1 h) 0 = h then ldL h (trD S.1 h, S.2) else (trD S.1 h, S.2)
def trW (h : Int32) (S : m_fl) : m_fl := (if plc (trL h S).1 1 = h then folF (trL h S).1 else (trL h S).1, (trL h S).2)
def crF : Nat → Nat → m_fl → m_fl
  | 0, _, S => S
  | d + 1, k, S => if k < S.2.2 then crF d (k + 1) (trW (S.2.1 k) S) else S
def crW (w : m_w) (cr : Nat → Int32) (h : Int32) : m_fl := crF (nAn w + 2) 0 (w, upd cr 0 h, 1)
def mv0 (w : m_w) (c p : Int32) : m_w := incW (setC (setC (setC w c 2 (cX w c 2 - cost w c p)) c 0 p) c 1 0) 141
def mvR (w : m_w) (c p : Int32) : m_w := upd (mv0 w c p) (1 + 5 * p.toNatClampNeg + 4) (mv0 w c p (1 + 5 * p.toNatClampNeg + 4) + wearO (mv0 w c p) p c)
def mvC (w : m_w) (c p : Int32) : Bool := !decide (p = -1) && hasCr (mvR w c p) p
def mvFl (w : m_w) (cr : Nat → Int32) (n : Nat) (c p : Int32) : m_fl := if p = -1 then (mv0 w c p, cr, n) else if hasCr (mvR w c p) p = true then crW (mvR w c p) cr p else (mvR w c p, cr, n)
/-! what stays -/
theorem shF_n {w : m_w} {n j : Nat} (h : j < 146 ∨ 146 + n ≤ j) : shF w n j = w j := by
  induction n with
  | zero => rfl
  | succ n ih => show upd _ _ _ _ = _; rw [upd_n (by omega), ih (by omega)]
theorem shF_at {w : m_w} {n k : Nat} (h : k < n) : shF w n (146 + k) = w (146 + k + 1) := by
  induction n with
  | zero => omega
  | succ n ih =>
    show upd _ _ _ _ = _
    by_cases hk : k = n
    · subst hk; rw [upd_s, shF_n (by omega)]
    · rw [upd_n (by omega), ih (by omega)]
theorem keep1_n {w : m_w} {j : Nat} (h : j < 145) : keep1 w j = w j := by
  unfold keep1
  split
  · rw [upd_n (by omega), shF_n (by omega)]
  · rfl
theorem keepW_n {w : m_w} {x : UInt32} {j : Nat} (h : j < 145) : keepW w x j = w j := by
  unfold keepW
  rw [incW_n (by omega), upd_n (by omega), keep1_n h]
theorem keep1_f {w : m_w} (hw : WF w) : nFo (keep1 w) ≤ 15 ∧ keep1 w 145 = nI (nFo (keep1 w)) := by
  obtain ⟨h1, h2⟩ := hw.2.2.2.1
  have h3 : ∀ n, n ≤ 15 → keep1 w 145 = nI n → nFo (keep1 w) ≤ 15 ∧ keep1 w 145 = nI (nFo (keep1 w)) := by
    intro n hn e
    have : nFo (keep1 w) = n := by unfold nFo; rw [e]; exact nI_clamp (by omega)
    rw [this]
    exact ⟨hn, e⟩
  by_cases e : w 145 = 16
  · refine h3 15 (by decide) ?_
    unfold keep1
    rw [if_pos e, upd_s, e]
    rfl
  · refine h3 (nFo w) ?_ ?_
    · rcases Nat.lt_or_ge (nFo w) 16 with q | q
      · omega
      · exact absurd (by rw [h1, show nFo w = 16 by omega]; rfl) e
    · unfold keep1
      rw [if_neg e]
      exact h1
theorem keepW_145 {w : m_w} (hw : WF w) {x : UInt32} : keepW w x 145 = nI (nFo (keep1 w) + 1) := by
  unfold keepW incW
  rw [upd_s, upd_n (by omega), (keep1_f hw).2, nI_1]
theorem keepW_fo {w : m_w} (hw : WF w) {x : UInt32} : nFo (keepW w x) = nFo (keep1 w) + 1 := by
  unfold nFo
  rw [keepW_145 hw]
  exact nI_clamp (by have := (keep1_f hw).1; omega)
/-- other forces -/
theorem WF.frc {w w' : m_w} (hw : WF w) {n : Nat} (hn : n ≤ 16) (h145 : w' 145 = nI n) (ho : ∀ j, j < 145 → w' j = w j) : WF w' := by
  obtain ⟨h1, h2⟩ := WF.iff.mp hw
  have e0 := ho 0 (by omega)
  have e1 := ho 104 (by omega)
  have e3 := ho 131 (by omega)
  have en : nFo w' = n := by unfold nFo; rw [h145]; exact nI_clamp (by omega)
  have hN : nN w' = nN w := by unfold nN; rw [e0]
  have hL : nLa w' = nLa w := by unfold nLa; rw [e1]
  have hF : nAn w' = nAn w := by unfold nAn; rw [e3]
  refine WF.iff.mpr ⟨⟨⟨?_, ?_⟩, ⟨?_, ?_⟩, ⟨?_, ?_⟩, ⟨?_, ?_⟩⟩, fun j => ?_⟩
  · rw [hN, e0]; exact h1.1.1
  · rw [hN]; exact h1.1.2
  · rw [hL, e1]; exact h1.2.1.1
  · rw [hL]; exact h1.2.1.2
  · rw [hF, e3]; exact h1.2.2.1.1
  · rw [hF]; exact h1.2.2.1.2
  · rw [en]; exact h145
  · rw [en]; exact hn
  · rw [hN, hL, hF]
    by_cases hj : j < 145
    · rw [ho j hj]
      exact h2 j
    · exact okIx.any (by omega) h1.1.2 h1.2.1.2 h1.2.2.1.2
theorem WF.keep {w : m_w} (hw : WF w) {x : UInt32} : WF (keepW w x) := hw.frc (n := nFo (keep1 w) + 1) (by have := (keep1_f hw).1; omega) (keepW_145 hw) (fun j hj => keepW_n hj)
/-- the forces are of the run -/
def FW (w : m_w) : Prop := ∀ k, k < nFo w → fb 7 (w (146 + k)).toUInt32
theorem FW.same {w w' : m_w} (h : FW w) (ho : ∀ j, 145 ≤ j → w' j = w j) : FW w' := by
  intro k hk
  have : nFo w' = nFo w := by unfold nFo; rw [ho 145 (by omega)]
  rw [ho _ (by omega)]
  exact h k (by omega)
theorem FW.keep {w : m_w} (hw : WF w) (h : FW w) {x : UInt32} (hx : fb 7 x) : FW (keepW w x) := by
  intro k hk
  rw [keepW_fo hw] at hk
  unfold keepW
  rw [incW_n (by omega)]
  by_cases e : k = nFo (keep1 w)
  · subst e
    rw [upd_s]
    simpa using hx
  · rw [upd_n (by omega)]
    have h16 := hw.2.2.2.1
    by_cases e2 : w 145 = 16
    · have h15 : k < 15 := by have := (keep1_f hw).1; omega
      unfold keep1
      rw [if_pos e2, upd_n (by omega), shF_at h15]
      have e3 : nFo w = 16 := by unfold nFo; rw [e2]; rfl
      exact h (k + 1) (by omega)
    · have e3 : keep1 w = w := if_neg e2
      rw [e3] at hk e ⊢
      exact h k (by omega)
theorem wrW_n {w : m_w} {a : Int32} {x : UInt32} (ha : vp_in a 20) {j : Nat} (h : 101 ≤ j ∨ j % 5 ≠ 0 ∨ j = 0) : wrW w a x j = w j := by
  obtain ⟨q, h1, h2, h3⟩ := vp_j ha (by decide)
  unfold wrW
  split
  · rfl
  · rw [h3, upd_n (by omega)]
theorem WF.wr {w : m_w} (hw : WF w) {a : Int32} {x : UInt32} (ha : vp_in a 20) : WF (wrW w a x) := by
  obtain ⟨q, h1, h2, h3⟩ := vp_j ha (by decide)
  unfold wrW
  split
  · exact hw
  · rw [h3]; exact hw.wear h1 (Or.inr rfl)
theorem ldA_ok {w : m_w} (hw : WF w) (h : ¬ w 131 = 0) : vp_in (ldA w) (nN w) ∧ 0 < nAn w ∧ ldA w = w (132 + (nAn w - 1)) := by
  have h0 : 0 < nAn w := by
    rcases Nat.eq_zero_or_pos (nAn w) with e | e
    · exact absurd (by rw [hw.2.2.1.1, e]; rfl) h
    · exact e
  have e : ldA w = w (132 + (nAn w - 1)) := by unfold ldA; rw [show 131 + nAn w = 132 + (nAn w - 1) by omega]
  exact ⟨by rw [e]; exact hw.2.2.2.2.2.2.2 _ (by omega), h0, e⟩
theorem ldW_n {w : m_w} {h : Int32} (ha : vp_in (ldA w) 20) {j : Nat} (hj : (101 ≤ j ∨ j % 5 ≠ 0 ∨ j = 0) ∧ j < 145) : ldW w h j = w j := by
  unfold ldW
  rw [wrW_n ha hj.1, keepW_n hj.2]
theorem WF.ld {w : m_w} (hw : WF w) {h : Int32} (ha : vp_in (ldA w) 20) : WF (ldW w h) := hw.keep.wr ha
theorem tk_nAn {w : m_w} (hw : WF w) {h : Int32} : nAn (tkW w h) = (tkN w h (nAn w)).2 := by
  have h1 := tkN_le (w := w) (h := h) (n := nAn w)
  have h2 := hw.2.2.1.2
  unfold tkW
  rw [show nAn (upd (tkN w h (nAn w)).1 131 (nI (tkN w h (nAn w)).2)) = ((upd (tkN w h (nAn w)).1 131 (nI (tkN w h (nAn w)).2)) 131).toNatClampNeg from rfl, upd_s]
  exact nI_clamp (by omega)
theorem tk_le {w : m_w} (hw : WF w) {h : Int32} : nAn (tkW w h) ≤ nAn w := by rw [tk_nAn hw]; exact tkN_le
theorem tk_lt {w : m_w} (hw : WF w) {h : Int32} (h0 : 0 < nAn w) (he : w (132 + (nAn w - 1)) = h) : nAn (tkW w h) < nAn w := by
  rw [tk_nAn hw]
  obtain ⟨n, hn⟩ : ∃ n, nAn w = n + 1 := ⟨nAn w - 1, by omega⟩
  rw [hn] at he ⊢
  rw [Nat.add_sub_cancel] at he
  have h2 := tkN_le (w := w) (h := h) (n := n)
  rw [show tkN w h (n + 1) = tkN w h n from if_pos (by rw [tkN_n (by omega)]; exact he)]
  omega
theorem tkW_n {w : m_w} (hw : WF w) {h : Int32} {j : Nat} (hj : j < 131 ∨ 140 ≤ j) : tkW w h j = w j := by
  have h1 := tkN_le (w := w) (h := h) (n := nAn w)
  have h2 := hw.2.2.1.2
  unfold tkW
  rw [upd_n (by omega), tkN_n (by omega)]
theorem toGr_n {w : m_w} {c : Int32} (hc : vp_in c 2) (hw : WF w) {j : Nat} (hj : j < 105 ∨ (131 ≤ j ∧ j ≠ 144)) : toGr w c j = w j := by
  have h1 := hw.2.1.2
  unfold toGr
  rw [incW_n (by omega), setC_n hc (by decide) (by omega), setC_n hc (by decide) (by omega), dropCN_n (by omega)]
theorem hangW_n {w : m_w} {c h : Int32} (hc : vp_in c 2) {j : Nat} (hj : j < 125 ∨ (131 ≤ j ∧ j ≠ 143)) : hangW w c h j = w j := by
  unfold hangW
  rw [incW_n (by omega), setC_n hc (by decide) (by omega), setC_n hc (by decide) (by omega)]
theorem folF_n {w : m_w} (hw : WF w) {j : Nat} (hj : j < 105 ∨ (131 ≤ j ∧ j < 143) ∨ 145 ≤ j) : folF w j = w j := by
  unfold folF
  split
  · exact hangW_n (vp_lit (by decide)) (by omega)
  · exact toGr_n (vp_lit (by decide)) hw (by omega)
theorem WF.trD {w : m_w} (hw : WF w) {h : Int32} : WF (trD w h) := hw.tk.dropHN hw.2.1.2
theorem trD_n {w : m_w} (hw : WF w) {h : Int32} {j : Nat} (hj : j < 105 ∨ (125 ≤ j ∧ j < 131) ∨ 140 ≤ j) : trD w h j = w j := by
  have h1 := hw.2.1.2
  unfold Jvm.Pilot.CCrumblingWallLaw_law_r3399_8589e4.trD
  rw [dropHN_n (by omega), tkW_n hw (by omega)]
theorem trD_An {w : m_w} (hw : WF w) {h : Int32} : nAn (trD w h) ≤ nAn w := by
  have h1 := hw.2.1.2
  have e : nAn (trD w h) = nAn (tkW w h) := nAn_eq (dropHN_n (by omega))
  rw [e]
  exact tk_le hw
/-! distances -/
theorem sz_le : ∀ a, a ≤ 20 → ∀ b, b ≤ 20 → ∃ d, d ≤ 20 ∧ sz (nI a - nI b) = nI d := by
  have h : ∀ a, a < 21 → ∀ b, b < 21 → sz (Int32.ofNat a - Int32.ofNat b) = Int32.ofNat (a - b + (b - a)) := by decide +kernel
  exact fun a ha b hb => ⟨a - b + (b - a), by omega, h a (by omega) b (by omega)⟩
theorem dst_le {w : m_w} (hw : WF w) {x y : Int32} (hx : okP w x) (hy : okP w y) : ∃ d, d ≤ 40 ∧ dst w x y = nI d := by
  have hr : ∀ z, okP w z → ¬ z = -1 → (∃ d, d ≤ 20 ∧ hX w z 1 = nI d) ∧ (∃ d, d ≤ 20 ∧ hX w z 0 = nI d) := by
    intro z hz h1
    obtain ⟨j, h2, h3, h4⟩ := vp_j (hz.resolve_left h1) (Nat.lt_of_le_of_lt hw.1.2 (by decide))
    obtain ⟨⟨a, a1, a2⟩, ⟨b, b0, b1, b2⟩, -⟩ := hw.2.2.2.2.1 j h2
    unfold hX
    rw [h4]
    exact ⟨⟨b, b1, b2⟩, ⟨a, by omega, a2⟩⟩
  unfold dst
  by_cases h1 : x = -1
  · by_cases h2 : y = -1
    · rw [if_pos ⟨h1, h2⟩]; exact ⟨0, by decide, rfl⟩
    · rw [if_neg (fun q => h2 q.2), if_pos h1]
      obtain ⟨d, d1, d2⟩ := (hr y hy h2).1
      exact ⟨d, by omega, d2⟩
  · rw [if_neg (fun q => h1 q.1), if_neg h1]
    by_cases h2 : y = -1
    · rw [if_pos h2]
      obtain ⟨d, d1, d2⟩ := (hr x hx h1).1
      exact ⟨d, by omega, d2⟩
    · rw [if_neg h2]
      obtain ⟨⟨a, a1, a2⟩, ⟨b, b1, b2⟩⟩ := hr x hx h1
      obtain ⟨⟨c, c1, c2⟩, ⟨d, d1, d2⟩⟩ := hr y hy h2
      rw [a2, b2, c2, d2]
      obtain ⟨u, u1, u2⟩ := sz_le b b1 d d1
      obtain ⟨v, v1, v2⟩ := sz_le a a1 c c1
      rw [u2, v2, nI_add]
      exact ⟨u + v, by omega, rfl⟩
theorem ropeN_le {w : m_w} (hw : WF w) {x : Int32} (hx : okP w x) {k : Nat} (hk : k ≤ nAn w) : ∃ d, d ≤ 40 * k ∧ (ropeN w x k).1 = nI d := by
  induction k with
  | zero => exact ⟨0, by omega, rfl⟩
  | succ k ih =>
    obtain ⟨d, d1, d2⟩ := ih (by omega)
    obtain ⟨u, u1, u2⟩ := dst_le hw (ropeN_ok hw hx (k := k) (by omega)) (wA_pl hw (k := k) (by omega))
    refine ⟨d + u, by omega, ?_⟩
    show (ropeN w x k).1 + dst w (ropeN w x k).2 (w (132 + k)) = _
    rw [d2, u2, nI_add]
theorem rope_le {w : m_w} (hw : WF w) {x y : Int32} (hx : okP w x) (hy : okP w y) : ∃ d, d ≤ 360 ∧ rope w x y = nI d := by
  have h8 := hw.2.2.1.2
  obtain ⟨d, d1, d2⟩ := ropeN_le hw hx (Nat.le_refl (nAn w))
  obtain ⟨u, u1, u2⟩ := dst_le hw (ropeN_ok hw hx (Nat.le_refl (nAn w))) hy
  refine ⟨d + u, by omega, ?_⟩
  unfold rope
  rw [d2, u2, nI_add]
theorem nI_p0 {d : Nat} (h : ¬ nI d = 0) : 0 < d := by
  rcases Nat.eq_zero_or_pos d with e | e
  · subst e; exact absurd rfl h
  · exact e
theorem fb_frc' {w : m_w} (hw : WF w) {a h : Int32} (ha : okP w a) (hh : okP w h) (hz : ¬ rope w (plc w 1) h = 0) : fb 7 (FP.fdiv (FP.i2f (2 * dst w a h)) (FP.i2f (rope w (plc w 1) h))) := by
  obtain ⟨d, d1, d2⟩ := dst_le hw ha hh
  obtain ⟨u, u1, u2⟩ := rope_le hw (hw.pl (c := 1) (vp_lit (by decide))) hh
  rw [u2] at hz ⊢
  rw [d2, show (2 : Int32) = nI 2 from rfl, pk_mul]
  exact fb_div (K := 7) (L := 0) (fb_i2f (by omega) (by omega) (by decide)) (fge_i2f u (by omega) (nI_p0 hz)) (by decide)
theorem fb_frc {w : m_w} (hw : WF w) {a h : Int32} (ha : okP w a) (hh : okP w h) : fb 7 (frc w a h) := by
  unfold frc
  split
  · exact fb_mono fb_0 (by decide)
  · rename_i hz
    exact fb_frc' hw ha hh hz
theorem n32_frc3 {w : m_w} (hw : WF w) {a h : Int32} (ha : okP w a) (hh : okP w h) : vf_n32 (FP.fmul (frc w a h) 1077936128) := fb_n32 (fb_mul (fb_frc hw ha hh) fb_3 (by decide))

/-! THE PURE PICTURE: least rests, least moves, the law of the search -/
set_option maxRecDepth 100000
/-- grips after a rest everywhere -/
def rstd (w : m_w) (B B' : Nat → Nat) : Prop := (∀ i, i ≤ nN w → ∀ g, B i = g + 1 → B' i = rsN w i g + 1) ∧ (∀ i, i ≤ nN w → B i = 0 → B' i = 0) ∧ (∀ i, nN w < i → B' i = B i)
theorem rstd_ge {w : m_w} {B B' : Nat → Nat} (h : rstd w B B') (hB : ∀ i, i ≤ 20 → B i ≤ 21) : ∀ i, i ≤ 20 → B i ≤ B' i := by
  intro i hi
  by_cases hn : i ≤ nN w
  · cases hb : B i with
    | zero => exact Nat.zero_le _
    | succ g =>
      rw [h.1 i hn g hb]
      have := (rsN_ge (w := w) (i := i) (g := g) (by have := hB i hi; omega)).1
      omega
  · rw [h.2.2 i (by omega)]
    exact Nat.le_refl _
theorem sT_mono {B B' : Nat → Nat} : ∀ n, (∀ i, i < n → B i ≤ B' i) → sT B' n ≤ sT B n := by
  intro n
  induction n with
  | zero => intro _; exact Nat.le_refl _
  | succ n ih =>
    intro h
    have h1 := ih (fun i hi => h i (by omega))
    have h2 := h n (by omega)
    show sT B' n + (21 - B' n) ≤ sT B n + (21 - B n)
    omega
theorem Rc.le {w : m_w} {L s g0 n i g : Nat} (hs : s ≤ nN w) (h : Rc w L s g0 n i g) : i ≤ nN w :=
  h (fun _ i _ => i ≤ nN w) hs (fun _ _ _ _ _ _ hj _ _ => hj) (fun _ _ _ h => h)
/-- all that is reached with n rests is kept -/
def cpl (w : m_w) (L s g0 n : Nat) (B : Nat → Nat) : Prop := ∀ i g, Rc w L s g0 n i g → g + 1 ≤ B i
theorem st_mv {w : m_w} {L : Nat} {B : Nat → Nat} (h : stab w L B) {i j g : Nat} (hi : i ≤ nN w) (hj : j ≤ nN w) (hy : wyN w i j = true) (hd : dN w i j + L ≤ g) (hg : g + 1 ≤ B i) : g - (dN w i j + L) + 1 ≤ B j := by
  have := h i hi j hj hy (by omega)
  omega
theorem cpl_0 {w : m_w} {L s g0 : Nat} {B : Nat → Nat} (hs : s ≤ nN w) (h0 : g0 + 1 ≤ B s) (h : stab w L B) : cpl w L s g0 0 B := by
  intro i g hr
  have h1 := hr (fun k i g => i ≤ nN w ∧ (k = 0 → g + 1 ≤ B i)) ⟨hs, fun _ => h0⟩ (fun k i g j hp hi hj hy hd => ⟨hj, fun e => st_mv h hi hj hy hd (hp.2 e)⟩) (fun k i g hp => ⟨hp.1, fun e => absurd e (Nat.succ_ne_zero _)⟩)
  exact h1.2 rfl
theorem cpl_s {w : m_w} {L s g0 n : Nat} {B B1 B2 : Nat → Nat} (hs : s ≤ nN w) (hc : cpl w L s g0 n B) (hr : rstd w B B1) (hge : ∀ i, i ≤ nN w → B1 i ≤ B2 i) (h : stab w L B2) : cpl w L s g0 (n + 1) B2 := by
  intro i g hx
  have h1 := hx (fun k i g => Rc w L s g0 k i g ∧ (k = n + 1 → g + 1 ≤ B2 i)) ⟨Rc.z, fun e => absurd e (by omega)⟩
    (fun k i g j hp hi hj hy hd => ⟨hp.1.mv hi hj hy hd, fun e => st_mv h hi hj hy hd (hp.2 e)⟩)
    (fun k i g hp => ⟨hp.1.rs, fun e => by
      have e : k = n := by omega
      subst e
      have hi := hp.1.le hs
      have h2 := hc i g hp.1
      obtain ⟨q, hq⟩ : ∃ q, B i = q + 1 := ⟨B i - 1, by omega⟩
      have h3 := hr.1 i hi q hq
      have h4 := hge i hi
      have h5 := rsN_mono (w := w) (i := i) (g := g) (g' := q) (by omega)
      omega⟩)
  exact h1.2 rfl
/-- when a rest changes nothing more -/
theorem cpl_fix {w : m_w} {L s g0 n : Nat} {B B1 : Nat → Nat} (hs : s ≤ nN w) (hc : cpl w L s g0 n B) (hr : rstd w B B1) (he : ∀ i, i ≤ nN w → B1 i = B i) (h : stab w L B) : ∀ k, n ≤ k → cpl w L s g0 k B := by
  intro k hk
  obtain ⟨d, rfl⟩ : ∃ d, k = n + d := ⟨k - n, by omega⟩
  clear hk
  induction d with
  | zero => exact hc
  | succ d ih => exact cpl_s hs ih hr (fun i hi => Nat.le_of_eq (he i hi)) h
/-- walks of n moves, grip left out -/
def Wk (w : m_w) (s : Nat) : Nat → Nat → Prop
  | 0, i => i = s
  | n + 1, j => ∃ i, i ≤ nN w ∧ Wk w s n i ∧ j ≤ nN w ∧ wyN w i j = true
def lmIs (w : m_w) (s t : Nat) : Option Nat → Prop
  | some n => Wk w s n t ∧ ∀ m, m < n → ¬ Wk w s m t
  | none => ∀ m, ¬ Wk w s m t
theorem lmIs.uniq {w : m_w} {s t : Nat} {o o' : Option Nat} (h : lmIs w s t o) (h' : lmIs w s t o') : o = o' := by
  cases o with
  | none =>
    cases o' with
    | none => rfl
    | some n => exact absurd h'.1 (h n)
  | some n =>
    cases o' with
    | none => exact absurd h.1 (h' n)
    | some m =>
      have : n = m := by
        rcases Nat.lt_trichotomy n m with e | e | e
        · exact absurd h.1 (h'.2 n e)
        · exact e
        · exact absurd h'.1 (h.2 m e)
      rw [this]
/-! the ints of a climber as numbers -/
def lpN (w : m_w) (c : Int32) : Nat := (bits (carr w c)).toNatClampNeg
def plN (w : m_w) (c : Int32) : Nat := (plc w c + 1).toNatClampNeg
def gpN (w : m_w) (c : Int32) : Nat := (cX w c 2).toNatClampNeg
def tN (p : Int32) : Nat := (p + 1).toNatClampNeg
theorem lpN_eq {w : m_w} {c : Int32} : bits (carr w c) = nI (lpN w c) ∧ lpN w c ≤ 20 := by
  obtain ⟨b, h1, h2⟩ := bits_le (x := carr w c)
  unfold lpN
  rw [h2, nI_clamp (by omega)]
  exact ⟨rfl, h1⟩
theorem tN_eq {w : m_w} (hw : WF w) {p : Int32} (h : okP w p) : p = pI (tN p) ∧ tN p ≤ nN w := by
  have h20 := hw.1.2
  obtain ⟨i, h1, rfl⟩ := pI_pl hw h
  unfold tN
  rw [pI_p, nI_clamp (by omega)]
  exact ⟨rfl, h1⟩
theorem plN_eq {w : m_w} (hw : WF w) {c : Int32} (hc : vp_in c 2) : plc w c = pI (plN w c) ∧ plN w c ≤ nN w := tN_eq hw (hw.pl hc)
theorem gpN_eq {w : m_w} (hw : WF w) {c : Int32} (hc : vp_in c 2) : cX w c 2 = nI (gpN w c) ∧ gpN w c ≤ 20 := by
  obtain ⟨g, h1, h2⟩ := hw.grip hc
  unfold gpN
  rw [h2, nI_clamp (by omega)]
  exact ⟨rfl, h1⟩
theorem clN_at {b : Nat → Int32} {n i : Nat} (h : i < n) : clN b n i = -1 := by
  induction n with
  | zero => omega
  | succ n ih =>
    show upd _ _ _ _ = _
    by_cases e : i = n
    · subst e; exact upd_s _ _ _
    · rw [upd_n e]; exact ih (by omega)
def B0 (s v : Nat) : Nat → Nat := uN (fun _ => 0) s v
theorem bOk_0 {b : Nat → Int32} {s v : Nat} {x : Int32} (hx : x = nI v - 1) (hv : v ≤ 21) : bOk (upd (clN b 21) s x) (B0 s v) :=
  bOk.up (fun i hi => ⟨by rw [clN_at (by omega)]; rfl, Nat.zero_le _⟩) hx hv

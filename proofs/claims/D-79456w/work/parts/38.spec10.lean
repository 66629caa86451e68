/-! THE PURE PICTURE: least rests, least moves. Places as numbers: 0 the ground, k + 1 the hold k -/
set_option maxRecDepth 100000
def pI (i : Nat) : Int32 := nI i - 1
def wyN (w : m_w) (i j : Nat) : Bool := isWy w (pI i) (pI j)
def dN (w : m_w) (i j : Nat) : Nat := (dst w (pI i) (pI j)).toNatClampNeg
def gnN (w : m_w) (i : Nat) : Nat := (gain (hX w (pI i) 2)).toNatClampNeg
def rsN (w : m_w) (i g : Nat) : Nat := if i = 0 then 20 else min 20 (g + gnN w i)
theorem pI_0 : pI 0 = -1 := by decide
theorem pI_s (k : Nat) : pI (k + 1) = nI k := nI_pred k
theorem pI_1 (i : Nat) : pI i + 1 = pI (i + 1) := by
  unfold pI
  rw [Int32.sub_add_cancel, nI_pred]
theorem pI_p (i : Nat) : pI i + 1 = nI i := Int32.sub_add_cancel _ _
theorem pI_ix {i : Nat} (h : i ≤ 20) : vp_in (pI i + 1) 21 ∧ (pI i + 1).toNatClampNeg = i := by
  rw [pI_p]
  exact ⟨vp_in_nI (by omega) (by decide), nI_clamp (by omega)⟩
theorem pI_ok {w : m_w} (hw : WF w) {i : Nat} (h : i ≤ nN w) : okP w (pI i) := by
  cases i with
  | zero => exact Or.inl pI_0
  | succ k => rw [pI_s]; exact Or.inr (vp_in_nI h (Nat.lt_of_le_of_lt hw.1.2 (by decide)))
theorem pI_pl {w : m_w} (hw : WF w) {p : Int32} (h : okP w p) : ∃ i, i ≤ nN w ∧ p = pI i := by
  rcases h with rfl | h
  · exact ⟨0, Nat.zero_le _, pI_0.symm⟩
  · obtain ⟨j, h1, h2, -⟩ := vp_j h (Nat.lt_of_le_of_lt hw.1.2 (by decide))
    exact ⟨j + 1, h1, by rw [h2, pI_s]⟩
theorem pI_lt {w : m_w} (hw : WF w) {i : Nat} (h : i ≤ 1000) : w 0 ≤ pI i ↔ nN w + 1 ≤ i := by
  have h20 := hw.1.2
  rw [hw.1.1]
  cases i with
  | zero =>
    rw [pI_0]
    refine ⟨fun q => ?_, fun q => by omega⟩
    rw [Int32.le_iff_toInt_le] at q
    have e : (nI (nN w)).toInt = (nN w : Int) := Int32.toInt_ofNat_of_lt (by omega)
    rw [e, show (-1 : Int32).toInt = -1 from rfl] at q
    omega
  | succ k => rw [pI_s, nI_leI (by omega) (by omega)]; omega
theorem dN_eq {w : m_w} (hw : WF w) {i j : Nat} (hi : i ≤ nN w) (hj : j ≤ nN w) : dst w (pI i) (pI j) = nI (dN w i j) ∧ dN w i j ≤ 40 := by
  obtain ⟨d, h1, h2⟩ := dst_le hw (pI_ok hw hi) (pI_ok hw hj)
  unfold dN
  rw [h2, nI_clamp (by omega)]
  exact ⟨rfl, h1⟩
theorem gn_eq {w : m_w} {i : Nat} : gain (hX w (pI i) 2) = nI (gnN w i) ∧ 1 ≤ gnN w i ∧ gnN w i ≤ 4 := by
  unfold gnN gain
  split
  · exact ⟨rfl, by decide, by decide⟩
  · split
    · exact ⟨rfl, by decide, by decide⟩
    · split
      · exact ⟨rfl, by decide, by decide⟩
      · exact ⟨rfl, by decide, by decide⟩
theorem rs_eq {w : m_w} {i g : Nat} (hi : i ≤ 20) (hg : g ≤ 20) : resG w (pI i) (nI g) = nI (rsN w i g) := by
  obtain ⟨h1, h2, h3⟩ := gn_eq (w := w) (i := i)
  unfold resG rsN
  cases i with
  | zero =>
    rw [if_pos pI_0, if_neg (by decide), if_pos rfl]; rfl
  | succ k =>
    have e : ¬ pI (k + 1) = -1 := by
      rw [pI_s]
      intro q
      have : (nI k).toInt = (k : Int) := Int32.toInt_ofNat_of_lt (by omega)
      rw [q] at this
      have h : (-1 : Int32).toInt = -1 := rfl
      omega
    rw [if_neg e, if_neg (show ¬ k + 1 = 0 by omega), h1, nI_add, show (20 : Int32) = nI 20 from rfl]
    split
    · rename_i h
      rw [nI_ltI (by omega) (by omega)] at h
      rw [Nat.min_eq_left (by omega)]
    · rename_i h
      rw [nI_ltI (by omega) (by omega)] at h
      rw [Nat.min_eq_right (by omega)]
theorem rsN_ge {w : m_w} {i g : Nat} (hg : g ≤ 20) : g ≤ rsN w i g ∧ rsN w i g ≤ 20 := by
  unfold rsN
  split
  · exact ⟨hg, Nat.le_refl _⟩
  · omega
theorem rsN_mono {w : m_w} {i g g' : Nat} (h : g ≤ g') : rsN w i g ≤ rsN w i g' := by
  unfold rsN
  split
  · exact Nat.le_refl _
  · omega
/-- with n rests, at place i, with grip g -/
def Rc (w : m_w) (L s g0 n i g : Nat) : Prop := ∀ P : Nat → Nat → Nat → Prop, P 0 s g0 → (∀ n i g j, P n i g → i ≤ nN w → j ≤ nN w → wyN w i j = true → dN w i j + L ≤ g → P n j (g - (dN w i j + L))) → (∀ n i g, P n i g → P (n + 1) i (rsN w i g)) → P n i g
theorem Rc.z {w : m_w} {L s g0 : Nat} : Rc w L s g0 0 s g0 := fun P h _ _ => h
theorem Rc.mv {w : m_w} {L s g0 n i g j : Nat} (h : Rc w L s g0 n i g) (hi : i ≤ nN w) (hj : j ≤ nN w) (hy : wyN w i j = true) (hd : dN w i j + L ≤ g) : Rc w L s g0 n j (g - (dN w i j + L)) := fun P h1 h2 h3 => h2 n i g j (h P h1 h2 h3) hi hj hy hd
theorem Rc.rs {w : m_w} {L s g0 n i g : Nat} (h : Rc w L s g0 n i g) : Rc w L s g0 (n + 1) i (rsN w i g) := fun P h1 h2 h3 => h3 n i g (h P h1 h2 h3)
/-- the least number of rests, if there is one -/
def lrIs (w : m_w) (L s g0 t : Nat) : Option Nat → Prop
  | some n => (∃ g, Rc w L s g0 n t g) ∧ ∀ m, m < n → ∀ g, ¬ Rc w L s g0 m t g
  | none => ∀ m g, ¬ Rc w L s g0 m t g
theorem lrIs.uniq {w : m_w} {L s g0 t : Nat} {o o' : Option Nat} (h : lrIs w L s g0 t o) (h' : lrIs w L s g0 t o') : o = o' := by
  cases o with
  | none =>
    cases o' with
    | none => rfl
    | some n => obtain ⟨⟨g, q⟩, -⟩ := h'; exact absurd q (h n g)
  | some n =>
    obtain ⟨⟨g, q⟩, r⟩ := h
    cases o' with
    | none => exact absurd q (h' n g)
    | some m =>
      obtain ⟨⟨g', q'⟩, r'⟩ := h'
      have : n = m := by
        rcases Nat.lt_trichotomy n m with e | e | e
        · exact absurd q (r' n e g)
        · exact e
        · exact absurd q' (r m e g')
      rw [this]
/-- the array of best grips: B is one more than the grip, 0: none -/
def bOk (b : Nat → Int32) (B : Nat → Nat) : Prop := ∀ i, i ≤ 20 → b i = nI (B i) - 1 ∧ B i ≤ 21
def uN (B : Nat → Nat) (j v : Nat) : Nat → Nat := fun k => if k = j then v else B k
theorem bOk.up {b : Nat → Int32} {B : Nat → Nat} (h : bOk b B) {j v : Nat} {x : Int32} (hx : x = nI v - 1) (hv : v ≤ 21) : bOk (upd b j x) (uN B j v) := by
  intro i hi
  unfold upd uN
  by_cases e : i = j
  · rw [if_pos e, if_pos e]; exact ⟨hx, hv⟩
  · rw [if_neg e, if_neg e]; exact h i hi
/-- what is wanting to the most grip everywhere -/
def sT (B : Nat → Nat) : Nat → Nat
  | 0 => 0
  | n + 1 => sT B n + (21 - B n)
theorem sT_same {B : Nat → Nat} {j v n : Nat} (h : n ≤ j) : sT (uN B j v) n = sT B n := by
  induction n with
  | zero => rfl
  | succ n ih => show sT _ n + (21 - uN B j v n) = sT B n + (21 - B n); rw [ih (by omega)]; unfold uN; rw [if_neg (by omega)]
theorem sT_lt {B : Nat → Nat} {j v n : Nat} (h : j < n) (h1 : B j < v) (h2 : v ≤ 21) : sT (uN B j v) n < sT B n := by
  induction n with
  | zero => omega
  | succ n ih =>
    show sT _ n + (21 - uN B j v n) < sT B n + (21 - B n)
    by_cases e : j = n
    · subst e
      rw [sT_same (Nat.le_refl _)]
      unfold uN
      rw [if_pos rfl]
      omega
    · have := ih (by omega)
      have e2 : uN B j v n = B n := if_neg (by omega)
      rw [e2]
      omega
def stA (w : m_w) (L : Nat) (B : Nat → Nat) (i j : Nat) : Prop := wyN w i j = true → dN w i j + L < B i → B i - (dN w i j + L) ≤ B j
def stab (w : m_w) (L : Nat) (B : Nat → Nat) : Prop := ∀ i, i ≤ nN w → ∀ j, j ≤ nN w → stA w L B i j
/-- what is kept of grips is there -/
def snd (w : m_w) (P : Nat → Nat → Prop) (B : Nat → Nat) : Prop := ∀ i, i ≤ nN w → ∀ g, B i = g + 1 → P i g
def mvC1 (w : m_w) (L : Nat) (P : Nat → Nat → Prop) : Prop := ∀ i g j, P i g → i ≤ nN w → j ≤ nN w → wyN w i j = true → dN w i j + L ≤ g → P j (g - (dN w i j + L))
theorem nI_int {n : Nat} (h : n < 2 ^ 31) : (nI n).toInt = (n : Int) := Int32.toInt_ofNat_of_lt (by simpa using h)
theorem b_neg {n : Nat} (h : n ≤ 1000) : nI n - 1 < 0 ↔ n = 0 := by
  cases n with
  | zero => exact ⟨fun _ => rfl, fun _ => by decide⟩
  | succ k =>
    rw [nI_pred]
    refine ⟨fun q => ?_, fun q => by omega⟩
    rw [Int32.lt_iff_toInt_lt, nI_int (by omega)] at q
    have : (0 : Int32).toInt = 0 := rfl
    omega
theorem lf_int {x d l : Nat} (hx : x ≤ 100) (hd : d ≤ 100) (hl : l ≤ 100) : (nI x - 1 - nI d - nI l).toInt = (x : Int) - 1 - d - l := by
  have e : nI x - 1 - nI d - nI l = Int32.ofInt ((x : Int) - 1 - d - l) := by
    have h1 : nI x = Int32.ofInt (x : Int) := rfl
    have h2 : nI d = Int32.ofInt (d : Int) := rfl
    have h3 : nI l = Int32.ofInt (l : Int) := rfl
    have h4 : (1 : Int32) = Int32.ofInt 1 := rfl
    rw [h1, h2, h3, h4, ← Int32.ofInt_sub, ← Int32.ofInt_sub, ← Int32.ofInt_sub]
  rw [e]
  exact Int32.toInt_ofInt_of_le (by show (-2147483648 : Int) ≤ _; omega) (by show _ < (2147483648 : Int); omega)

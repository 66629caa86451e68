/-! FRAMES, and linked lists as a whole -/
set_option maxRecDepth 100000
/-- all but the parts and regions of L is as before -/
def g_fr (L : List (Nat × Nat)) (ph ph' : g_H) : Prop := ∀ j i, (j, i) ∉ L → ph' j i = ph j i
theorem g_fr.refl (L : List (Nat × Nat)) (ph : g_H) : g_fr L ph ph := fun _ _ _ => rfl
theorem g_fr.trans {L : List (Nat × Nat)} {a b c : g_H} (h1 : g_fr L a b) (h2 : g_fr L b c) : g_fr L a c := fun j i h => (h2 j i h).trans (h1 j i h)
theorem g_fr.mono {L M : List (Nat × Nat)} {a b : g_H} (h : g_fr L a b) (hs : ∀ x, x ∈ L → x ∈ M) : g_fr M a b := fun j i hn => h j i (fun q => hn (hs _ q))
theorem g_fr.put {L : List (Nat × Nat)} {a b : g_H} {j i q : Nat} {e : va_E} (h : g_fr L a b) (hm : (j, i) ∈ L) : g_fr L a (gput b j i q e) := by
  intro j' i' hn
  have h1 : ¬ (j' = j ∧ i' = i) := fun z => hn (by rw [z.1, z.2]; exact hm)
  unfold gput
  rw [gset_ne b _ h1]
  exact h j' i' hn
theorem g_fr.at {L : List (Nat × Nat)} {a b : g_H} {j i q : Nat} {e : va_E} (h : g_fr L a b) (hn : (j, i) ∉ L) (hq : a j i q = some e) : b j i q = some e := by rw [h j i hn]; exact hq
def lkN (k n : Nat) (na : Nat → Nat) : Value := if k + 1 < n then .ref (na (k + 1)) else .null
def lkP (k : Nat) (na : Nat → Nat) : Value := if k = 0 then .null else .ref (na (k - 1))
def lkF (n : Nat) (na : Nat → Nat) : Value := if n = 0 then .null else .ref (na 0)
def lkL (n : Nat) (na : Nat → Nat) : Value := if n = 0 then .null else .ref (na (n - 1))
/-- a LinkedList at q of part j, its nodes in part jn: n of them, at na 0 .., their items it 0 .. -/
def g_LL (ph : g_H) (j i q jn n : Nat) (na it : Nat → Nat) (mc : Int32) : Prop := ph j i q = some (.inr (24, [.int mc, .int (nI n), lkF n na, lkL n na])) ∧ (∀ k, k < n → ph jn i (na k) = some (.inr (27, [.ref (it k), lkN k n na, lkP k na]))) ∧ ∀ k k', k < n → k' < n → na k = na k' → k = k'
theorem va_up_s {α : Type} (f : Nat → α) (k : Nat) (x : α) : va_up f k x k = x := if_pos rfl
theorem va_up_n {α : Type} {f : Nat → α} {k j : Nat} {x : α} (h : j ≠ k) : va_up f k x j = f j := if_neg h
theorem ll_add {ph ph' : g_H} {j i q jn n v q' : Nat} {na it : Nat → Nat} {mc : Int32} (h : g_LL ph j i q jn n na it mc)
    (h1 : ph' j i q = some (.inr (24, [.int (mc + 1), .int (nI n + 1), lkF (n + 1) (va_up na n q'), .ref q'])))
    (h2 : ph' jn i q' = some (.inr (27, [.ref v, .null, lkL n na])))
    (h3 : 0 < n → ph' jn i (na (n - 1)) = some (.inr (27, [.ref (it (n - 1)), .ref q', lkP (n - 1) na])))
    (h4 : ∀ a, a ≠ q' → (0 < n → a ≠ na (n - 1)) → ph' jn i a = ph jn i a)
    (h5 : ∀ k, k < n → na k ≠ q') : g_LL ph' j i q jn (n + 1) (va_up na n q') (va_up it n v) (mc + 1) := by
  obtain ⟨a1, a2, a3⟩ := h
  refine ⟨?_, fun k hk => ?_, fun k k' hk hk' e => ?_⟩
  · rw [h1, nI_1]
    unfold lkL
    rw [if_neg (Nat.succ_ne_zero n), Nat.add_sub_cancel, va_up_s]
  · by_cases e : k = n
    · subst e
      rw [va_up_s, va_up_s, h2]
      unfold lkN lkL lkP
      rw [if_neg (show ¬ k + 1 < k + 1 by omega)]
      by_cases e0 : k = 0
      · rw [if_pos e0, if_pos e0]
      · rw [if_neg e0, if_neg e0, va_up_n (by omega)]
    · have hk : k < n := by omega
      rw [va_up_n e, va_up_n e]
      have hp : lkP k (va_up na n q') = lkP k na := by
        unfold lkP
        by_cases e0 : k = 0
        · rw [if_pos e0, if_pos e0]
        · rw [if_neg e0, if_neg e0, va_up_n (by omega)]
      rw [hp]
      by_cases e1 : k + 1 = n
      · have e2 : k = n - 1 := by omega
        rw [e2, h3 (by omega)]
        unfold lkN
        rw [if_pos (by omega), show n - 1 + 1 = n by omega, va_up_s]
      · have e2 : lkN k (n + 1) (va_up na n q') = lkN k n na := by
          unfold lkN
          rw [if_pos (by omega), if_pos (by omega), va_up_n (by omega)]
        rw [e2, h4 (na k) (h5 k hk) (fun _ z => by have := a3 k (n - 1) hk (by omega) z; omega)]
        exact a2 k hk
  · by_cases e1 : k = n
    · subst e1
      rw [va_up_s] at e
      by_cases e2 : k' = k
      · exact e2.symm
      · rw [va_up_n e2] at e
        exact absurd e.symm (h5 k' (by omega))
    · rw [va_up_n e1] at e
      by_cases e2 : k' = n
      · subst e2
        rw [va_up_s] at e
        exact absurd e (h5 k (by omega))
      · rw [va_up_n e2] at e
        exact a3 k k' (by omega) (by omega) e
theorem ll_del0 {ph ph' : g_H} {j i q jn n : Nat} {na it : Nat → Nat} {mc : Int32} (h : g_LL ph j i q jn (n + 1) na it mc)
    (h1 : ph' j i q = some (.inr (24, [.int (mc + 1), .int (nI (n + 1) - 1), lkF n (fun k => na (k + 1)), lkL n (fun k => na (k + 1))])))
    (h3 : 0 < n → ph' jn i (na 1) = some (.inr (27, [.ref (it 1), lkN 1 (n + 1) na, .null])))
    (h4 : ∀ a, a ≠ na 0 → (0 < n → a ≠ na 1) → ph' jn i a = ph jn i a) : g_LL ph' j i q jn n (fun k => na (k + 1)) (fun k => it (k + 1)) (mc + 1) := by
  obtain ⟨a1, a2, a3⟩ := h
  refine ⟨?_, fun k hk => ?_, fun k k' hk hk' e => ?_⟩
  · rw [h1, nI_pred]
  · show ph' jn i (na (k + 1)) = some (.inr (27, [.ref (it (k + 1)), lkN k n (fun k => na (k + 1)), lkP k (fun k => na (k + 1))]))
    have hN : lkN k n (fun k => na (k + 1)) = lkN (k + 1) (n + 1) na := by
      unfold lkN
      by_cases e : k + 1 < n
      · rw [if_pos e, if_pos (by omega)]
      · rw [if_neg e, if_neg (by omega)]
    rw [hN]
    cases k with
    | zero => exact h3 hk
    | succ k =>
      rw [h4 (na (k + 1 + 1)) (fun z => by have := a3 _ _ (by omega) (by omega) z; omega) (fun _ z => by have := a3 _ _ (by omega) (by omega) z; omega)]
      exact a2 (k + 1 + 1) (by omega)
  · have := a3 (k + 1) (k' + 1) (by omega) (by omega) e
    omega
/-- without the place k -/
def delN (f : Nat → Nat) (k : Nat) : Nat → Nat := fun j => if j < k then f j else f (j + 1)
theorem delN_lt {f : Nat → Nat} {k j : Nat} (h : j < k) : delN f k j = f j := if_pos h
theorem delN_ge {f : Nat → Nat} {k j : Nat} (h : k ≤ j) : delN f k j = f (j + 1) := if_neg (by omega)
theorem ll_del {ph ph' : g_H} {j i q jn n k : Nat} {na it : Nat → Nat} {mc : Int32} (h : g_LL ph j i q jn (n + 1) na it mc) (hk : k ≤ n)
    (h1 : ph' j i q = some (.inr (24, [.int (mc + 1), .int (nI (n + 1) - 1), lkF n (delN na k), lkL n (delN na k)])))
    (hp : 0 < k → ph' jn i (na (k - 1)) = some (.inr (27, [.ref (it (k - 1)), lkN k (n + 1) na, lkP (k - 1) na])))
    (hn : k < n → ph' jn i (na (k + 1)) = some (.inr (27, [.ref (it (k + 1)), lkN (k + 1) (n + 1) na, lkP k na])))
    (h4 : ∀ a, a ≠ na k → (0 < k → a ≠ na (k - 1)) → (k < n → a ≠ na (k + 1)) → ph' jn i a = ph jn i a) : g_LL ph' j i q jn n (delN na k) (delN it k) (mc + 1) := by
  obtain ⟨a1, a2, a3⟩ := h
  refine ⟨?_, fun x hx => ?_, fun x y hx hy e => ?_⟩
  · rw [h1, nI_pred]
  · by_cases e1 : x < k
    · rw [delN_lt e1, delN_lt e1]
      have hP : lkP x (delN na k) = lkP x na := by
        unfold lkP
        by_cases e : x = 0
        · rw [if_pos e, if_pos e]
        · rw [if_neg e, if_neg e, delN_lt (by omega)]
      by_cases e2 : x + 1 = k
      · have e3 : x = k - 1 := by omega
        have hN : lkN x n (delN na k) = lkN k (n + 1) na := by
          unfold lkN
          rw [e2]
          by_cases e : k < n
          · rw [if_pos e, if_pos (by omega), delN_ge (Nat.le_refl _)]
          · rw [if_neg e, if_neg (by omega)]
        rw [hP, hN, e3, hp (by omega)]
      · have hN : lkN x n (delN na k) = lkN x (n + 1) na := by
          unfold lkN
          rw [if_pos (by omega), if_pos (by omega), delN_lt (by omega)]
        rw [hP, hN, h4 (na x) (fun z => by have := a3 _ _ (by omega) (by omega) z; omega) (fun _ z => by have := a3 _ _ (by omega) (by omega) z; omega) (fun _ z => by have := a3 _ _ (by omega) (by omega) z; omega)]
        exact a2 x (by omega)
    · rw [delN_ge (by omega), delN_ge (by omega)]
      have hN : lkN x n (delN na k) = lkN (x + 1) (n + 1) na := by
        unfold lkN
        by_cases e : x + 1 < n
        · rw [if_pos e, if_pos (by omega), delN_ge (by omega)]
        · rw [if_neg e, if_neg (by omega)]
      by_cases e2 : x = k
      · subst e2
        have hP : lkP x (delN na x) = lkP x na := by
          unfold lkP
          by_cases e : x = 0
          · rw [if_pos e, if_pos e]
          · rw [if_neg e, if_neg e, delN_lt (by omega)]
        rw [hN, hP, hn hx]
      · have hP : lkP x (delN na k) = lkP (x + 1) na := by
          unfold lkP
          rw [if_neg (by omega), if_neg (by omega), delN_ge (by omega), show x - 1 + 1 = x + 1 - 1 by omega]
        rw [hN, hP, h4 (na (x + 1)) (fun z => by have := a3 _ _ (by omega) (by omega) z; omega) (fun _ z => by have := a3 _ _ (by omega) (by omega) z; omega) (fun _ z => by have := a3 _ _ (by omega) (by omega) z; omega)]
        exact a2 (x + 1) (by omega)
  · have hd : ∀ z, z < n → ∃ z', z' < n + 1 ∧ delN na k z = na z' ∧ (z < k → z' = z) ∧ (k ≤ z → z' = z + 1) := by
      intro z hz
      by_cases e : z < k
      · exact ⟨z, by omega, delN_lt e, fun _ => rfl, fun q => by omega⟩
      · exact ⟨z + 1, by omega, delN_ge (by omega), fun q => by omega, fun _ => rfl⟩
    obtain ⟨x', b1, b2, b3, b4⟩ := hd x hx
    obtain ⟨y', c1, c2, c3, c4⟩ := hd y hy
    rw [b2, c2] at e
    have := a3 x' y' b1 c1 e
    by_cases e1 : x < k
    · by_cases e2 : y < k
      · have := b3 e1; have := c3 e2; omega
      · have := b3 e1; have := c4 (by omega); omega
    · by_cases e2 : y < k
      · have := b4 (by omega); have := c3 e2; omega
      · have := b4 (by omega); have := c4 (by omega); omega

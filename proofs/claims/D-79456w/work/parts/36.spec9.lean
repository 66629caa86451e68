/-! THE PURE PICTURE: what a plan that was read holds -/
set_option maxRecDepth 100000
theorem oset_n {g : Nat → Int32} {n j : Nat} {o : Option Int32} (h : j ≠ n) : oset g n o j = g j := by
  cases o with
  | none => rfl
  | some x => exact upd_n h
theorem rS_who {t : Nat → Int32} {L i : Nat} (h : (rS t L i).1 = true) : ((rS t L i).2.2.1 = 99 ∨ (rS t L i).2.2.1 = 117) ∨ (isSg (rS t L i).2.2.1 = true ∧ ∃ c, (rS t L i).2.2.2.1 = some c ∧ vp_in c 2) := by
  revert h
  unfold rS
  split
  · rename_i h1
    intro _
    exact Or.inl h1
  · split
    · intro h; exact absurd (show false = true from h) (by decide)
    · rename_i h2
      have hc : vp_in (nx t L i - 48) 2 := by
        by_cases e : nx t L i = 48
        · rw [e]; exact vp_lit (by decide)
        · by_cases e2 : nx t L i = 49
          · rw [e2]; exact vp_lit (by decide)
          · exact absurd ⟨e, e2⟩ h2
      split
      · intro h; exact absurd (show false = true from h) (by decide)
      · rename_i h3
        have h3 := Bool.of_not_eq_false h3
        split
        · intro _; exact Or.inr ⟨h3, _, rfl, hc⟩
        · split
          · intro _; exact Or.inr ⟨h3, _, rfl, hc⟩
          · intro _; exact Or.inr ⟨h3, _, rfl, hc⟩
def okSs (S : m_rd) : Prop := ∀ j, j < S.2.1 → okR (S.2.2.1 j) (S.2.2.2.1 j)
theorem rd1_st {t : Nat → Int32} {L : Nat} {S : m_rd} (h : okSs S) : okSs (rd1 t L S) := by
  have ho : ∀ j, j < S.2.1 → okR ((rd1 t L S).2.2.1 j) ((rd1 t L S).2.2.2.1 j) := by
    intro j hj
    show okR (upd S.2.2.1 S.2.1 (rS t L S.1).2.2.1 j) (oset S.2.2.2.1 S.2.1 (rS t L S.1).2.2.2.1 j)
    rw [upd_n (by omega), oset_n (by omega)]
    exact h j hj
  intro j hj
  have hj : j < (if (rS t L S.1).1 = true then S.2.1 + 1 else S.2.1) := hj
  by_cases hb : (rS t L S.1).1 = true
  · rw [if_pos hb] at hj
    by_cases e : j = S.2.1
    · subst e
      show okR (upd S.2.2.1 S.2.1 (rS t L S.1).2.2.1 S.2.1) (oset S.2.2.2.1 S.2.1 (rS t L S.1).2.2.2.1 S.2.1)
      rw [upd_s]
      rcases rS_who hb with q | ⟨q1, c, q2, q3⟩
      · exact Or.inl q
      · refine Or.inr ⟨?_, q1⟩
        rw [q2]
        show vp_in (upd _ _ _ _) 2
        rw [upd_s]
        exact q3
    · exact ho j (by omega)
  · rw [if_neg hb] at hj
    exact ho j hj
theorem rdF_st {t : Nat → Int32} {L : Nat} : ∀ (d : Nat) (S : m_rd), okSs S → okSs (rdF t L d S).2 := by
  intro d
  induction d with
  | zero => intro S h; exact h
  | succ d ih =>
    intro S h
    have h1 := rd1_st (t := t) (L := L) h
    unfold rdF
    split
    · exact ih _ h1
    · exact h1
theorem rdF_n {t : Nat → Int32} {L : Nat} : ∀ (d : Nat) (S : m_rd), S.1 ≤ L → 2 * S.2.1 ≤ S.1 → (rdF t L d S).2.1 ≤ L ∧ 2 * (rdF t L d S).2.2.1 ≤ (rdF t L d S).2.1 + 1 := by
  intro d
  induction d with
  | zero => intro S h1 h2; exact ⟨h1, by show 2 * S.2.1 ≤ S.1 + 1; omega⟩
  | succ d ih =>
    intro S h1 h2
    obtain ⟨a1, a2, a3⟩ := rd1_ok (t := t) h1 h2
    unfold rdF
    split
    · rename_i hc
      have := nx_c hc.2 (by decide)
      exact ih _ this a2
    · exact ⟨a1, a2⟩
theorem rdR_ok {f : Nat → Int32} {a : Nat → Nat → Int32} (h : okL f) : (rdR f a).1 ≤ 60 ∧ (rdR f a).2.1 ≤ 30 ∧ okSs (rdR f a) := by
  obtain ⟨h1, h2⟩ := rdF_n (t := a 21) (L := tL f) (tL f + 1) (0, 0, a 22, a 23, a 24) (Nat.zero_le _) (Nat.le_refl _)
  have h3 := rdF_st (t := a 21) (L := tL f) (tL f + 1) (0, 0, a 22, a 23, a 24) (fun j hj => absurd hj (Nat.not_lt_zero _))
  have h4 := h.2
  have h1 : (rdR f a).1 ≤ tL f := h1
  have h2 : 2 * (rdR f a).2.1 ≤ (rdR f a).1 + 1 := h2
  exact ⟨by omega, by omega, h3⟩
theorem rdW_13 {f : Nat → Int32} {a : Nat → Nat → Int32} : rdW f a 13 = f 13 := by
  unfold rdW rd0
  split <;> simp [upd]
theorem rdW_27 {f : Nat → Int32} {a : Nat → Nat → Int32} : rdW f a 27 = nI (rdR f a).2.1 := by
  unfold rdW rd0
  split <;> simp [upd]
/-- the arrays when a plan was read and the wall noted -/
def rdA (f : Nat → Int32) (a : Nat → Nat → Int32) : Nat → Nat → Int32 := va_up (va_up (va_up a 22 (rdR f a).2.2.1) 23 (rdR f a).2.2.2.1) 24 (rdR f a).2.2.2.2
def ntA (a : Nat → Nat → Int32) : Nat → Nat → Int32 := va_up a 8 (va_cpy (a 5) (a 8) 0 0 170)
theorem rd_okG {f g : Nat → Int32} {a : Nat → Nat → Int32} (h : okL f) (hC : f 13 = nI (nCr f)) (h9 : nCr f ≤ 9) (h13 : g 13 = rdW f a 13) (h27 : g 27 = rdW f a 27) : okG g (ntA (rdA f a)) := by
  rw [rdW_13] at h13
  rw [rdW_27] at h27
  obtain ⟨a1, a2, a3⟩ := rdR_ok (a := a) h
  have e1 : nCr g = nCr f := by unfold nCr; rw [h13]
  have e2 : tS g = (rdR f a).2.1 := by unfold tS; rw [h27]; exact nI_clamp (by omega)
  refine ⟨⟨by rw [e1, h13]; exact hC, by rw [e1]; exact h9⟩, ⟨by rw [e2]; exact h27, by rw [e2]; exact a2⟩, fun j hj => ?_⟩
  rw [e2] at hj
  exact a3 j hj
def goF (g : Nat → Int32) (G : m_go) : Nat → Int32 := F4 g G.2.2.2 (nI G.2.2.1.2.2) G.2.1
def trA (f : Nat → Int32) (a : Nat → Nat → Int32) (G : m_go) : Nat → Nat → Int32 := va_up (va_up (ntA (rdA f a)) 12 G.2.2.1.2.1) 5 (va_cpy (ntA (rdA f a) 8) G.2.2.1.1 0 0 170)
def ruA (f : Nat → Int32) (a : Nat → Nat → Int32) (G : m_go) : Nat → Nat → Int32 := va_up (va_up (va_up (ntA (rdA f a)) 12 G.2.2.1.2.1) 5 G.2.2.1.1) 6 (va_cpy (ntA (rdA f a) 8) (ntA (rdA f a) 6) 0 (170 * rSl (upd (goF (rdW f a) G) 0 0)) 170)
theorem rdW_n {f : Nat → Int32} {a : Nat → Nat → Int32} {j : Nat} (h : ¬ j = 25 ∧ ¬ j = 26 ∧ ¬ j = 27 ∧ ¬ j = 28) : rdW f a j = f j := by
  unfold rdW rd0
  split <;> simp [upd, h]
theorem okU_eq {f g : Nat → Int32} (h9 : g 9 = f 9) (h10 : g 10 = f 10) (h : okU f) : okU g := by
  unfold okU rC rF at h ⊢
  rw [h9, h10]
  exact h
theorem okU_go {f : Nat → Int32} {a : Nat → Nat → Int32} {G : m_go} (h : okU f) : okU (upd (goF (rdW f a) G) 0 0) := by
  refine okU_eq ?_ ?_ h
  · show rdW f a 9 = f 9
    exact rdW_n (by decide)
  · show rdW f a 10 = f 10
    exact rdW_n (by decide)

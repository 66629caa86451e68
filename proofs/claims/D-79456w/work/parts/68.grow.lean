/-! A WALL GROWS: a hold, a lamp, an anchor more; the same wall by other addresses and rows -/
set_option maxRecDepth 100000
section GG
variable {Γ : g_C} {ph : g_H} {i : Nat} {ad na : Nat → Nat} {mc : Nat → Int32} {w : m_w}
theorem rfs_eq {n : Nat} {f g : Nat → Nat} (h : ∀ k, k < n → g k = f k) : rfs n g = rfs n f := by
  funext k
  unfold rfs
  by_cases e : k < n
  · rw [if_pos e, if_pos e, h k e]
  · rw [if_neg e, if_neg e]
theorem rfs_up {n q : Nat} {f g : Nat → Nat} (h : ∀ k, k < n → g k = f k) (hq : g n = q) : va_up (rfs n f) n (some q) = rfs (n + 1) g := by
  funext k
  unfold va_up rfs
  by_cases e : k = n
  · rw [if_pos e, if_pos (by omega), e, hq]
  · rw [if_neg e]
    by_cases z : k < n
    · rw [if_pos z, if_pos (by omega), h k z]
    · rw [if_neg z, if_neg (by omega)]
/-- other addresses, the same where they are looked at -/
theorem g_Wl.adX (h : g_Wl Γ ph i ad na mc w) {ad' : Nat → Nat} (h0 : ∀ t, t < 20 → ad' t = ad t) (h1 : ∀ k, k < nLa w → ad' (20 + k) = ad (20 + k)) (h2 : ∀ k, k < nN w → ad' (30 + k) = ad (30 + k)) : g_Wl Γ ph i ad' na mc w := by
  obtain ⟨h3, ⟨a1, ⟨a2, a3⟩, ⟨a4, a5⟩, ⟨a6, a7, a8⟩, a9, a10, a11⟩, a12⟩ := h
  have ew : wlE ad' w = wlE ad w := by
    unfold wlE
    rw [h0 1 (by decide), h0 3 (by decide), h0 5 (by decide), h0 6 (by decide), h0 7 (by decide), h0 8 (by decide)]
  refine ⟨h3, ⟨by rw [h0 0 (by decide), ew]; exact a1, ⟨by rw [h0 1 (by decide), h0 2 (by decide)]; exact a2, by rw [h0 2 (by decide), rfs_eq (f := fun k => ad (30 + k)) h2]; exact a3⟩, ⟨by rw [h0 3 (by decide), h0 4 (by decide)]; exact a4, by rw [h0 4 (by decide), rfs_eq (f := fun k => ad (20 + k)) h1]; exact a5⟩, ⟨by rw [h0 6 (by decide), h0 10 (by decide), h0 11 (by decide)]; exact a6, by rw [h0 7 (by decide)]; exact a7, by rw [h0 8 (by decide)]; exact a8⟩, fun c hc => by rw [h0 _ (by omega)]; exact a9 c hc, fun k hk => by rw [h1 k hk]; exact a10 k hk, fun k hk => by rw [h2 k hk]; exact a11 k hk⟩, by rw [h0 5 (by decide)]; exact a12⟩
/-- other rows, the same where a wall looks -/
theorem g_Wl.rowU (h : g_Wl Γ ph i ad na mc w) {w' : m_w} (ea : ∀ j, j = 0 ∨ (101 ≤ j ∧ j ≤ 104) ∨ (125 ≤ j ∧ j ≤ 131) ∨ (140 ≤ j ∧ j < 162) → w' j = w j) (eh : ∀ k, k < nN w → ∀ t, t < 5 → w' (1 + 5 * k + t) = w (1 + 5 * k + t)) (el : ∀ k, k < nLa w → ∀ t, t < 5 → w' (105 + 5 * k + t) = w (105 + 5 * k + t)) (en : ∀ k, k < nAn w → w' (132 + k) = w (132 + k)) : g_Wl Γ ph i ad na mc w' := by
  obtain ⟨h0, ⟨h1, ⟨h2, h3⟩, ⟨h4, h5⟩, ⟨h6, h7, h8⟩, h9, h10, h11⟩, h12⟩ := h
  have nn : nN w' = nN w := nN_eq (ea _ (by omega))
  have nl : nLa w' = nLa w := nLa_eq (ea _ (by omega))
  have nan : nAn w' = nAn w := nAn_eq (ea _ (by omega))
  refine ⟨h0, ⟨by rw [wlE_eq (fun j hj => ea j (by omega))]; exact h1, ⟨by rw [ea 0 (by omega)]; exact h2, by rw [nn]; exact h3⟩, ⟨by rw [ea 104 (by omega)]; exact h4, by rw [nl]; exact h5⟩, ⟨h6, h7, by rw [foF_eq (fun j h1 h2 => ea j (by omega))]; exact h8⟩, fun c hc => by rw [clW_eq (fun t ht => ea _ (by omega))]; exact h9 c hc, fun k hk => ?_, fun k hk => ?_⟩, ?_⟩
  · rw [nl] at hk
    rw [laW_eq (fun t ht => el k hk t ht)]; exact h10 k hk
  · rw [nn] at hk
    rw [hoW_eq (fun t ht => eh k hk t ht)]; exact h11 k hk
  · rw [nan]
    exact h12.move (fun _ => rfl) (fun _ => rfl) (fun k hk => by unfold anI; rw [en k hk])
theorem nN_of {w : m_w} {n : Nat} (h : w 0 = nI n) (hn : n < 2 ^ 31) : nN w = n := by
  show (w 0).toNatClampNeg = n
  rw [h]; exact nI_clamp hn
theorem nLa_of {w : m_w} {n : Nat} (h : w 104 = nI n) (hn : n < 2 ^ 31) : nLa w = n := by
  show (w 104).toNatClampNeg = n
  rw [h]; exact nI_clamp hn
theorem nAn_of {w : m_w} {n : Nat} (h : w 131 = nI n) (hn : n < 2 ^ 31) : nAn w = n := by
  show (w 131).toNatClampNeg = n
  rw [h]; exact nI_clamp hn
/-- a hold more -/
theorem g_Wl.addH (h : g_Wl Γ ph i ad na mc w) {n q : Nat} {ph' : g_H} {m1 : Int32} {w' : m_w} (hn : nN w = n) (hn20 : n < 20) (hl4 : nLa w ≤ 4) (ha8 : nAn w ≤ 8) (e0 : w' 0 = nI (n + 1))
    (hl : ph' 101 i (ad 1) = some (.inr (21, [.int m1, .ref (ad 2), .int (nI (n + 1))]))) (hd : ph' 102 i (ad 2) = some (.inl (g_t Γ 7, 20, .inr (.inr (.inr (.inr (va_up (rfs n (fun k => ad (30 + k))) n (some q))))))))
    (hq : ph' (130 + n) i q = some (hoW w' n)) (hf : ∀ j, 100 ≤ j → j ≠ 101 → j ≠ 102 → j ≠ 130 + n → ph' j i = ph j i) (he : ∀ j, j ≠ 0 → (j < 1 + 5 * n ∨ 6 + 5 * n ≤ j) → w' j = w j) : g_Wl Γ ph' i (fun t => if t = 30 + n then q else ad t) na (fun t => if t = 1 then m1 else mc t) w' := by
  have nn : nN w' = n + 1 := nN_of e0 (by omega)
  have nl : nLa w' = nLa w := nLa_eq (he _ (by omega) (by omega))
  have nan : nAn w' = nAn w := nAn_eq (he _ (by omega) (by omega))
  obtain ⟨h0, ⟨h1, ⟨h2, h3⟩, ⟨h4, h5⟩, ⟨h6, h7, h8⟩, h9, h10, h11⟩, h12⟩ := h
  have A : ∀ t, t < 30 + n → (if t = 30 + n then q else ad t) = ad t := fun t ht => if_neg (by omega)
  have AD : ∀ t, t < 30 + n → (fun t => if t = 30 + n then q else ad t) t = ad t := A
  have AN : (fun t => if t = 30 + n then q else ad t) (30 + n) = q := if_pos rfl
  generalize (fun t => if t = 30 + n then q else ad t) = ad' at AD AN
  have ew : wlE ad' w' = wlE ad w := by
    rw [show wlE ad' w' = wlE ad' w from wlE_eq (fun j hj => he j (by omega) (by omega))]
    unfold wlE
    rw [AD 1 (by omega), AD 3 (by omega), AD 5 (by omega), AD 6 (by omega), AD 7 (by omega), AD 8 (by omega)]
  refine ⟨h0, ⟨?_, ⟨?_, ?_⟩, ⟨?_, ?_⟩, ⟨?_, ?_, ?_⟩, fun c hc => ?_, fun k hk => ?_, fun k hk => ?_⟩, ?_⟩
  · rw [AD 0 (by omega), ew, hf 100 (by omega) (by omega) (by omega) (by omega)]; exact h1
  · rw [AD 1 (by omega), AD 2 (by omega), e0]; exact hl
  · rw [AD 2 (by omega), nn, ← rfs_up (f := fun k => ad (30 + k)) (fun k hk => AD _ (by omega)) AN]; exact hd
  · rw [AD 3 (by omega), AD 4 (by omega), he 104 (by omega) (by omega), hf 103 (by omega) (by omega) (by omega) (by omega)]; exact h4
  · rw [AD 4 (by omega), nl, rfs_eq (f := fun k => ad (20 + k)) (fun k hk => AD _ (by omega)), hf 104 (by omega) (by omega) (by omega) (by omega)]; exact h5
  · rw [AD 6 (by omega), AD 10 (by omega), AD 11 (by omega), hf 106 (by omega) (by omega) (by omega) (by omega)]; exact h6
  · rw [AD 7 (by omega), hf 107 (by omega) (by omega) (by omega) (by omega)]; exact h7
  · rw [AD 8 (by omega), foF_eq (fun j h1 h2 => he j (by omega) (by omega)), hf 108 (by omega) (by omega) (by omega) (by omega)]; exact h8
  · rw [AD _ (by omega), clW_eq (fun t ht => he _ (by omega) (by omega)), hf _ (by omega) (by omega) (by omega) (by omega)]; exact h9 c hc
  · rw [nl] at hk
    rw [AD _ (by omega), laW_eq (fun t ht => he _ (by omega) (by omega)), hf _ (by omega) (by omega) (by omega) (by omega)]; exact h10 k hk
  · rw [nn] at hk
    by_cases e : k = n
    · subst e; rw [AN]; exact hq
    · rw [AD _ (by omega), hoW_eq (fun t ht => he _ (by omega) (by omega)), hf _ (by omega) (by omega) (by omega) (by omega)]; exact h11 k (by omega)
  · rw [nan, AD 5 (by omega)]
    exact h12.move (fun _ => by rw [hf 105 (by omega) (by omega) (by omega) (by omega)]) (fun _ => by rw [hf 200 (by omega) (by omega) (by omega) (by omega)]) (fun k hk => by unfold anI; rw [he _ (by omega) (by omega)])
/-- a lamp more -/
theorem g_Wl.addL (h : g_Wl Γ ph i ad na mc w) {n q : Nat} {ph' : g_H} {m1 : Int32} {w' : m_w} (hn : nLa w = n) (hn4 : n < 4) (hN : nN w ≤ 20) (ha8 : nAn w ≤ 8) (e0 : w' 104 = nI (n + 1))
    (hl : ph' 103 i (ad 3) = some (.inr (21, [.int m1, .ref (ad 4), .int (nI (n + 1))]))) (hd : ph' 104 i (ad 4) = some (.inl (g_t Γ 7, 4, .inr (.inr (.inr (.inr (va_up (rfs n (fun k => ad (20 + k))) n (some q))))))))
    (hq : ph' (120 + n) i q = some (laW w' n)) (hf : ∀ j, 100 ≤ j → j ≠ 103 → j ≠ 104 → j ≠ 120 + n → ph' j i = ph j i) (he : ∀ j, j ≠ 104 → (j < 105 + 5 * n ∨ 110 + 5 * n ≤ j) → w' j = w j) : g_Wl Γ ph' i (fun t => if t = 20 + n then q else ad t) na (fun t => if t = 2 then m1 else mc t) w' := by
  have nn : nLa w' = n + 1 := nLa_of e0 (by omega)
  have nl : nN w' = nN w := nN_eq (he _ (by omega) (by omega))
  have nan : nAn w' = nAn w := nAn_eq (he _ (by omega) (by omega))
  obtain ⟨h0, ⟨h1, ⟨h2, h3⟩, ⟨h4, h5⟩, ⟨h6, h7, h8⟩, h9, h10, h11⟩, h12⟩ := h
  have AD : ∀ t, t ≠ 20 + n → (fun t => if t = 20 + n then q else ad t) t = ad t := fun t ht => if_neg ht
  have AN : (fun t => if t = 20 + n then q else ad t) (20 + n) = q := if_pos rfl
  generalize (fun t => if t = 20 + n then q else ad t) = ad' at AD AN
  have ew : wlE ad' w' = wlE ad w := by
    rw [show wlE ad' w' = wlE ad' w from wlE_eq (fun j hj => he j (by omega) (by omega))]
    unfold wlE
    rw [AD 1 (by omega), AD 3 (by omega), AD 5 (by omega), AD 6 (by omega), AD 7 (by omega), AD 8 (by omega)]
  refine ⟨h0, ⟨?_, ⟨?_, ?_⟩, ⟨?_, ?_⟩, ⟨?_, ?_, ?_⟩, fun c hc => ?_, fun k hk => ?_, fun k hk => ?_⟩, ?_⟩
  · rw [AD 0 (by omega), ew, hf 100 (by omega) (by omega) (by omega) (by omega)]; exact h1
  · rw [AD 1 (by omega), AD 2 (by omega), he 0 (by omega) (by omega), hf 101 (by omega) (by omega) (by omega) (by omega)]; exact h2
  · rw [AD 2 (by omega), nl, rfs_eq (f := fun k => ad (30 + k)) (fun k hk => AD _ (by omega)), hf 102 (by omega) (by omega) (by omega) (by omega)]; exact h3
  · rw [AD 3 (by omega), AD 4 (by omega), e0]; exact hl
  · rw [AD 4 (by omega), nn, ← rfs_up (f := fun k => ad (20 + k)) (fun k hk => AD _ (by omega)) AN]; exact hd
  · rw [AD 6 (by omega), AD 10 (by omega), AD 11 (by omega), hf 106 (by omega) (by omega) (by omega) (by omega)]; exact h6
  · rw [AD 7 (by omega), hf 107 (by omega) (by omega) (by omega) (by omega)]; exact h7
  · rw [AD 8 (by omega), foF_eq (fun j h1 h2 => he j (by omega) (by omega)), hf 108 (by omega) (by omega) (by omega) (by omega)]; exact h8
  · rw [AD _ (by omega), clW_eq (fun t ht => he _ (by omega) (by omega)), hf _ (by omega) (by omega) (by omega) (by omega)]; exact h9 c hc
  · rw [nn] at hk
    by_cases e : k = n
    · subst e; rw [AN]; exact hq
    · rw [AD _ (by omega), laW_eq (fun t ht => he _ (by omega) (by omega)), hf _ (by omega) (by omega) (by omega) (by omega)]; exact h10 k (by omega)
  · rw [nl] at hk
    rw [AD _ (by omega), hoW_eq (fun t ht => he _ (by omega) (by omega)), hf _ (by omega) (by omega) (by omega) (by omega)]; exact h11 k hk
  · rw [nan, AD 5 (by omega)]
    exact h12.move (fun _ => by rw [hf 105 (by omega) (by omega) (by omega) (by omega)]) (fun _ => by rw [hf 200 (by omega) (by omega) (by omega) (by omega)]) (fun k hk => by unfold anI; rw [he _ (by omega) (by omega)])
/-- the anchors are others -/
theorem g_Wl.addA (h : g_Wl Γ ph i ad na mc w) {n : Nat} {na' it' : Nat → Nat} {ph' : g_H} {m1 : Int32} {w' : m_w} (hN : nN w ≤ 20) (hl4 : nLa w ≤ 4) (hL : g_LL ph' 105 i (ad 5) 200 n na' it' m1) (hn : nAn w' = n) (hit : ∀ k, k < n → it' k = anI Γ w' k) (hf : ∀ j, 100 ≤ j → j ≠ 105 → j ≠ 200 → ph' j i = ph j i) (he : ∀ j, j < 131 ∨ 140 ≤ j → w' j = w j) : g_Wl Γ ph' i ad na' (fun t => if t = 0 then m1 else mc t) w' := by
  have nn : nN w' = nN w := nN_eq (he _ (by omega))
  have nl : nLa w' = nLa w := nLa_eq (he _ (by omega))
  obtain ⟨h0, ⟨h1, ⟨h2, h3⟩, ⟨h4, h5⟩, ⟨h6, h7, h8⟩, h9, h10, h11⟩, h12⟩ := h
  refine ⟨h0, ⟨?_, ⟨?_, ?_⟩, ⟨?_, ?_⟩, ⟨?_, ?_, ?_⟩, fun c hc => ?_, fun k hk => ?_, fun k hk => ?_⟩, ?_⟩
  · rw [wlE_eq (fun j hj => he j (by omega)), hf 100 (by omega) (by omega) (by omega)]; exact h1
  · rw [he 0 (by omega), hf 101 (by omega) (by omega) (by omega)]; exact h2
  · rw [nn, hf 102 (by omega) (by omega) (by omega)]; exact h3
  · rw [he 104 (by omega), hf 103 (by omega) (by omega) (by omega)]; exact h4
  · rw [nl, hf 104 (by omega) (by omega) (by omega)]; exact h5
  · rw [hf 106 (by omega) (by omega) (by omega)]; exact h6
  · rw [hf 107 (by omega) (by omega) (by omega)]; exact h7
  · rw [foF_eq (fun j h1 h2 => he j (by omega)), hf 108 (by omega) (by omega) (by omega)]; exact h8
  · rw [clW_eq (fun t ht => he _ (by omega)), hf _ (by omega) (by omega) (by omega)]; exact h9 c hc
  · rw [nl] at hk
    rw [laW_eq (fun t ht => he _ (by omega)), hf _ (by omega) (by omega) (by omega)]; exact h10 k hk
  · rw [nn] at hk
    rw [hoW_eq (fun t ht => he _ (by omega)), hf _ (by omega) (by omega) (by omega)]; exact h11 k hk
  · rw [hn]
    exact hL.move (fun _ => rfl) (fun _ => rfl) (fun k hk => (hit k hk).symm)
end GG
/-- the rows of a copy in the making: nothing but the climbers; then holds, lamps, anchors -/
def v0W (w : m_w) : m_w := fun j => if 125 ≤ j ∧ j < 131 then w j else if j = 101 then 3 else if j = 102 then 21 else if j = 103 then 30 else 0
def vHW (w : m_w) (k : Nat) : m_w := fun j => if j = 0 then nI k else if 1 ≤ j ∧ j < 1 + 5 * k then w j else v0W w j
def vLW (w : m_w) (k : Nat) : m_w := fun j => if j = 104 then nI k else if 105 ≤ j ∧ j < 105 + 5 * k then w j else vHW w (nN w) j
def vAW (w : m_w) (k : Nat) : m_w := fun j => if j = 131 then nI k else if 132 ≤ j ∧ j < 132 + k then w j else vLW w (nLa w) j
theorem vHW_s {w : m_w} {k j : Nat} (hj : j ≠ 0) (h : j < 1 + 5 * k ∨ 6 + 5 * k ≤ j) : vHW w (k + 1) j = vHW w k j := by
  unfold vHW
  rw [if_neg hj, if_neg hj]
  by_cases e : 1 ≤ j ∧ j < 1 + 5 * k
  · rw [if_pos e, if_pos (by omega)]
  · rw [if_neg e, if_neg (by omega)]
theorem vHW_h {w : m_w} {k : Nat} : hoW (vHW w (k + 1)) k = hoW w k := hoW_eq (fun t ht => by unfold vHW; rw [if_neg (by omega), if_pos (by omega)])
theorem vHW_n {w : m_w} {k j : Nat} (h0 : j ≠ 0) (h : 101 ≤ j) (hk : k ≤ 20) : vHW w k j = v0W w j := by
  unfold vHW
  rw [if_neg h0, if_neg (by omega)]
theorem vLW_s {w : m_w} {k j : Nat} (hj : j ≠ 104) (h : j < 105 + 5 * k ∨ 110 + 5 * k ≤ j) : vLW w (k + 1) j = vLW w k j := by
  unfold vLW
  rw [if_neg hj, if_neg hj]
  by_cases e : 105 ≤ j ∧ j < 105 + 5 * k
  · rw [if_pos e, if_pos (by omega)]
  · rw [if_neg e, if_neg (by omega)]
theorem vLW_h {w : m_w} {k : Nat} : laW (vLW w (k + 1)) k = laW w k := laW_eq (fun t ht => by unfold vLW; rw [if_neg (by omega), if_pos (by omega)])
theorem vAW_s {w : m_w} {k j : Nat} (h : j < 131 ∨ 140 ≤ j) (hk : k < 8) : vAW w (k + 1) j = vAW w k j := by
  unfold vAW
  rw [if_neg (by omega), if_neg (by omega), if_neg (by omega), if_neg (by omega)]
theorem v_00 {w : m_w} : vHW w 0 = v0W w := by
  funext j
  unfold vHW
  by_cases e : j = 0
  · rw [if_pos e, e]; rfl
  · rw [if_neg e, if_neg (by omega)]
theorem v_l0 {w : m_w} (hN : nN w ≤ 20) : vLW w 0 = vHW w (nN w) := by
  funext j
  unfold vLW
  by_cases e : j = 104
  · rw [if_pos e, e, vHW_n (by decide) (by decide) hN]; rfl
  · rw [if_neg e, if_neg (by omega)]
theorem vLW_n {w : m_w} {k j : Nat} (h : j < 104 ∨ 125 ≤ j) (hk : k ≤ 4) : vLW w k j = vHW w (nN w) j := by
  unfold vLW
  rw [if_neg (by omega), if_neg (by omega)]
theorem v_a0 {w : m_w} (hN : nN w ≤ 20) (hL : nLa w ≤ 4) : vAW w 0 = vLW w (nLa w) := by
  funext j
  unfold vAW
  by_cases e : j = 131
  · rw [if_pos e, e, vLW_n (by decide) hL, vHW_n (by decide) (by decide) hN]; rfl
  · rw [if_neg e, if_neg (by omega)]
theorem vAW_n {w : m_w} {k j : Nat} (h : j < 131 ∨ 140 ≤ j) (hk : k ≤ 8) : vAW w k j = vLW w (nLa w) j := by
  unfold vAW
  rw [if_neg (by omega), if_neg (by omega)]
/-- what the copy's row has where the wall looks, but for forces and counts -/
theorem vA_e {w : m_w} (hw : WF w) : (∀ j, j = 0 ∨ j = 104 ∨ (125 ≤ j ∧ j ≤ 131) → vAW w (nAn w) j = w j) ∧ (∀ k, k < nN w → ∀ t, t < 5 → vAW w (nAn w) (1 + 5 * k + t) = w (1 + 5 * k + t)) ∧ (∀ k, k < nLa w → ∀ t, t < 5 → vAW w (nAn w) (105 + 5 * k + t) = w (105 + 5 * k + t)) ∧ (∀ k, k < nAn w → vAW w (nAn w) (132 + k) = w (132 + k)) := by
  have b1 := hw.1.2; have b2 := hw.2.1.2; have b3 := hw.2.2.1.2
  refine ⟨fun j hj => ?_, fun k hk t ht => ?_, fun k hk t ht => ?_, fun k hk => ?_⟩
  · by_cases e : j = 131
    · subst e; exact hw.2.2.1.1.symm
    · rw [vAW_n (by omega) b3]
      by_cases e4 : j = 104
      · subst e4; exact hw.2.1.1.symm
      · rw [vLW_n (by omega) b2]
        by_cases e0 : j = 0
        · subst e0; exact hw.1.1.symm
        · rw [vHW_n e0 (by omega) b1]
          unfold v0W
          rw [if_pos (by omega)]
  · rw [vAW_n (by omega) b3, vLW_n (by omega) b2]
    unfold vHW
    rw [if_neg (by omega), if_pos (by omega)]
  · rw [vAW_n (by omega) b3]
    unfold vLW
    rw [if_neg (by omega), if_pos (by omega)]
  · unfold vAW
    rw [if_neg (by omega), if_pos (by omega)]
theorem vA_145 {w : m_w} (hw : WF w) {j : Nat} (h : 140 ≤ j) : vAW w (nAn w) j = 0 := by
  have b1 := hw.1.2; have b2 := hw.2.1.2; have b3 := hw.2.2.1.2
  rw [vAW_n (by omega) b3, vLW_n (by omega) b2, vHW_n (by omega) (by omega) b1]
  unfold v0W
  rw [if_neg (by omega), if_neg (by omega), if_neg (by omega), if_neg (by omega)]
/-- as well formed as the wall it is of -/
theorem WF.like {w w' : m_w} (hw : WF w) (ea : ∀ j, j = 0 ∨ j = 104 ∨ (125 ≤ j ∧ j ≤ 131) → w' j = w j) (eh : ∀ k, k < nN w → ∀ t, t < 5 → w' (1 + 5 * k + t) = w (1 + 5 * k + t)) (el : ∀ k, k < nLa w → ∀ t, t < 5 → w' (105 + 5 * k + t) = w (105 + 5 * k + t)) (en : ∀ k, k < nAn w → w' (132 + k) = w (132 + k)) (h145 : ∃ n, n ≤ 16 ∧ w' 145 = nI n) : WF w' := by
  have nn : nN w' = nN w := nN_eq (ea _ (by omega))
  have nl : nLa w' = nLa w := nLa_eq (ea _ (by omega))
  have nan : nAn w' = nAn w := nAn_eq (ea _ (by omega))
  obtain ⟨a1, a2, a3, a4, a5, a6, a7, a8⟩ := hw
  have hok : ∀ p, okP w p → okP w' p := fun p h => by unfold okP at h ⊢; rw [nn]; exact h
  obtain ⟨n, n1, n2⟩ := h145
  have nf : nFo w' = n := by show (w' 145).toNatClampNeg = n; rw [n2]; exact nI_clamp (by omega)
  refine ⟨⟨by rw [ea 0 (by omega), nn]; exact a1.1, by rw [nn]; exact a1.2⟩, ⟨by rw [ea 104 (by omega), nl]; exact a2.1, by rw [nl]; exact a2.2⟩, ⟨by rw [ea 131 (by omega), nan]; exact a3.1, by rw [nan]; exact a3.2⟩, ⟨by rw [n2, nf], by rw [nf]; exact n1⟩, fun k hk => ?_, ?_, fun k hk => ?_, fun k hk => ?_⟩
  · rw [nn] at hk
    have e := eh k hk
    have z := a5 k hk
    unfold okHold at z ⊢
    rw [show w' (1 + 5 * k) = w (1 + 5 * k) from e 0 (by omega), e 1 (by omega), e 2 (by omega)]
    exact z
  · have hc : ∀ c, c < 2 → okCl w c → okCl w' c := fun c hc h => by
      unfold okCl at h ⊢
      rw [show w' (125 + 3 * c) = w (125 + 3 * c) from ea _ (by omega), ea (125 + 3 * c + 1) (by omega), ea (125 + 3 * c + 2) (by omega)]
      exact ⟨hok _ h.1, h.2⟩
    exact ⟨hc 0 (by decide) a6.1, hc 1 (by decide) a6.2⟩
  · rw [nl] at hk
    have e := el k hk
    have z := a7 k hk
    unfold okLa at z ⊢
    rw [show w' (105 + 5 * k) = w (105 + 5 * k) from e 0 (by omega), e 1 (by omega), e 4 (by omega)]
    exact ⟨hok _ z.1, z.2⟩
  · rw [nan] at hk
    rw [en k hk, nn]
    exact a8 k hk

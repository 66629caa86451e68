/-! THE WALL: what changes it -/
set_option maxRecDepth 100000
theorem upd_same {w : m_w} {i : Nat} {v : Int32} (h : w i = v) : upd w i v = w := by
  funext j
  unfold upd
  by_cases e : j = i
  · rw [if_pos e, e, h]
  · rw [if_neg e]
theorem ll_first {ph : g_H} {j i q jn n : Nat} {na it : Nat → Nat} {mc : Int32} (h : g_LL ph j i q jn n na it mc) (hn : ¬ n = 0) : ph j i q = some (.inr (24, [.int mc, .int (nI n), .ref (na 0), lkL n na])) ∧ ph jn i (na 0) = some (.inr (27, [.ref (it 0), lkN 0 n na, lkP 0 na])) :=
  ⟨by have z := h.1; rw [show lkF n na = .ref (na 0) from if_neg hn] at z; exact z, h.2.1 0 (by omega)⟩
theorem ll_last {ph : g_H} {j i q jn n : Nat} {na it : Nat → Nat} {mc : Int32} (h : g_LL ph j i q jn n na it mc) (hn : ¬ n = 0) : ph j i q = some (.inr (24, [.int mc, .int (nI n), lkF n na, .ref (na (n - 1))])) ∧ ph jn i (na (n - 1)) = some (.inr (27, [.ref (it (n - 1)), lkN (n - 1) n na, lkP (n - 1) na])) :=
  ⟨by have z := h.1; rw [show lkL n na = .ref (na (n - 1)) from if_neg hn] at z; exact z, h.2.1 (n - 1) (by omega)⟩
theorem a131 {w : m_w} (hw : WF w) : (w 131 - 1 < 0) ↔ nAn w = 0 := by
  have h8 := hw.2.2.1.2
  rw [hw.2.2.1.1]
  cases hn : nAn w with
  | zero => decide
  | succ n =>
    rw [nI_pred]
    constructor
    · intro z; exact absurd z (Int32.not_lt.mpr (nI_nn (by omega)))
    · intro z; omega
theorem a131_8 {w : m_w} (hw : WF w) : (w 131 - 1 = 7) ↔ nAn w = 8 := by
  have h8 := hw.2.2.1.2
  rw [hw.2.2.1.1]
  cases hn : nAn w with
  | zero => decide
  | succ n =>
    rw [nI_pred]
    constructor
    · intro z; have := nI_inj (by omega) (by decide) (show nI n = nI 7 from z); omega
    · intro z; rw [show n = 7 by omega]; rfl
theorem a131_0 {w : m_w} (hw : WF w) : (w 131 = 0) ↔ nAn w = 0 := by
  have h8 := hw.2.2.1.2
  rw [hw.2.2.1.1]
  constructor
  · intro z; exact nI_inj (by omega) (by decide) (show nI (nAn w) = nI 0 from z)
  · intro z; rw [z]; rfl
theorem nClip_eq {w : m_w} (hw : WF w) : nClip w = if cX w 0 1 = 2 then some (1, 0) else if cX w 0 1 = 1 then some (9, 0) else if plc w 0 = -1 then some (10, 0) else if ¬ nAn w = 0 ∧ w (132 + (nAn w - 1)) = plc w 0 then some (11, plc w 0) else if nAn w = 8 then some (12, 0) else none := by
  have e : (¬ w 131 - 1 < 0 ∧ w (131 + nAn w) = plc w 0) ↔ (¬ nAn w = 0 ∧ w (132 + (nAn w - 1)) = plc w 0) := by
    rw [a131 hw]
    by_cases z : nAn w = 0
    · simp [z]
    · rw [show 131 + nAn w = 132 + (nAn w - 1) by omega]
  unfold nClip nAct
  simp only [e, a131_8 hw]
  by_cases h1 : cX w 0 1 = 2
  · simp [h1]
  · by_cases h2 : cX w 0 1 = 1
    · simp [h2]
    · simp [h1, h2]
theorem nUncl_eq {w : m_w} (hw : WF w) : nUncl w = if cX w 1 1 = 2 then some (1, 0) else if cX w 1 1 = 1 then some (9, 0) else if plc w 1 = -1 then some (10, 0) else if nAn w = 0 ∨ ¬ w (132 + 0) = plc w 1 then some (11, plc w 1) else none := by
  unfold nUncl nAct
  simp only [a131_0 hw]
  by_cases h1 : cX w 1 1 = 2
  · simp [h1]
  · by_cases h2 : cX w 1 1 = 1
    · simp [h2]
    · simp [h1, h2]
theorem nTake_eq {w : m_w} {c k : Int32} : nTake w c k = if cX w c 1 = 2 then some (1, 0) else if lies w c k = false then some (13, k) else if bits (carr w c) = 2 then some (14, 0) else none := by
  unfold nTake nAct
  by_cases h1 : cX w c 1 = 2
  · simp [h1]
  · simp [h1]
theorem nPut_eq {w : m_w} {c k : Int32} : nPut w c k = if cX w c 1 = 2 then some (1, 0) else if cX w c 1 = 1 then some (9, 0) else if ¬ lX w k 1 = c then some (13, k) else none := by
  unfold nPut nAct
  by_cases h1 : cX w c 1 = 2
  · simp [h1]
  · by_cases h2 : cX w c 1 = 1
    · simp [h2]
    · simp [h1, h2]
theorem nLight_eq {w : m_w} {c k : Int32} : nLight w c k = if cX w c 1 = 2 then some (1, 0) else if (decide (lX w k 1 = c) || lies w c k) = false then some (13, k) else if lX w k 4 = 0 ∧ lX w k 3 = 0 then some (15, 0) else none := by
  unfold nLight nAct
  by_cases h1 : cX w c 1 = 2
  · simp [h1]
  · simp [h1]
theorem clipW_o {w : m_w} (hw : WF w) (hn : nAn w < 8) : nAn (clipW w) = nAn w + 1 ∧ (∀ j, j < 131 ∨ 140 ≤ j → clipW w j = w j) ∧ ∀ (Γ : g_C) k, k < nAn w + 1 → va_up (anI Γ w) (nAn w) (g_bx Γ (plc w 0).toNatClampNeg) k = anI Γ (clipW w) k := by
  have e131 : clipW w 131 = nI (nAn w + 1) := by
    unfold clipW incW
    rw [upd_s, upd_n (by omega), hw.2.2.1.1, nI_1]
  refine ⟨?_, fun j hj => ?_, fun Γ k hk => ?_⟩
  · show (clipW w 131).toNatClampNeg = _
    rw [e131]; exact nI_clamp (by omega)
  · unfold clipW incW
    rw [upd_n (by omega), upd_n (by omega)]
  · unfold anI clipW incW
    rw [upd_n (by omega)]
    by_cases e : k = nAn w
    · subst e; rw [va_up_s, upd_s]
    · rw [va_up_n e, upd_n (by omega)]
theorem unclW_o {w : m_w} (hw : WF w) {n : Nat} (hn : nAn w = n + 1) : nAn (unclW w) = n ∧ (∀ j, j < 131 ∨ 140 ≤ j → unclW w j = w j) ∧ ∀ (Γ : g_C) k, k < n → anI Γ w (k + 1) = anI Γ (unclW w) k := by
  have h8 := hw.2.2.1.2
  have e131 : unclW w 131 = nI n := by
    unfold unclW
    rw [shN_n (by omega), upd_s, hw.2.2.1.1, hn, nI_pred]
  refine ⟨?_, fun j hj => ?_, fun Γ k hk => ?_⟩
  · show (unclW w 131).toNatClampNeg = _
    rw [e131]; exact nI_clamp (by omega)
  · unfold unclW
    rw [shN_n (by omega), upd_n (by omega)]
  · unfold anI unclW
    rw [hn, Nat.add_sub_cancel, shN_at hk, upd_n (by omega), show 132 + k + 1 = 132 + (k + 1) by omega]
set_option maxHeartbeats 4000000 in
set_option maxRecDepth 100000 in
theorem met_X2_clip (l : Launch) (Γ : g_C) (htr : l.stackTraces = false) (ph : g_H) (i : Nat) (ad na : Nat → Nat) (mc : Nat → Int32) (w : m_w)  (hW : g_Wl Γ ph i ad na mc w) (hw : WF w) : g_Met l yX2_clip (ws_ yX2_clip cX2_clip 2 (some .int)) (g_rm 5 7 50) Γ [.ref (ad 0)] ph (g_oi (fun rv_ ph' => nClip w = none ∧ rv_ = (clipW w 131) ∧ ∃ na' mc', g_Wl Γ ph' i ad na' mc' (clipW w) ∧ g_frR i ph ph')) (xR (nClip w) ph) := by
  refine g_start (y := yX2_clip) (cc := cX2_clip) (maxL := 2) (ret := (some .int)) (rm := g_rm 5 7 50) (by decide) (Nat.le_of_ble_eq_true rfl) ?_
  intro pg e s m A below meth cd ls Q hQ S hr hlk hex hnm hK I hl
  have hx := S.1
  have hb := S.2.1
  have hown := S.2.2.2.1
  have hts := S.2.2.2.2
  have S : CallFix pg m cd cX2_clip 2 s A lw_all "CrumblingWall$Wall" := S
  have hl : lv_has ls 2 [(0, .ref (ad 0))] := hl
  have hwc := hw.1; have hwl := hw.2.1; have hwa := hw.2.2.1
  have hw0 := hw
  refine lv_aload_n hx hb dX2_clip_0 rfl (lv_at hl 0 rfl) ?_
  refine lv_iconst (v := 0) hx hb dX2_clip_1 (by decide) ?_
  refine g_cr (g_runV S hK I (As := [.int 0]) (rest := []) (met_X2_climber l Γ htr ph i ad na mc w 0 hW hw  (vp_lit (by decide))) (cwV 1 hts (lw_V q782 q783 q784 q121 q785) rfl rfl rfl (by decide +kernel) ⟨Nat.le_of_ble_eq_true rfl, Nat.le_of_ble_eq_true rfl⟩) (g_recv hK I (g_at.of hW.o0) (ci := 1) rfl) rfl hl.1 rfl (Nat.le_of_ble_eq_true rfl) dX2_clip_2 ⟨Nat.le_of_ble_eq_true rfl, Nat.le_of_ble_eq_true rfl⟩) I (fun r_2 ph1 H locs hp I => ?_)
  obtain ⟨hp, hph⟩ := hp
  rw [hph] at I
  have hp : r_2 = (ad (10 + 0)) := hp
  rw [hp]
  refine lv_astore_n (lv' := [(1, .ref (ad (10 + 0))), (0, .ref (ad 0))]) hx hb dX2_clip_5 rfl hl (by decide) rfl (fun ls hl => ?_)
  refine lv_aload_n hx hb dX2_clip_6 rfl (lv_at hl 0 rfl) ?_
  refine g_ci (g_runV S hK I (As := []) (rest := []) (met_X3_isHurt l Γ htr ph i ad na mc w 0 hW hw  (by omega)) (cwV 0 hts (lw_V q1936 q1937 q1938 q122 q1939) rfl rfl rfl (by decide +kernel) ⟨Nat.le_of_ble_eq_true rfl, Nat.le_of_ble_eq_true rfl⟩) (g_recv hK I (g_at.of (hW.cl (c := 0) (by omega))) (ci := 2) rfl) rfl hl.1 rfl (Nat.le_of_ble_eq_true rfl) dX2_clip_7 ⟨Nat.le_of_ble_eq_true rfl, Nat.le_of_ble_eq_true rfl⟩) I (fun r_7 ph1 H locs hp I => ?_)
  obtain ⟨hp, hph⟩ := hp
  rw [hph] at I
  have hp : r_7 = (b2i (decide ((w (125 + 3 * 0 + 1)) = 2))) := hp
  rw [hp]
  refine lv_iconst (v := 1) hx hb dX2_clip_10 (by decide) ?_
  refine lv_iconst (v := 0) hx hb dX2_clip_11 (by decide) ?_
  refine g_cvx (g_runSN S hK I (As := [.int (b2i (decide ((w (125 + 3 * 0 + 1)) = 2))), .int 1, .int 0]) (rest := []) (met_X1_refuse l Γ ph htr (decide (cX w 0 1 = 2)) 1 0) ⟨va_cnB 3 hts (lw_meth q1791) rfl rfl rfl (hK.N q1940 rfl) (hts _ q120) (by decide +kernel) ⟨Nat.le_of_ble_eq_true rfl, Nat.le_of_ble_eq_true rfl⟩, hts _ q1790, trivial⟩ rfl hl.1 rfl (Nat.le_of_ble_eq_true rfl) dX2_clip_12 ⟨Nat.le_of_ble_eq_true rfl, Nat.le_of_ble_eq_true rfl⟩) I (fun E9 ce9 q9 ph1 H locs hp I hcell hv9 hcl => ?_) (fun ph1 H locs hp I => ?_)
  · obtain ⟨rfl, hb9, hx9, hf9⟩ := hp
    have hb9 := of_decide_eq_true hb9
    exact g_out S hlk hex I hcell hv9 hcl (Nat.le_of_ble_eq_true rfl) (Nat.le_of_ble_eq_true rfl) hQ ⟨rfl, (1, 0), (by rw [nClip_eq hw, if_pos hb9] <;> rfl), hx9, hf9⟩
  obtain ⟨hy, hp⟩ := hp
  rw [hp] at I
  have f1 := of_decide_eq_false hy
  refine lv_aload_n hx hb dX2_clip_15 rfl (lv_at hl 0 rfl) ?_
  refine g_ci (g_runV S hK I (As := []) (rest := []) (met_X3_isHanging l Γ htr ph i ad na mc w 0 hW hw  (by omega)) (cwV 0 hts (lw_V q2160 q2161 q2162 q122 q2163) rfl rfl rfl (by decide +kernel) ⟨Nat.le_of_ble_eq_true rfl, Nat.le_of_ble_eq_true rfl⟩) (g_recv hK I (g_at.of (hW.cl (c := 0) (by omega))) (ci := 2) rfl) rfl hl.1 rfl (Nat.le_of_ble_eq_true rfl) dX2_clip_16 ⟨Nat.le_of_ble_eq_true rfl, Nat.le_of_ble_eq_true rfl⟩) I (fun r_16 ph1 H locs hp I => ?_)
  obtain ⟨hp, hph⟩ := hp
  rw [hph] at I
  have hp : r_16 = (b2i (decide ((w (125 + 3 * 0 + 1)) = 1))) := hp
  rw [hp]
  refine lv_bipush (v := 9) hx hb dX2_clip_19 (by decide) ?_
  refine lv_iconst (v := 0) hx hb dX2_clip_21 (by decide) ?_
  refine g_cvx (g_runSN S hK I (As := [.int (b2i (decide ((w (125 + 3 * 0 + 1)) = 1))), .int 9, .int 0]) (rest := []) (met_X1_refuse l Γ ph htr (decide (cX w 0 1 = 1)) 9 0) ⟨va_cnB 3 hts (lw_meth q1791) rfl rfl rfl (hK.N q1940 rfl) (hts _ q120) (by decide +kernel) ⟨Nat.le_of_ble_eq_true rfl, Nat.le_of_ble_eq_true rfl⟩, hts _ q1790, trivial⟩ rfl hl.1 rfl (Nat.le_of_ble_eq_true rfl) dX2_clip_22 ⟨Nat.le_of_ble_eq_true rfl, Nat.le_of_ble_eq_true rfl⟩) I (fun E9 ce9 q9 ph1 H locs hp I hcell hv9 hcl => ?_) (fun ph1 H locs hp I => ?_)
  · obtain ⟨rfl, hb9, hx9, hf9⟩ := hp
    have hb9 := of_decide_eq_true hb9
    exact g_out S hlk hex I hcell hv9 hcl (Nat.le_of_ble_eq_true rfl) (Nat.le_of_ble_eq_true rfl) hQ ⟨rfl, (9, 0), (by rw [nClip_eq hw, if_neg f1, if_pos hb9] <;> rfl), hx9, hf9⟩
  obtain ⟨hy, hp⟩ := hp
  rw [hp] at I
  have f2 := of_decide_eq_false hy
  refine lv_aload_n hx hb dX2_clip_25 rfl (lv_at hl 0 rfl) ?_
  refine g_getN S hK I k_X3 (v := .int (w (125 + 3 * 0))) (g_at.of (hW.cl (c := 0) (by decide))) 1 (by decide) q212 rfl rfl dX2_clip_26 ?_
  refine lv_iconst (v := (-1)) hx hb dX2_clip_29 (by decide) ?_
  have J_38_0 : ∀ (x1 : Int32) (H : Heap) (locs : List Loc) (ls : Array Slot), (hx1 : x1 = (b2i (decide (plc w 0 = -1)))) → g_I Γ ph s H locs → lv_has ls 2 [(1, .ref (ad (10 + 0))), (0, .ref (ad 0))] → W pg l e (g_rm 5 7 50) s m A below meth cd H locs 2 16 Q (F0 m 38 ls [.int x1]) := by
    intro x1 H locs ls hx1 I hl
    subst hx1
    refine lv_bipush (v := 10) hx hb dX2_clip_38 (by decide) ?_
    refine lv_iconst (v := 0) hx hb dX2_clip_40 (by decide) ?_
    refine g_cvx (g_runSN S hK I (As := [.int (b2i (decide (plc w 0 = -1))), .int 10, .int 0]) (rest := []) (met_X1_refuse l Γ ph htr (decide (plc w 0 = -1)) 10 0) ⟨va_cnB 3 hts (lw_meth q1791) rfl rfl rfl (hK.N q1940 rfl) (hts _ q120) (by decide +kernel) ⟨Nat.le_of_ble_eq_true rfl, Nat.le_of_ble_eq_true rfl⟩, hts _ q1790, trivial⟩ rfl hl.1 rfl (Nat.le_of_ble_eq_true rfl) dX2_clip_41 ⟨Nat.le_of_ble_eq_true rfl, Nat.le_of_ble_eq_true rfl⟩) I (fun E9 ce9 q9 ph1 H locs hp I hcell hv9 hcl => ?_) (fun ph1 H locs hp I => ?_)
    · obtain ⟨rfl, hb9, hx9, hf9⟩ := hp
      have hb9 := of_decide_eq_true hb9
      exact g_out S hlk hex I hcell hv9 hcl (Nat.le_of_ble_eq_true rfl) (Nat.le_of_ble_eq_true rfl) hQ ⟨rfl, (10, 0), (by rw [nClip_eq hw, if_neg f1, if_neg f2, if_pos hb9] <;> rfl), hx9, hf9⟩
    obtain ⟨hy, hp⟩ := hp
    rw [hp] at I
    have f3 := of_decide_eq_false hy
    refine lv_aload_n hx hb dX2_clip_44 rfl (lv_at hl 1 rfl) ?_
    refine g_get S hK I k_X2 (v := .ref (ad 5)) (g_at.of hW.o0) 2 (by decide) q648 rfl rfl dX2_clip_45 ?_
    refine g_ci (g_runU S hK I (As := []) (rest := []) (met_J1_isEmpty l Γ ph 105 i (ad 5) (nAn w) (mc 0) _ _ hW.o5.1 (by omega)) (g_cwD (n := 0) hts q2119 q124 (by decide) (by decide +kernel) q2114 q2115 (g_declN (hK.N q2116 rfl)) q2117 q2118 ⟨Nat.le_of_ble_eq_true rfl, Nat.le_of_ble_eq_true rfl⟩) (g_recv hK I (g_at.of hW.o5.1) (ci := 24) rfl) rfl hl.1 rfl (Nat.le_of_ble_eq_true rfl) dX2_clip_48 ⟨Nat.le_of_ble_eq_true rfl, Nat.le_of_ble_eq_true rfl⟩) I (fun r_48 ph1 H locs hp I => ?_)
    obtain ⟨hp, hph⟩ := hp
    rw [hph] at I
    have hp : r_48 = (b2i (decide (nAn w = 0))) := hp
    rw [hp]
    have J_79_1 : ∀ (x2 : Int32) (H : Heap) (locs : List Loc) (ls : Array Slot), (hx2 : x2 = (b2i (decide (¬ nAn w = 0 ∧ w (132 + (nAn w - 1)) = plc w 0)))) → g_I Γ ph s H locs → lv_has ls 2 [(1, .ref (ad (10 + 0))), (0, .ref (ad 0))] → W pg l e (g_rm 5 7 50) s m A below meth cd H locs 3 24 Q (F0 m 79 ls [.int x2]) := by
      intro x2 H locs ls hx2 I hl
      subst hx2
      refine lv_bipush (v := 11) hx hb dX2_clip_79 (by decide) ?_
      refine lv_aload_n hx hb dX2_clip_81 rfl (lv_at hl 0 rfl) ?_
      refine g_getN S hK I k_X3 (v := .int (w (125 + 3 * 0))) (g_at.of (hW.cl (c := 0) (by decide))) 1 (by decide) q212 rfl rfl dX2_clip_82 ?_
      refine g_cvx (g_runSN S hK I (As := [.int (b2i (decide (¬ nAn w = 0 ∧ w (132 + (nAn w - 1)) = plc w 0))), .int 11, .int (w (125 + 3 * 0))]) (rest := []) (met_X1_refuse l Γ ph htr (decide (¬ nAn w = 0 ∧ w (132 + (nAn w - 1)) = plc w 0)) 11 (w (125 + 3 * 0))) ⟨va_cnB 3 hts (lw_meth q1791) rfl rfl rfl (hK.N q1940 rfl) (hts _ q120) (by decide +kernel) ⟨Nat.le_of_ble_eq_true rfl, Nat.le_of_ble_eq_true rfl⟩, hts _ q1790, trivial⟩ rfl hl.1 rfl (Nat.le_of_ble_eq_true rfl) dX2_clip_85 ⟨Nat.le_of_ble_eq_true rfl, Nat.le_of_ble_eq_true rfl⟩) I (fun E9 ce9 q9 ph1 H locs hp I hcell hv9 hcl => ?_) (fun ph1 H locs hp I => ?_)
      · obtain ⟨rfl, hb9, hx9, hf9⟩ := hp
        have hb9 := of_decide_eq_true hb9
        exact g_out S hlk hex I hcell hv9 hcl (Nat.le_of_ble_eq_true rfl) (Nat.le_of_ble_eq_true rfl) hQ ⟨rfl, (11, (w (125 + 3 * 0))), (by rw [nClip_eq hw, if_neg f1, if_neg f2, if_neg f3, if_pos hb9] <;> rfl), hx9, hf9⟩
      obtain ⟨hy, hp⟩ := hp
      rw [hp] at I
      have f4 := of_decide_eq_false hy
      refine lv_aload_n hx hb dX2_clip_88 rfl (lv_at hl 1 rfl) ?_
      refine g_get S hK I k_X2 (v := .ref (ad 5)) (g_at.of hW.o0) 2 (by decide) q648 rfl rfl dX2_clip_89 ?_
      refine g_ci (g_runV S hK I (As := []) (rest := []) (met_J24_size l Γ ph 105 i (ad 5) (mc 0) (nI (nAn w)) _ _ hW.o5.1) (cwV 0 hts (lw_V q2372 q767 q768 q148 q769) rfl rfl rfl (by decide +kernel) ⟨Nat.le_of_ble_eq_true rfl, Nat.le_of_ble_eq_true rfl⟩) (g_recv hK I (g_at.of hW.o5.1) (ci := 24) rfl) rfl hl.1 rfl (Nat.le_of_ble_eq_true rfl) dX2_clip_92 ⟨Nat.le_of_ble_eq_true rfl, Nat.le_of_ble_eq_true rfl⟩) I (fun r_92 ph1 H locs hp I => ?_)
      obtain ⟨hp, hph⟩ := hp
      rw [hph] at I
      have hp : r_92 = (nI (nAn w)) := hp
      rw [hp]
      refine lv_bipush (v := 8) hx hb dX2_clip_95 (by decide) ?_
      have J_105_2 : ∀ (x3 : Int32) (H : Heap) (locs : List Loc) (ls : Array Slot), (hx3 : x3 = (b2i (decide (nAn w = 8)))) → g_I Γ ph s H locs → lv_has ls 2 [(1, .ref (ad (10 + 0))), (0, .ref (ad 0))] → W pg l e (g_rm 5 7 50) s m A below meth cd H locs 4 32 Q (F0 m 105 ls [.int x3]) := by
        intro x3 H locs ls hx3 I hl
        subst hx3
        refine lv_bipush (v := 12) hx hb dX2_clip_105 (by decide) ?_
        refine lv_iconst (v := 0) hx hb dX2_clip_107 (by decide) ?_
        refine g_cvx (g_runSN S hK I (As := [.int (b2i (decide (nAn w = 8))), .int 12, .int 0]) (rest := []) (met_X1_refuse l Γ ph htr (decide (nAn w = 8)) 12 0) ⟨va_cnB 3 hts (lw_meth q1791) rfl rfl rfl (hK.N q1940 rfl) (hts _ q120) (by decide +kernel) ⟨Nat.le_of_ble_eq_true rfl, Nat.le_of_ble_eq_true rfl⟩, hts _ q1790, trivial⟩ rfl hl.1 rfl (Nat.le_of_ble_eq_true rfl) dX2_clip_108 ⟨Nat.le_of_ble_eq_true rfl, Nat.le_of_ble_eq_true rfl⟩) I (fun E9 ce9 q9 ph1 H locs hp I hcell hv9 hcl => ?_) (fun ph1 H locs hp I => ?_)
        · obtain ⟨rfl, hb9, hx9, hf9⟩ := hp
          have hb9 := of_decide_eq_true hb9
          exact g_out S hlk hex I hcell hv9 hcl (Nat.le_of_ble_eq_true rfl) (Nat.le_of_ble_eq_true rfl) hQ ⟨rfl, (12, 0), (by rw [nClip_eq hw, if_neg f1, if_neg f2, if_neg f3, if_neg f4, if_pos hb9] <;> rfl), hx9, hf9⟩
        obtain ⟨hy, hp⟩ := hp
        rw [hp] at I
        have f5 := of_decide_eq_false hy
        have hp1 := okHx hw (((hw.pl (c := 0) (vp_lit (by decide)))).resolve_left f3)
        have hp2 := hp1.1
        refine lv_aload_n hx hb dX2_clip_111 rfl (lv_at hl 1 rfl) ?_
        refine g_get S hK I k_X2 (v := .ref (ad 5)) (g_at.of hW.o0) 2 (by decide) q648 rfl rfl dX2_clip_112 ?_
        refine lv_aload_n hx hb dX2_clip_115 rfl (lv_at hl 0 rfl) ?_
        refine g_getN S hK I k_X3 (v := .int (w (125 + 3 * 0))) (g_at.of (hW.cl (c := 0) (by decide))) 1 (by decide) q212 rfl rfl dX2_clip_116 ?_
        refine g_cr (g_runS S hK I (As := [.int (w (125 + 3 * 0))]) (rest := [.ref (ad 5)]) (met_J22_valueOf l Γ ph (w (125 + 3 * 0)) (plc w 0).toNatClampNeg hp1.2.symm (by omega)) (va_cwS 1 hts (lw_S q2002 q2003 q146 q2004) rfl rfl rfl (by decide +kernel) ⟨Nat.le_of_ble_eq_true rfl, Nat.le_of_ble_eq_true rfl⟩) rfl hl.1 rfl (Nat.le_of_ble_eq_true rfl) dX2_clip_119 ⟨Nat.le_of_ble_eq_true rfl, Nat.le_of_ble_eq_true rfl⟩) I (fun r_119 ph1 H locs hp I => ?_)
        obtain ⟨hp, hph⟩ := hp
        rw [hph] at I
        have hp : r_119 = (g_bx Γ (plc w 0).toNatClampNeg) := hp
        rw [hp]
        refine g_cv (g_runV S hK I (As := [.ref (g_bx Γ (plc w 0).toNatClampNeg)]) (rest := []) (met_J24_addLast l Γ ph 105 i (ad 5) 200 (g_bx Γ (plc w 0).toNatClampNeg) (nAn w) na (anI Γ w) (mc 0) (by decide) hW.o5) (cwV 1 hts (lw_V q1595 q1596 q1597 q148 q1598) rfl rfl rfl (by decide +kernel) ⟨Nat.le_of_ble_eq_true rfl, Nat.le_of_ble_eq_true rfl⟩) (g_recv hK I (g_at.of hW.o5.1) (ci := 24) rfl) rfl hl.1 rfl (Nat.le_of_ble_eq_true rfl) dX2_clip_122 ⟨Nat.le_of_ble_eq_true rfl, Nat.le_of_ble_eq_true rfl⟩) I (fun ph1 H locs hp I => ?_)
        obtain ⟨q9, -, hL, hfr⟩ := hp
        have ho9 := clipW_o hw (by omega)
        generalize ph1 = P_4 at I hL hfr
        have hG : g_frR i ph P_4 := g_frR.of hfr (by simp)
        obtain ⟨na_5, mc_6, hW⟩ : ∃ x y, g_Wl Γ P_4 i ad x y (clipW w) := ⟨_, _, hW.puta hw hL hfr ho9.1 (ho9.2.2 Γ) ho9.2.1⟩
        have hF : g_frR i ph P_4 := hG
        have eR : nN (clipW w) = nN w ∧ nLa (clipW w) = nLa w := by refine ⟨nN_eq ?_, nLa_eq ?_⟩ <;> exact ho9.2.1 _ (by omega)
        have eN : nN (clipW w) = nN w := eR.1
        have eL : nLa (clipW w) = nLa w := eR.2
        have hw : WF (clipW w) := (hw.clip (by omega) f3)
        refine lv_aload_n hx hb dX2_clip_125 rfl (lv_at hl 1 rfl) ?_
        refine g_get S hK I k_X2 (v := .ref (ad 5)) (g_at.of hW.o0) 2 (by decide) q648 rfl rfl dX2_clip_126 ?_
        refine g_ci (g_runV S hK I (As := []) (rest := []) (met_J24_size l Γ P_4 105 i (ad 5) (mc_6 0) (nI (nAn (clipW w))) _ _ hW.o5.1) (cwV 0 hts (lw_V q2372 q767 q768 q148 q769) rfl rfl rfl (by decide +kernel) ⟨Nat.le_of_ble_eq_true rfl, Nat.le_of_ble_eq_true rfl⟩) (g_recv hK I (g_at.of hW.o5.1) (ci := 24) rfl) rfl hl.1 rfl (Nat.le_of_ble_eq_true rfl) dX2_clip_129 ⟨Nat.le_of_ble_eq_true rfl, Nat.le_of_ble_eq_true rfl⟩) I (fun r_129 ph1 H locs hp I => ?_)
        obtain ⟨hp, hph⟩ := hp
        rw [hph] at I
        have hp : r_129 = (nI (nAn (clipW w))) := hp
        rw [hp]
        exact g_iret S hr hlk I dX2_clip_132 (Nat.le_of_ble_eq_true rfl) (Nat.le_of_ble_eq_true rfl) hQ ⟨_, rfl, (by rw [nClip_eq hw0, if_neg f1, if_neg f2, if_neg f3, if_neg f4, if_neg f5]), (by rw [ho9.1]; unfold clipW incW; rw [upd_s, upd_n (by omega), hw0.2.2.1.1, nI_1]), ⟨_, _, hW, hF⟩⟩
      refine lv_icmp_ne (tgt := 104) hx hb dX2_clip_97 (by decide) (fun c_97 => ?_) (fun c_97 => ?_)
      · refine lv_iconst (v := 0) hx hb dX2_clip_104 (by decide) ?_
        exact J_105_2 0 _ _ _ (by simp [b2i, show ¬ nAn w = 8 from fun z => c_97 (by rw [z]; rfl)]) I (lv_sub hl [0, 1] rfl)
      · refine lv_iconst (v := 1) hx hb dX2_clip_100 (by decide) ?_
        refine lv_goto (tgt := 105) hx hb dX2_clip_101 (by decide) ?_
        exact J_105_2 1 _ _ _ (by simp [b2i, nI_inj (by omega) (by decide) (show nI (nAn w) = nI 8 from c_97)]) I (lv_sub hl [0, 1] rfl)
    refine lv_if_ne (tgt := 78) hx hb dX2_clip_51 (by decide) (fun c_51 => ?_) (fun c_51 => ?_)
    · have p_51 := of_decide_eq_true ((b2i_ne0 _).mp c_51)
      have c_51 := p_51
      refine lv_iconst (v := 0) hx hb dX2_clip_78 (by decide) ?_
      exact J_79_1 0 _ _ _ (by simp [b2i, c_51]) I (lv_sub hl [0, 1] rfl)
    · have p_51 := of_decide_eq_false ((b2i_eq0 _).mp c_51)
      have c_51 := p_51
      refine lv_aload_n hx hb dX2_clip_54 rfl (lv_at hl 1 rfl) ?_
      refine g_get S hK I k_X2 (v := .ref (ad 5)) (g_at.of hW.o0) 2 (by decide) q648 rfl rfl dX2_clip_55 ?_
      have hne : ¬ nAn w = 0 := by assumption
      have hln := ll_last hW.o5 hne
      have hb9 : (w (132 + (nAn w - 1))).toNatClampNeg < nN w ∧ nI (w (132 + (nAn w - 1))).toNatClampNeg = w (132 + (nAn w - 1)) := okHx hw (hw.2.2.2.2.2.2.2 (nAn w - 1) (by omega))
      have hb8 := hb9.1
      refine g_cr (g_runV S hK I (As := []) (rest := []) (met_J24_getLast l Γ ph 105 i (ad 5) 200 i (na (nAn w - 1)) (anI Γ w (nAn w - 1)) (mc 0) (nI (nAn w)) _ _ _ hln.1 hln.2) (cwV 0 hts (lw_V q2122 q2123 q2124 q148 q2125) rfl rfl rfl (by decide +kernel) ⟨Nat.le_of_ble_eq_true rfl, Nat.le_of_ble_eq_true rfl⟩) (g_recv hK I (g_at.of hW.o5.1) (ci := 24) rfl) rfl hl.1 rfl (Nat.le_of_ble_eq_true rfl) dX2_clip_58 ⟨Nat.le_of_ble_eq_true rfl, Nat.le_of_ble_eq_true rfl⟩) I (fun r_58 ph1 H locs hp I => ?_)
      obtain ⟨hp, hph⟩ := hp
      rw [hph] at I
      have hp : r_58 = (g_bx Γ (w (132 + (nAn w - 1))).toNatClampNeg) := hp
      rw [hp]
      refine g_castI S hK q1200 (g_recvB hK I (by omega)) dX2_clip_61 ?_
      refine g_ci (g_runV S hK I (As := []) (rest := []) (met_J22_intValue l Γ ph (w (132 + (nAn w - 1))).toNatClampNeg (by omega)) (cwV 0 hts (lw_V q1201 q1202 q1203 q146 q1204) rfl rfl rfl (by decide +kernel) ⟨Nat.le_of_ble_eq_true rfl, Nat.le_of_ble_eq_true rfl⟩) (g_recvB hK I (by omega)) rfl hl.1 rfl (Nat.le_of_ble_eq_true rfl) dX2_clip_64 ⟨Nat.le_of_ble_eq_true rfl, Nat.le_of_ble_eq_true rfl⟩) I (fun r_64 ph1 H locs hp I => ?_)
      obtain ⟨hp, hph⟩ := hp
      rw [hph] at I
      have hp : r_64 = (w (132 + (nAn w - 1))) := hp.trans hb9.2
      rw [hp]
      refine lv_aload_n hx hb dX2_clip_67 rfl (lv_at hl 0 rfl) ?_
      refine g_getN S hK I k_X3 (v := .int (w (125 + 3 * 0))) (g_at.of (hW.cl (c := 0) (by decide))) 1 (by decide) q212 rfl rfl dX2_clip_68 ?_
      refine lv_icmp_ne (tgt := 78) hx hb dX2_clip_71 (by decide) (fun c_71 => ?_) (fun c_71 => ?_)
      · refine lv_iconst (v := 0) hx hb dX2_clip_78 (by decide) ?_
        exact J_79_1 0 _ _ _ (by rw [show plc w 0 = w (125 + 3 * 0) from rfl]; simp [b2i, c_51, c_71]) I (lv_sub hl [0, 1] rfl)
      · refine lv_iconst (v := 1) hx hb dX2_clip_74 (by decide) ?_
        refine lv_goto (tgt := 79) hx hb dX2_clip_75 (by decide) ?_
        exact J_79_1 1 _ _ _ (by rw [show plc w 0 = w (125 + 3 * 0) from rfl]; simp [b2i, c_51, c_71]) I (lv_sub hl [0, 1] rfl)
  refine lv_icmp_ne (tgt := 37) hx hb dX2_clip_30 (by decide) (fun c_30 => ?_) (fun c_30 => ?_)
  · refine lv_iconst (v := 0) hx hb dX2_clip_37 (by decide) ?_
    exact J_38_0 0 _ _ _ (by rw [show plc w 0 = w (125 + 3 * 0) from rfl]; simp [b2i, c_30]) I (lv_sub hl [0, 1] rfl)
  · refine lv_iconst (v := 1) hx hb dX2_clip_33 (by decide) ?_
    refine lv_goto (tgt := 38) hx hb dX2_clip_34 (by decide) ?_
    exact J_38_0 1 _ _ _ (by rw [show plc w 0 = w (125 + 3 * 0) from rfl]; simp [b2i, c_30]) I (lv_sub hl [0, 1] rfl)

set_option maxHeartbeats 4000000 in
set_option maxRecDepth 100000 in
theorem met_X2_unclip (l : Launch) (Γ : g_C) (htr : l.stackTraces = false) (ph : g_H) (i : Nat) (ad na : Nat → Nat) (mc : Nat → Int32) (w : m_w)  (hW : g_Wl Γ ph i ad na mc w) (hw : WF w) : g_Met l yX2_unclip (ws_ yX2_unclip cX2_unclip 3 (some .int)) (g_rm 5 5 40) Γ [.ref (ad 0)] ph (g_oi (fun rv_ ph' => nUncl w = none ∧ rv_ = (unclW w 131) ∧ ∃ na' mc', g_Wl Γ ph' i ad na' mc' (unclW w) ∧ g_frR i ph ph')) (xR (nUncl w) ph) := by
  refine g_start (y := yX2_unclip) (cc := cX2_unclip) (maxL := 3) (ret := (some .int)) (rm := g_rm 5 5 40) (by decide) (Nat.le_of_ble_eq_true rfl) ?_
  intro pg e s m A below meth cd ls Q hQ S hr hlk hex hnm hK I hl
  have hx := S.1
  have hb := S.2.1
  have hown := S.2.2.2.1
  have hts := S.2.2.2.2
  have S : CallFix pg m cd cX2_unclip 3 s A lw_all "CrumblingWall$Wall" := S
  have hl : lv_has ls 3 [(0, .ref (ad 0))] := hl
  have hwc := hw.1; have hwl := hw.2.1; have hwa := hw.2.2.1
  have hw0 := hw
  refine lv_aload_n hx hb dX2_unclip_0 rfl (lv_at hl 0 rfl) ?_
  refine lv_iconst (v := 1) hx hb dX2_unclip_1 (by decide) ?_
  refine g_cr (g_runV S hK I (As := [.int 1]) (rest := []) (met_X2_climber l Γ htr ph i ad na mc w 1 hW hw  (vp_lit (by decide))) (cwV 1 hts (lw_V q782 q783 q784 q121 q785) rfl rfl rfl (by decide +kernel) ⟨Nat.le_of_ble_eq_true rfl, Nat.le_of_ble_eq_true rfl⟩) (g_recv hK I (g_at.of hW.o0) (ci := 1) rfl) rfl hl.1 rfl (Nat.le_of_ble_eq_true rfl) dX2_unclip_2 ⟨Nat.le_of_ble_eq_true rfl, Nat.le_of_ble_eq_true rfl⟩) I (fun r_2 ph1 H locs hp I => ?_)
  obtain ⟨hp, hph⟩ := hp
  rw [hph] at I
  have hp : r_2 = (ad (10 + 1)) := hp
  rw [hp]
  refine lv_astore_n (lv' := [(1, .ref (ad (10 + 1))), (0, .ref (ad 0))]) hx hb dX2_unclip_5 rfl hl (by decide) rfl (fun ls hl => ?_)
  refine lv_aload_n hx hb dX2_unclip_6 rfl (lv_at hl 0 rfl) ?_
  refine g_ci (g_runV S hK I (As := []) (rest := []) (met_X3_isHurt l Γ htr ph i ad na mc w 1 hW hw  (by omega)) (cwV 0 hts (lw_V q1936 q1937 q1938 q122 q1939) rfl rfl rfl (by decide +kernel) ⟨Nat.le_of_ble_eq_true rfl, Nat.le_of_ble_eq_true rfl⟩) (g_recv hK I (g_at.of (hW.cl (c := 1) (by omega))) (ci := 2) rfl) rfl hl.1 rfl (Nat.le_of_ble_eq_true rfl) dX2_unclip_7 ⟨Nat.le_of_ble_eq_true rfl, Nat.le_of_ble_eq_true rfl⟩) I (fun r_7 ph1 H locs hp I => ?_)
  obtain ⟨hp, hph⟩ := hp
  rw [hph] at I
  have hp : r_7 = (b2i (decide ((w (125 + 3 * 1 + 1)) = 2))) := hp
  rw [hp]
  refine lv_iconst (v := 1) hx hb dX2_unclip_10 (by decide) ?_
  refine lv_iconst (v := 0) hx hb dX2_unclip_11 (by decide) ?_
  refine g_cvx (g_runSN S hK I (As := [.int (b2i (decide ((w (125 + 3 * 1 + 1)) = 2))), .int 1, .int 0]) (rest := []) (met_X1_refuse l Γ ph htr (decide (cX w 1 1 = 2)) 1 0) ⟨va_cnB 3 hts (lw_meth q1791) rfl rfl rfl (hK.N q1940 rfl) (hts _ q120) (by decide +kernel) ⟨Nat.le_of_ble_eq_true rfl, Nat.le_of_ble_eq_true rfl⟩, hts _ q1790, trivial⟩ rfl hl.1 rfl (Nat.le_of_ble_eq_true rfl) dX2_unclip_12 ⟨Nat.le_of_ble_eq_true rfl, Nat.le_of_ble_eq_true rfl⟩) I (fun E9 ce9 q9 ph1 H locs hp I hcell hv9 hcl => ?_) (fun ph1 H locs hp I => ?_)
  · obtain ⟨rfl, hb9, hx9, hf9⟩ := hp
    have hb9 := of_decide_eq_true hb9
    exact g_out S hlk hex I hcell hv9 hcl (Nat.le_of_ble_eq_true rfl) (Nat.le_of_ble_eq_true rfl) hQ ⟨rfl, (1, 0), (by rw [nUncl_eq hw, if_pos hb9] <;> rfl), hx9, hf9⟩
  obtain ⟨hy, hp⟩ := hp
  rw [hp] at I
  have f1 := of_decide_eq_false hy
  refine lv_aload_n hx hb dX2_unclip_15 rfl (lv_at hl 0 rfl) ?_
  refine g_ci (g_runV S hK I (As := []) (rest := []) (met_X3_isHanging l Γ htr ph i ad na mc w 1 hW hw  (by omega)) (cwV 0 hts (lw_V q2160 q2161 q2162 q122 q2163) rfl rfl rfl (by decide +kernel) ⟨Nat.le_of_ble_eq_true rfl, Nat.le_of_ble_eq_true rfl⟩) (g_recv hK I (g_at.of (hW.cl (c := 1) (by omega))) (ci := 2) rfl) rfl hl.1 rfl (Nat.le_of_ble_eq_true rfl) dX2_unclip_16 ⟨Nat.le_of_ble_eq_true rfl, Nat.le_of_ble_eq_true rfl⟩) I (fun r_16 ph1 H locs hp I => ?_)
  obtain ⟨hp, hph⟩ := hp
  rw [hph] at I
  have hp : r_16 = (b2i (decide ((w (125 + 3 * 1 + 1)) = 1))) := hp
  rw [hp]
  refine lv_bipush (v := 9) hx hb dX2_unclip_19 (by decide) ?_
  refine lv_iconst (v := 0) hx hb dX2_unclip_21 (by decide) ?_
  refine g_cvx (g_runSN S hK I (As := [.int (b2i (decide ((w (125 + 3 * 1 + 1)) = 1))), .int 9, .int 0]) (rest := []) (met_X1_refuse l Γ ph htr (decide (cX w 1 1 = 1)) 9 0) ⟨va_cnB 3 hts (lw_meth q1791) rfl rfl rfl (hK.N q1940 rfl) (hts _ q120) (by decide +kernel) ⟨Nat.le_of_ble_eq_true rfl, Nat.le_of_ble_eq_true rfl⟩, hts _ q1790, trivial⟩ rfl hl.1 rfl (Nat.le_of_ble_eq_true rfl) dX2_unclip_22 ⟨Nat.le_of_ble_eq_true rfl, Nat.le_of_ble_eq_true rfl⟩) I (fun E9 ce9 q9 ph1 H locs hp I hcell hv9 hcl => ?_) (fun ph1 H locs hp I => ?_)
  · obtain ⟨rfl, hb9, hx9, hf9⟩ := hp
    have hb9 := of_decide_eq_true hb9
    exact g_out S hlk hex I hcell hv9 hcl (Nat.le_of_ble_eq_true rfl) (Nat.le_of_ble_eq_true rfl) hQ ⟨rfl, (9, 0), (by rw [nUncl_eq hw, if_neg f1, if_pos hb9] <;> rfl), hx9, hf9⟩
  obtain ⟨hy, hp⟩ := hp
  rw [hp] at I
  have f2 := of_decide_eq_false hy
  refine lv_aload_n hx hb dX2_unclip_25 rfl (lv_at hl 0 rfl) ?_
  refine g_getN S hK I k_X3 (v := .int (w (125 + 3 * 1))) (g_at.of (hW.cl (c := 1) (by decide))) 1 (by decide) q212 rfl rfl dX2_unclip_26 ?_
  refine lv_iconst (v := (-1)) hx hb dX2_unclip_29 (by decide) ?_
  have J_38_0 : ∀ (x1 : Int32) (H : Heap) (locs : List Loc) (ls : Array Slot), (hx1 : x1 = (b2i (decide (plc w 1 = -1)))) → g_I Γ ph s H locs → lv_has ls 3 [(1, .ref (ad (10 + 1))), (0, .ref (ad 0))] → W pg l e (g_rm 5 5 40) s m A below meth cd H locs 2 16 Q (F0 m 38 ls [.int x1]) := by
    intro x1 H locs ls hx1 I hl
    subst hx1
    refine lv_bipush (v := 10) hx hb dX2_unclip_38 (by decide) ?_
    refine lv_iconst (v := 0) hx hb dX2_unclip_40 (by decide) ?_
    refine g_cvx (g_runSN S hK I (As := [.int (b2i (decide (plc w 1 = -1))), .int 10, .int 0]) (rest := []) (met_X1_refuse l Γ ph htr (decide (plc w 1 = -1)) 10 0) ⟨va_cnB 3 hts (lw_meth q1791) rfl rfl rfl (hK.N q1940 rfl) (hts _ q120) (by decide +kernel) ⟨Nat.le_of_ble_eq_true rfl, Nat.le_of_ble_eq_true rfl⟩, hts _ q1790, trivial⟩ rfl hl.1 rfl (Nat.le_of_ble_eq_true rfl) dX2_unclip_41 ⟨Nat.le_of_ble_eq_true rfl, Nat.le_of_ble_eq_true rfl⟩) I (fun E9 ce9 q9 ph1 H locs hp I hcell hv9 hcl => ?_) (fun ph1 H locs hp I => ?_)
    · obtain ⟨rfl, hb9, hx9, hf9⟩ := hp
      have hb9 := of_decide_eq_true hb9
      exact g_out S hlk hex I hcell hv9 hcl (Nat.le_of_ble_eq_true rfl) (Nat.le_of_ble_eq_true rfl) hQ ⟨rfl, (10, 0), (by rw [nUncl_eq hw, if_neg f1, if_neg f2, if_pos hb9] <;> rfl), hx9, hf9⟩
    obtain ⟨hy, hp⟩ := hp
    rw [hp] at I
    have f3 := of_decide_eq_false hy
    refine lv_aload_n hx hb dX2_unclip_44 rfl (lv_at hl 1 rfl) ?_
    refine g_get S hK I k_X2 (v := .ref (ad 5)) (g_at.of hW.o0) 2 (by decide) q648 rfl rfl dX2_unclip_45 ?_
    refine g_ci (g_runU S hK I (As := []) (rest := []) (met_J1_isEmpty l Γ ph 105 i (ad 5) (nAn w) (mc 0) _ _ hW.o5.1 (by omega)) (g_cwD (n := 0) hts q2119 q124 (by decide) (by decide +kernel) q2114 q2115 (g_declN (hK.N q2116 rfl)) q2117 q2118 ⟨Nat.le_of_ble_eq_true rfl, Nat.le_of_ble_eq_true rfl⟩) (g_recv hK I (g_at.of hW.o5.1) (ci := 24) rfl) rfl hl.1 rfl (Nat.le_of_ble_eq_true rfl) dX2_unclip_48 ⟨Nat.le_of_ble_eq_true rfl, Nat.le_of_ble_eq_true rfl⟩) I (fun r_48 ph1 H locs hp I => ?_)
    obtain ⟨hp, hph⟩ := hp
    rw [hph] at I
    have hp : r_48 = (b2i (decide (nAn w = 0))) := hp
    rw [hp]
    have J_79_1 : ∀ (x2 : Int32) (H : Heap) (locs : List Loc) (ls : Array Slot), (hx2 : x2 = (b2i (decide (nAn w = 0 ∨ ¬ w (132 + 0) = plc w 1)))) → g_I Γ ph s H locs → lv_has ls 3 [(1, .ref (ad (10 + 1))), (0, .ref (ad 0))] → W pg l e (g_rm 5 5 40) s m A below meth cd H locs 3 24 Q (F0 m 79 ls [.int x2]) := by
      intro x2 H locs ls hx2 I hl
      subst hx2
      refine lv_bipush (v := 11) hx hb dX2_unclip_79 (by decide) ?_
      refine lv_aload_n hx hb dX2_unclip_81 rfl (lv_at hl 0 rfl) ?_
      refine g_getN S hK I k_X3 (v := .int (w (125 + 3 * 1))) (g_at.of (hW.cl (c := 1) (by decide))) 1 (by decide) q212 rfl rfl dX2_unclip_82 ?_
      refine g_cvx (g_runSN S hK I (As := [.int (b2i (decide (nAn w = 0 ∨ ¬ w (132 + 0) = plc w 1))), .int 11, .int (w (125 + 3 * 1))]) (rest := []) (met_X1_refuse l Γ ph htr (decide (nAn w = 0 ∨ ¬ w (132 + 0) = plc w 1)) 11 (w (125 + 3 * 1))) ⟨va_cnB 3 hts (lw_meth q1791) rfl rfl rfl (hK.N q1940 rfl) (hts _ q120) (by decide +kernel) ⟨Nat.le_of_ble_eq_true rfl, Nat.le_of_ble_eq_true rfl⟩, hts _ q1790, trivial⟩ rfl hl.1 rfl (Nat.le_of_ble_eq_true rfl) dX2_unclip_85 ⟨Nat.le_of_ble_eq_true rfl, Nat.le_of_ble_eq_true rfl⟩) I (fun E9 ce9 q9 ph1 H locs hp I hcell hv9 hcl => ?_) (fun ph1 H locs hp I => ?_)
      · obtain ⟨rfl, hb9, hx9, hf9⟩ := hp
        have hb9 := of_decide_eq_true hb9
        exact g_out S hlk hex I hcell hv9 hcl (Nat.le_of_ble_eq_true rfl) (Nat.le_of_ble_eq_true rfl) hQ ⟨rfl, (11, (w (125 + 3 * 1))), (by rw [nUncl_eq hw, if_neg f1, if_neg f2, if_neg f3, if_pos hb9] <;> rfl), hx9, hf9⟩
      obtain ⟨hy, hp⟩ := hp
      rw [hp] at I
      have f4 := of_decide_eq_false hy
      refine lv_aload_n hx hb dX2_unclip_88 rfl (lv_at hl 1 rfl) ?_
      refine g_get S hK I k_X2 (v := .ref (ad 5)) (g_at.of hW.o0) 2 (by decide) q648 rfl rfl dX2_unclip_89 ?_
      have hnz : ¬ nAn w = 0 := fun z => f4 (Or.inl z)
      obtain ⟨n9, hn9⟩ : ∃ n, nAn w = n + 1 := ⟨nAn w - 1, by omega⟩
      have hL0 := hW.o5
      rw [hn9] at hL0
      refine g_cr (g_runV S hK I (As := []) (rest := []) (met_J24_removeFirst l Γ ph 105 i (ad 5) 200 n9 na (anI Γ w) (mc 0) (by decide) hL0) (cwV 0 hts (lw_V q2384 q2385 q2386 q148 q2387) rfl rfl rfl (by decide +kernel) ⟨Nat.le_of_ble_eq_true rfl, Nat.le_of_ble_eq_true rfl⟩) (g_recv hK I (g_at.of hW.o5.1) (ci := 24) rfl) rfl hl.1 rfl (Nat.le_of_ble_eq_true rfl) dX2_unclip_92 ⟨Nat.le_of_ble_eq_true rfl, Nat.le_of_ble_eq_true rfl⟩) I (fun r_92 ph1 H locs hp I => ?_)
      obtain ⟨hp, hL, hfr⟩ := hp
      have ho9 := unclW_o hw hn9
      have hb9 : (w (132 + 0)).toNatClampNeg < nN w ∧ nI (w (132 + 0)).toNatClampNeg = w (132 + 0) := okHx hw (hw.2.2.2.2.2.2.2 0 (by omega))
      have hb8 := hb9.1
      generalize ph1 = P_3 at I hL hfr
      have hG : g_frR i ph P_3 := g_frR.of hfr (by simp)
      obtain ⟨na_4, mc_5, hW⟩ : ∃ x y, g_Wl Γ P_3 i ad x y (unclW w) := ⟨_, _, hW.puta hw hL hfr ho9.1 (ho9.2.2 Γ) ho9.2.1⟩
      have hF : g_frR i ph P_3 := hG
      have eR : nN (unclW w) = nN w ∧ nLa (unclW w) = nLa w := by refine ⟨nN_eq ?_, nLa_eq ?_⟩ <;> exact ho9.2.1 _ (by omega)
      have eN : nN (unclW w) = nN w := eR.1
      have eL : nLa (unclW w) = nLa w := eR.2
      have hw : WF (unclW w) := (hw.uncl (by omega))
      have hp : r_92 = (g_bx Γ (w (132 + 0)).toNatClampNeg) := hp
      rw [hp]
      refine g_castI S hK q1200 (g_recvB hK I (by omega)) dX2_unclip_95 ?_
      refine g_ci (g_runV S hK I (As := []) (rest := []) (met_J22_intValue l Γ P_3 (w (132 + 0)).toNatClampNeg (by omega)) (cwV 0 hts (lw_V q1201 q1202 q1203 q146 q1204) rfl rfl rfl (by decide +kernel) ⟨Nat.le_of_ble_eq_true rfl, Nat.le_of_ble_eq_true rfl⟩) (g_recvB hK I (by omega)) rfl hl.1 rfl (Nat.le_of_ble_eq_true rfl) dX2_unclip_98 ⟨Nat.le_of_ble_eq_true rfl, Nat.le_of_ble_eq_true rfl⟩) I (fun r_98 ph1 H locs hp I => ?_)
      obtain ⟨hp, hph⟩ := hp
      rw [hph] at I
      have hp : r_98 = (w (132 + 0)) := hp.trans hb9.2
      rw [hp]
      refine lv_istore_n (lv' := [(2, .int (w (132 + 0))), (1, .ref (ad (10 + 1))), (0, .ref (ad 0))]) hx hb dX2_unclip_101 rfl hl (by decide) rfl (fun ls hl => ?_)
      refine lv_aload_n hx hb dX2_unclip_102 rfl (lv_at hl 2 rfl) ?_
      refine g_get S hK I k_X2 (v := .ref (ad 5)) (g_at.of hW.o0) 2 (by decide) q648 rfl rfl dX2_unclip_103 ?_
      refine g_ci (g_runV S hK I (As := []) (rest := []) (met_J24_size l Γ P_3 105 i (ad 5) (mc_5 0) (nI (nAn (unclW w))) _ _ hW.o5.1) (cwV 0 hts (lw_V q2372 q767 q768 q148 q769) rfl rfl rfl (by decide +kernel) ⟨Nat.le_of_ble_eq_true rfl, Nat.le_of_ble_eq_true rfl⟩) (g_recv hK I (g_at.of hW.o5.1) (ci := 24) rfl) rfl hl.1 rfl (Nat.le_of_ble_eq_true rfl) dX2_unclip_106 ⟨Nat.le_of_ble_eq_true rfl, Nat.le_of_ble_eq_true rfl⟩) I (fun r_106 ph1 H locs hp I => ?_)
      obtain ⟨hp, hph⟩ := hp
      rw [hph] at I
      have hp : r_106 = (nI (nAn (unclW w))) := hp
      rw [hp]
      exact g_iret S hr hlk I dX2_unclip_109 (Nat.le_of_ble_eq_true rfl) (Nat.le_of_ble_eq_true rfl) hQ ⟨_, rfl, (by rw [nUncl_eq hw0, if_neg f1, if_neg f2, if_neg f3, if_neg f4]), (by rw [ho9.1]; unfold unclW; rw [shN_n (by omega), upd_s, hw0.2.2.1.1, hn9, nI_pred]), ⟨_, _, hW, hF⟩⟩
    refine lv_if_ne (tgt := 74) hx hb dX2_unclip_51 (by decide) (fun c_51 => ?_) (fun c_51 => ?_)
    · have p_51 := of_decide_eq_true ((b2i_ne0 _).mp c_51)
      have c_51 := p_51
      refine lv_iconst (v := 1) hx hb dX2_unclip_74 (by decide) ?_
      refine lv_goto (tgt := 79) hx hb dX2_unclip_75 (by decide) ?_
      exact J_79_1 1 _ _ _ (by simp [b2i, c_51]) I (lv_sub hl [0, 1] rfl)
    · have p_51 := of_decide_eq_false ((b2i_eq0 _).mp c_51)
      have c_51 := p_51
      refine lv_aload_n hx hb dX2_unclip_54 rfl (lv_at hl 1 rfl) ?_
      refine g_get S hK I k_X2 (v := .ref (ad 5)) (g_at.of hW.o0) 2 (by decide) q648 rfl rfl dX2_unclip_55 ?_
      have hne : ¬ nAn w = 0 := by assumption
      have hln := ll_first hW.o5 hne
      have hb9 : (w (132 + 0)).toNatClampNeg < nN w ∧ nI (w (132 + 0)).toNatClampNeg = w (132 + 0) := okHx hw (hw.2.2.2.2.2.2.2 0 (by omega))
      have hb8 := hb9.1
      refine g_cr (g_runV S hK I (As := []) (rest := []) (met_J24_getFirst l Γ ph 105 i (ad 5) 200 i (na 0) (anI Γ w 0) (mc 0) (nI (nAn w)) _ _ _ hln.1 hln.2) (cwV 0 hts (lw_V q2137 q2138 q2139 q148 q2140) rfl rfl rfl (by decide +kernel) ⟨Nat.le_of_ble_eq_true rfl, Nat.le_of_ble_eq_true rfl⟩) (g_recv hK I (g_at.of hW.o5.1) (ci := 24) rfl) rfl hl.1 rfl (Nat.le_of_ble_eq_true rfl) dX2_unclip_58 ⟨Nat.le_of_ble_eq_true rfl, Nat.le_of_ble_eq_true rfl⟩) I (fun r_58 ph1 H locs hp I => ?_)
      obtain ⟨hp, hph⟩ := hp
      rw [hph] at I
      have hp : r_58 = (g_bx Γ (w (132 + 0)).toNatClampNeg) := hp
      rw [hp]
      refine g_castI S hK q1200 (g_recvB hK I (by omega)) dX2_unclip_61 ?_
      refine g_ci (g_runV S hK I (As := []) (rest := []) (met_J22_intValue l Γ ph (w (132 + 0)).toNatClampNeg (by omega)) (cwV 0 hts (lw_V q1201 q1202 q1203 q146 q1204) rfl rfl rfl (by decide +kernel) ⟨Nat.le_of_ble_eq_true rfl, Nat.le_of_ble_eq_true rfl⟩) (g_recvB hK I (by omega)) rfl hl.1 rfl (Nat.le_of_ble_eq_true rfl) dX2_unclip_64 ⟨Nat.le_of_ble_eq_true rfl, Nat.le_of_ble_eq_true rfl⟩) I (fun r_64 ph1 H locs hp I => ?_)
      obtain ⟨hp, hph⟩ := hp
      rw [hph] at I
      have hp : r_64 = (w (132 + 0)) := hp.trans hb9.2
      rw [hp]
      refine lv_aload_n hx hb dX2_unclip_67 rfl (lv_at hl 0 rfl) ?_
      refine g_getN S hK I k_X3 (v := .int (w (125 + 3 * 1))) (g_at.of (hW.cl (c := 1) (by decide))) 1 (by decide) q212 rfl rfl dX2_unclip_68 ?_
      refine lv_icmp_eq (tgt := 78) hx hb dX2_unclip_71 (by decide) (fun c_71 => ?_) (fun c_71 => ?_)
      · refine lv_iconst (v := 0) hx hb dX2_unclip_78 (by decide) ?_
        exact J_79_1 0 _ _ _ (by rw [show plc w 1 = w (125 + 3 * 1) from rfl]; simp [b2i, c_51, c_71]) I (lv_sub hl [0, 1] rfl)
      · refine lv_iconst (v := 1) hx hb dX2_unclip_74 (by decide) ?_
        refine lv_goto (tgt := 79) hx hb dX2_unclip_75 (by decide) ?_
        exact J_79_1 1 _ _ _ (by rw [show plc w 1 = w (125 + 3 * 1) from rfl]; simp [b2i, c_51, c_71]) I (lv_sub hl [0, 1] rfl)
  refine lv_icmp_ne (tgt := 37) hx hb dX2_unclip_30 (by decide) (fun c_30 => ?_) (fun c_30 => ?_)
  · refine lv_iconst (v := 0) hx hb dX2_unclip_37 (by decide) ?_
    exact J_38_0 0 _ _ _ (by rw [show plc w 1 = w (125 + 3 * 1) from rfl]; simp [b2i, c_30]) I (lv_sub hl [0, 1] rfl)
  · refine lv_iconst (v := 1) hx hb dX2_unclip_33 (by decide) ?_
    refine lv_goto (tgt := 38) hx hb dX2_unclip_34 (by decide) ?_
    exact J_38_0 1 _ _ _ (by rw [show plc w 1 = w (125 + 3 * 1) from rfl]; simp [b2i, c_30]) I (lv_sub hl [0, 1] rfl)

set_option maxHeartbeats 4000000 in
set_option maxRecDepth 100000 in
theorem met_X2_takes (l : Launch) (Γ : g_C) (htr : l.stackTraces = false) (ph : g_H) (i : Nat) (ad na : Nat → Nat) (mc : Nat → Int32) (w : m_w) (c n : Int32)  (hW : g_Wl Γ ph i ad na mc w) (hw : WF w) (hc : vp_in c 2) (hn : vp_in n (nLa w)) : g_Met l yX2_takes (ws_ yX2_takes cX2_takes 4 (some .int)) (g_rm 5 3 24) Γ [.ref (ad 0), .int c, .int n] ph (g_oi (fun rv_ ph' => nTake w c n = none ∧ rv_ = (bits (carr (takeW w c n) c)) ∧ ∃ na' mc', g_Wl Γ ph' i ad na' mc' (takeW w c n) ∧ g_frR i ph ph')) (xR (nTake w c n) ph) := by
  refine g_start (y := yX2_takes) (cc := cX2_takes) (maxL := 4) (ret := (some .int)) (rm := g_rm 5 3 24) (by decide) (Nat.le_of_ble_eq_true rfl) ?_
  intro pg e s m A below meth cd ls Q hQ S hr hlk hex hnm hK I hl
  have hx := S.1
  have hb := S.2.1
  have hown := S.2.2.2.1
  have hts := S.2.2.2.2
  have S : CallFix pg m cd cX2_takes 4 s A lw_all "CrumblingWall$Wall" := S
  have hl : lv_has ls 4 [(0, .ref (ad 0)), (1, .int c), (2, .int n)] := hl
  have hwc := hw.1; have hwl := hw.2.1; have hwa := hw.2.2.1
  have hc2 := (okC hc).1
  have hn1 := okLx hw hn
  have hn2 := hn1.1
  have hw0 := hw
  refine lv_aload_n hx hb dX2_takes_0 rfl (lv_at hl 0 rfl) ?_
  refine g_get S hK I k_X2 (v := .ref (ad 3)) (g_at.of hW.o0) 1 (by decide) q646 rfl rfl dX2_takes_1 ?_
  refine lv_iload_n hx hb dX2_takes_4 rfl (lv_at hl 2 rfl) ?_
  refine g_cr (g_runV S hK I (As := [.int n]) (rest := []) (by have z := (met_w_get3 l Γ ph i ad na mc w hW hw n.toNatClampNeg hn1.1); rw [hn1.2] at z; exact z) (cwV 1 hts (lw_V q883 q793 q3509 q130 q795) rfl rfl rfl (by decide +kernel) ⟨Nat.le_of_ble_eq_true rfl, Nat.le_of_ble_eq_true rfl⟩) (g_recv hK I (g_at.of hW.o3) (ci := 21) rfl) rfl hl.1 rfl (Nat.le_of_ble_eq_true rfl) dX2_takes_5 ⟨Nat.le_of_ble_eq_true rfl, Nat.le_of_ble_eq_true rfl⟩) I (fun r_5 ph1 H locs hp I => ?_)
  obtain ⟨hp, hph⟩ := hp
  rw [hph] at I
  have hp : r_5 = (ad (20 + n.toNatClampNeg)) := hp
  rw [hp]
  refine g_castS S hK (ci := 10) rfl q1559 (g_recv hK I (g_at.of (hW.la (k := n.toNatClampNeg) (by omega))) (ci := 10) rfl) dX2_takes_8 ?_
  refine lv_astore_n (lv' := [(3, .ref (ad (20 + n.toNatClampNeg))), (0, .ref (ad 0)), (1, .int c), (2, .int n)]) hx hb dX2_takes_11 rfl hl (by decide) rfl (fun ls hl => ?_)
  refine lv_aload_n hx hb dX2_takes_12 rfl (lv_at hl 1 rfl) ?_
  refine lv_iload_n hx hb dX2_takes_13 rfl (lv_at hl 2 rfl) ?_
  refine g_cr (g_runV S hK I (As := [.int c]) (rest := []) (met_X2_climber l Γ htr ph i ad na mc w c hW hw  hc) (cwV 1 hts (lw_V q782 q783 q784 q121 q785) rfl rfl rfl (by decide +kernel) ⟨Nat.le_of_ble_eq_true rfl, Nat.le_of_ble_eq_true rfl⟩) (g_recv hK I (g_at.of hW.o0) (ci := 1) rfl) rfl hl.1 rfl (Nat.le_of_ble_eq_true rfl) dX2_takes_14 ⟨Nat.le_of_ble_eq_true rfl, Nat.le_of_ble_eq_true rfl⟩) I (fun r_14 ph1 H locs hp I => ?_)
  obtain ⟨hp, hph⟩ := hp
  rw [hph] at I
  have hp : r_14 = (ad (10 + c.toNatClampNeg)) := hp
  rw [hp]
  refine g_ci (g_runV S hK I (As := []) (rest := []) (met_X3_isHurt l Γ htr ph i ad na mc w c.toNatClampNeg hW hw  (by omega)) (cwV 0 hts (lw_V q1936 q1937 q1938 q122 q1939) rfl rfl rfl (by decide +kernel) ⟨Nat.le_of_ble_eq_true rfl, Nat.le_of_ble_eq_true rfl⟩) (g_recv hK I (g_at.of (hW.cl (c := c.toNatClampNeg) (by omega))) (ci := 2) rfl) rfl hl.1 rfl (Nat.le_of_ble_eq_true rfl) dX2_takes_17 ⟨Nat.le_of_ble_eq_true rfl, Nat.le_of_ble_eq_true rfl⟩) I (fun r_17 ph1 H locs hp I => ?_)
  obtain ⟨hp, hph⟩ := hp
  rw [hph] at I
  have hp : r_17 = (b2i (decide ((w (125 + 3 * c.toNatClampNeg + 1)) = 2))) := hp
  rw [hp]
  refine lv_iconst (v := 1) hx hb dX2_takes_20 (by decide) ?_
  refine lv_iconst (v := 0) hx hb dX2_takes_21 (by decide) ?_
  refine g_cvx (g_runSN S hK I (As := [.int (b2i (decide ((w (125 + 3 * c.toNatClampNeg + 1)) = 2))), .int 1, .int 0]) (rest := []) (met_X1_refuse l Γ ph htr (decide (cX w c 1 = 2)) 1 0) ⟨va_cnB 3 hts (lw_meth q1791) rfl rfl rfl (hK.N q1940 rfl) (hts _ q120) (by decide +kernel) ⟨Nat.le_of_ble_eq_true rfl, Nat.le_of_ble_eq_true rfl⟩, hts _ q1790, trivial⟩ rfl hl.1 rfl (Nat.le_of_ble_eq_true rfl) dX2_takes_22 ⟨Nat.le_of_ble_eq_true rfl, Nat.le_of_ble_eq_true rfl⟩) I (fun E9 ce9 q9 ph1 H locs hp I hcell hv9 hcl => ?_) (fun ph1 H locs hp I => ?_)
  · obtain ⟨rfl, hb9, hx9, hf9⟩ := hp
    have hb9 := of_decide_eq_true hb9
    exact g_out S hlk hex I hcell hv9 hcl (Nat.le_of_ble_eq_true rfl) (Nat.le_of_ble_eq_true rfl) hQ ⟨rfl, (1, 0), (by rw [nTake_eq, if_pos hb9] <;> rfl), hx9, hf9⟩
  obtain ⟨hy, hp⟩ := hp
  rw [hp] at I
  have f1 := of_decide_eq_false hy
  refine lv_aload_n hx hb dX2_takes_25 rfl (lv_at hl 1 rfl) ?_
  refine lv_iload_n hx hb dX2_takes_26 rfl (lv_at hl 2 rfl) ?_
  refine lv_aload_n hx hb dX2_takes_27 rfl (lv_at hl 0 rfl) ?_
  refine g_ci (g_runV S hK I (As := [.int c, .ref (ad (20 + n.toNatClampNeg))]) (rest := []) (met_X2_liesWith l Γ htr ph i ad na mc w c n.toNatClampNeg hW hw  hc hn1.1) (cwV 2 hts (lw_V q2417 q2419 qs39 q121 q2420) rfl rfl rfl (by decide +kernel) ⟨Nat.le_of_ble_eq_true rfl, Nat.le_of_ble_eq_true rfl⟩) (g_recv hK I (g_at.of hW.o0) (ci := 1) rfl) rfl hl.1 rfl (Nat.le_of_ble_eq_true rfl) dX2_takes_28 ⟨Nat.le_of_ble_eq_true rfl, Nat.le_of_ble_eq_true rfl⟩) I (fun r_28 ph1 H locs hp I => ?_)
  obtain ⟨hp, hph⟩ := hp
  rw [hph] at I
  have hp : r_28 = (b2i (lies w c (nI n.toNatClampNeg))) := hp
  rw [hp]
  rw [hn1.2]
  have J_39_0 : ∀ (x1 : Int32) (H : Heap) (locs : List Loc) (ls : Array Slot), (hx1 : x1 = (b2i (decide (lies w c n = false)))) → g_I Γ ph s H locs → lv_has ls 4 [(3, .ref (ad (20 + n.toNatClampNeg))), (0, .ref (ad 0)), (1, .int c), (2, .int n)] → W pg l e (g_rm 5 3 24) s m A below meth cd H locs 1 8 Q (F0 m 39 ls [.int x1]) := by
    intro x1 H locs ls hx1 I hl
    subst hx1
    refine lv_bipush (v := 13) hx hb dX2_takes_39 (by decide) ?_
    refine lv_iload_n hx hb dX2_takes_41 rfl (lv_at hl 3 rfl) ?_
    refine g_cvx (g_runSN S hK I (As := [.int (b2i (decide (lies w c n = false))), .int 13, .int n]) (rest := []) (met_X1_refuse l Γ ph htr (decide (lies w c n = false)) 13 n) ⟨va_cnB 3 hts (lw_meth q1791) rfl rfl rfl (hK.N q1940 rfl) (hts _ q120) (by decide +kernel) ⟨Nat.le_of_ble_eq_true rfl, Nat.le_of_ble_eq_true rfl⟩, hts _ q1790, trivial⟩ rfl hl.1 rfl (Nat.le_of_ble_eq_true rfl) dX2_takes_42 ⟨Nat.le_of_ble_eq_true rfl, Nat.le_of_ble_eq_true rfl⟩) I (fun E9 ce9 q9 ph1 H locs hp I hcell hv9 hcl => ?_) (fun ph1 H locs hp I => ?_)
    · obtain ⟨rfl, hb9, hx9, hf9⟩ := hp
      have hb9 := of_decide_eq_true hb9
      exact g_out S hlk hex I hcell hv9 hcl (Nat.le_of_ble_eq_true rfl) (Nat.le_of_ble_eq_true rfl) hQ ⟨rfl, (13, n), (by rw [nTake_eq, if_neg f1, if_pos hb9] <;> rfl), hx9, hf9⟩
    obtain ⟨hy, hp⟩ := hp
    rw [hp] at I
    have f2 := of_decide_eq_false hy
    refine lv_aload_n hx hb dX2_takes_45 rfl (lv_at hl 1 rfl) ?_
    refine lv_iload_n hx hb dX2_takes_46 rfl (lv_at hl 2 rfl) ?_
    refine g_ci (g_runV S hK I (As := [.int c]) (rest := []) (met_X2_carriedBy l Γ htr ph i ad na mc w c hW hw  ) (cwV 1 hts (lw_V q1948 q1913 q1914 q121 q1915) rfl rfl rfl (by decide +kernel) ⟨Nat.le_of_ble_eq_true rfl, Nat.le_of_ble_eq_true rfl⟩) (g_recv hK I (g_at.of hW.o0) (ci := 1) rfl) rfl hl.1 rfl (Nat.le_of_ble_eq_true rfl) dX2_takes_47 ⟨Nat.le_of_ble_eq_true rfl, Nat.le_of_ble_eq_true rfl⟩) I (fun r_47 ph1 H locs hp I => ?_)
    obtain ⟨hp, hph⟩ := hp
    rw [hph] at I
    have hp : r_47 = (carr w c) := hp
    rw [hp]
    obtain ⟨q16, hq16, eq16⟩ := carr16 hw (c := c)
    rw [eq16]
    refine g_ci (g_runS S hK I (As := [.int (nI q16)]) (rest := []) (met_J22_bitCount l Γ ph q16 hq16) (va_cwS 1 hts (lw_S q1949 q1950 q146 q1951) rfl rfl rfl (by decide +kernel) ⟨Nat.le_of_ble_eq_true rfl, Nat.le_of_ble_eq_true rfl⟩) rfl hl.1 rfl (Nat.le_of_ble_eq_true rfl) dX2_takes_50 ⟨Nat.le_of_ble_eq_true rfl, Nat.le_of_ble_eq_true rfl⟩) I (fun r_50 ph1 H locs hp I => ?_)
    obtain ⟨hp, hph⟩ := hp
    rw [hph] at I
    have hp : r_50 = bits (carr w c) := by rw [eq16]; exact hp
    rw [hp]
    refine lv_iconst (v := 2) hx hb dX2_takes_53 (by decide) ?_
    have J_62_1 : ∀ (x2 : Int32) (H : Heap) (locs : List Loc) (ls : Array Slot), (hx2 : x2 = (b2i (decide (bits (carr w c) = 2)))) → g_I Γ ph s H locs → lv_has ls 4 [(3, .ref (ad (20 + n.toNatClampNeg))), (0, .ref (ad 0)), (1, .int c), (2, .int n)] → W pg l e (g_rm 5 3 24) s m A below meth cd H locs 2 16 Q (F0 m 62 ls [.int x2]) := by
      intro x2 H locs ls hx2 I hl
      subst hx2
      refine lv_bipush (v := 14) hx hb dX2_takes_62 (by decide) ?_
      refine lv_iconst (v := 0) hx hb dX2_takes_64 (by decide) ?_
      refine g_cvx (g_runSN S hK I (As := [.int (b2i (decide (bits (carr w c) = 2))), .int 14, .int 0]) (rest := []) (met_X1_refuse l Γ ph htr (decide (bits (carr w c) = 2)) 14 0) ⟨va_cnB 3 hts (lw_meth q1791) rfl rfl rfl (hK.N q1940 rfl) (hts _ q120) (by decide +kernel) ⟨Nat.le_of_ble_eq_true rfl, Nat.le_of_ble_eq_true rfl⟩, hts _ q1790, trivial⟩ rfl hl.1 rfl (Nat.le_of_ble_eq_true rfl) dX2_takes_65 ⟨Nat.le_of_ble_eq_true rfl, Nat.le_of_ble_eq_true rfl⟩) I (fun E9 ce9 q9 ph1 H locs hp I hcell hv9 hcl => ?_) (fun ph1 H locs hp I => ?_)
      · obtain ⟨rfl, hb9, hx9, hf9⟩ := hp
        have hb9 := of_decide_eq_true hb9
        exact g_out S hlk hex I hcell hv9 hcl (Nat.le_of_ble_eq_true rfl) (Nat.le_of_ble_eq_true rfl) hQ ⟨rfl, (14, 0), (by rw [nTake_eq, if_neg f1, if_neg f2, if_pos hb9] <;> rfl), hx9, hf9⟩
      obtain ⟨hy, hp⟩ := hp
      rw [hp] at I
      have f3 := of_decide_eq_false hy
      refine lv_aload_n hx hb dX2_takes_68 rfl (lv_at hl 0 rfl) ?_
      refine lv_iload_n hx hb dX2_takes_69 rfl (lv_at hl 2 rfl) ?_
      refine g_putN S hK I k_X12 (v := .int c) (hW.la (k := n.toNatClampNeg) (by omega)) 2 (by decide) q1576 rfl rfl rfl rfl (Nat.le_of_ble_eq_true rfl) dX2_takes_70 (fun H locs I => ?_)
      obtain ⟨P_3, I, hW, hG⟩ : ∃ zz, g_I Γ zz s H locs ∧ g_Wl Γ zz i ad na mc (upd w (105 + 5 * n.toNatClampNeg + 1) c) ∧ g_frR i ph zz := ⟨_, I, (hW.putl_2 hw (k := n.toNatClampNeg) (by omega)), g_frR.put⟩
      have hF : g_frR i ph P_3 := hG
      have eR : nN (upd w (105 + 5 * n.toNatClampNeg + 1) c) = nN w ∧ nLa (upd w (105 + 5 * n.toNatClampNeg + 1) c) = nLa w := by refine ⟨nN_eq ?_, nLa_eq ?_⟩ <;> (first | rfl | (have hb4 := hw.2.1.2; have hb20 := hw.1.2; exact upd_n (by omega)))
      have eN : nN (upd w (105 + 5 * n.toNatClampNeg + 1) c) = nN w := eR.1
      have eL : nLa (upd w (105 + 5 * n.toNatClampNeg + 1) c) = nLa w := eR.2
      have hw : WF (upd w (105 + 5 * n.toNatClampNeg + 1) c) := (hw.take hc hn)
      refine lv_aload_n hx hb dX2_takes_73 rfl (lv_at hl 1 rfl) ?_
      refine lv_iload_n hx hb dX2_takes_74 rfl (lv_at hl 2 rfl) ?_
      refine g_ci (g_runV S hK I (As := [.int c]) (rest := []) (met_X2_carriedBy l Γ htr P_3 i ad na mc (upd w (105 + 5 * n.toNatClampNeg + 1) c) c hW hw  ) (cwV 1 hts (lw_V q1948 q1913 q1914 q121 q1915) rfl rfl rfl (by decide +kernel) ⟨Nat.le_of_ble_eq_true rfl, Nat.le_of_ble_eq_true rfl⟩) (g_recv hK I (g_at.of hW.o0) (ci := 1) rfl) rfl hl.1 rfl (Nat.le_of_ble_eq_true rfl) dX2_takes_75 ⟨Nat.le_of_ble_eq_true rfl, Nat.le_of_ble_eq_true rfl⟩) I (fun r_75 ph1 H locs hp I => ?_)
      obtain ⟨hp, hph⟩ := hp
      rw [hph] at I
      have hp : r_75 = (carr (upd w (105 + 5 * n.toNatClampNeg + 1) c) c) := hp
      rw [hp]
      obtain ⟨q16, hq16, eq16⟩ := carr16 hw (c := c)
      rw [eq16]
      refine g_ci (g_runS S hK I (As := [.int (nI q16)]) (rest := []) (met_J22_bitCount l Γ P_3 q16 hq16) (va_cwS 1 hts (lw_S q1949 q1950 q146 q1951) rfl rfl rfl (by decide +kernel) ⟨Nat.le_of_ble_eq_true rfl, Nat.le_of_ble_eq_true rfl⟩) rfl hl.1 rfl (Nat.le_of_ble_eq_true rfl) dX2_takes_78 ⟨Nat.le_of_ble_eq_true rfl, Nat.le_of_ble_eq_true rfl⟩) I (fun r_78 ph1 H locs hp I => ?_)
      obtain ⟨hp, hph⟩ := hp
      rw [hph] at I
      have hp : r_78 = bits (carr (upd w (105 + 5 * n.toNatClampNeg + 1) c) c) := by rw [eq16]; exact hp
      rw [hp]
      exact g_iret S hr hlk I dX2_takes_81 (Nat.le_of_ble_eq_true rfl) (Nat.le_of_ble_eq_true rfl) hQ ⟨_, rfl, (by rw [nTake_eq, if_neg f1, if_neg f2, if_neg f3]), rfl, ⟨_, _, hW, hF⟩⟩
    refine lv_icmp_ne (tgt := 61) hx hb dX2_takes_54 (by decide) (fun c_54 => ?_) (fun c_54 => ?_)
    · refine lv_iconst (v := 0) hx hb dX2_takes_61 (by decide) ?_
      exact J_62_1 0 _ _ _ (by simp [b2i, c_54]) I (lv_sub hl [0, 1, 2, 3] rfl)
    · refine lv_iconst (v := 1) hx hb dX2_takes_57 (by decide) ?_
      refine lv_goto (tgt := 62) hx hb dX2_takes_58 (by decide) ?_
      exact J_62_1 1 _ _ _ (by simp [b2i, c_54]) I (lv_sub hl [0, 1, 2, 3] rfl)
  refine lv_if_ne (tgt := 38) hx hb dX2_takes_31 (by decide) (fun c_31 => ?_) (fun c_31 => ?_)
  · have p_31 := (b2i_ne0 _).mp c_31
    refine lv_iconst (v := 0) hx hb dX2_takes_38 (by decide) ?_
    exact J_39_0 0 _ _ _ (by simp [b2i, p_31]) I (lv_sub hl [0, 1, 2, 3] rfl)
  · have p_31 := (b2i_eq0 _).mp c_31
    refine lv_iconst (v := 1) hx hb dX2_takes_34 (by decide) ?_
    refine lv_goto (tgt := 39) hx hb dX2_takes_35 (by decide) ?_
    exact J_39_0 1 _ _ _ (by simp [b2i, p_31]) I (lv_sub hl [0, 1, 2, 3] rfl)

set_option maxHeartbeats 4000000 in
set_option maxRecDepth 100000 in
theorem met_X2_puts (l : Launch) (Γ : g_C) (htr : l.stackTraces = false) (ph : g_H) (i : Nat) (ad na : Nat → Nat) (mc : Nat → Int32) (w : m_w) (c n : Int32)  (hW : g_Wl Γ ph i ad na mc w) (hw : WF w) (hc : vp_in c 2) (hn : vp_in n (nLa w)) : g_Met l yX2_puts (ws_ yX2_puts cX2_puts 4 (some .int)) (g_rm 5 3 24) Γ [.ref (ad 0), .int c, .int n] ph (g_oi (fun rv_ ph' => nPut w c n = none ∧ rv_ = (bits (carr (putW w c n) c)) ∧ ∃ na' mc', g_Wl Γ ph' i ad na' mc' (putW w c n) ∧ g_frR i ph ph')) (xR (nPut w c n) ph) := by
  refine g_start (y := yX2_puts) (cc := cX2_puts) (maxL := 4) (ret := (some .int)) (rm := g_rm 5 3 24) (by decide) (Nat.le_of_ble_eq_true rfl) ?_
  intro pg e s m A below meth cd ls Q hQ S hr hlk hex hnm hK I hl
  have hx := S.1
  have hb := S.2.1
  have hown := S.2.2.2.1
  have hts := S.2.2.2.2
  have S : CallFix pg m cd cX2_puts 4 s A lw_all "CrumblingWall$Wall" := S
  have hl : lv_has ls 4 [(0, .ref (ad 0)), (1, .int c), (2, .int n)] := hl
  have hwc := hw.1; have hwl := hw.2.1; have hwa := hw.2.2.1
  have hc2 := (okC hc).1
  have hn1 := okLx hw hn
  have hn2 := hn1.1
  have hw0 := hw
  refine lv_aload_n hx hb dX2_puts_0 rfl (lv_at hl 0 rfl) ?_
  refine g_get S hK I k_X2 (v := .ref (ad 3)) (g_at.of hW.o0) 1 (by decide) q646 rfl rfl dX2_puts_1 ?_
  refine lv_iload_n hx hb dX2_puts_4 rfl (lv_at hl 2 rfl) ?_
  refine g_cr (g_runV S hK I (As := [.int n]) (rest := []) (by have z := (met_w_get3 l Γ ph i ad na mc w hW hw n.toNatClampNeg hn1.1); rw [hn1.2] at z; exact z) (cwV 1 hts (lw_V q883 q793 q3509 q130 q795) rfl rfl rfl (by decide +kernel) ⟨Nat.le_of_ble_eq_true rfl, Nat.le_of_ble_eq_true rfl⟩) (g_recv hK I (g_at.of hW.o3) (ci := 21) rfl) rfl hl.1 rfl (Nat.le_of_ble_eq_true rfl) dX2_puts_5 ⟨Nat.le_of_ble_eq_true rfl, Nat.le_of_ble_eq_true rfl⟩) I (fun r_5 ph1 H locs hp I => ?_)
  obtain ⟨hp, hph⟩ := hp
  rw [hph] at I
  have hp : r_5 = (ad (20 + n.toNatClampNeg)) := hp
  rw [hp]
  refine g_castS S hK (ci := 10) rfl q1559 (g_recv hK I (g_at.of (hW.la (k := n.toNatClampNeg) (by omega))) (ci := 10) rfl) dX2_puts_8 ?_
  refine lv_astore_n (lv' := [(3, .ref (ad (20 + n.toNatClampNeg))), (0, .ref (ad 0)), (1, .int c), (2, .int n)]) hx hb dX2_puts_11 rfl hl (by decide) rfl (fun ls hl => ?_)
  refine lv_aload_n hx hb dX2_puts_12 rfl (lv_at hl 1 rfl) ?_
  refine lv_iload_n hx hb dX2_puts_13 rfl (lv_at hl 2 rfl) ?_
  refine g_cr (g_runV S hK I (As := [.int c]) (rest := []) (met_X2_climber l Γ htr ph i ad na mc w c hW hw  hc) (cwV 1 hts (lw_V q782 q783 q784 q121 q785) rfl rfl rfl (by decide +kernel) ⟨Nat.le_of_ble_eq_true rfl, Nat.le_of_ble_eq_true rfl⟩) (g_recv hK I (g_at.of hW.o0) (ci := 1) rfl) rfl hl.1 rfl (Nat.le_of_ble_eq_true rfl) dX2_puts_14 ⟨Nat.le_of_ble_eq_true rfl, Nat.le_of_ble_eq_true rfl⟩) I (fun r_14 ph1 H locs hp I => ?_)
  obtain ⟨hp, hph⟩ := hp
  rw [hph] at I
  have hp : r_14 = (ad (10 + c.toNatClampNeg)) := hp
  rw [hp]
  refine g_ci (g_runV S hK I (As := []) (rest := []) (met_X3_isHurt l Γ htr ph i ad na mc w c.toNatClampNeg hW hw  (by omega)) (cwV 0 hts (lw_V q1936 q1937 q1938 q122 q1939) rfl rfl rfl (by decide +kernel) ⟨Nat.le_of_ble_eq_true rfl, Nat.le_of_ble_eq_true rfl⟩) (g_recv hK I (g_at.of (hW.cl (c := c.toNatClampNeg) (by omega))) (ci := 2) rfl) rfl hl.1 rfl (Nat.le_of_ble_eq_true rfl) dX2_puts_17 ⟨Nat.le_of_ble_eq_true rfl, Nat.le_of_ble_eq_true rfl⟩) I (fun r_17 ph1 H locs hp I => ?_)
  obtain ⟨hp, hph⟩ := hp
  rw [hph] at I
  have hp : r_17 = (b2i (decide ((w (125 + 3 * c.toNatClampNeg + 1)) = 2))) := hp
  rw [hp]
  refine lv_iconst (v := 1) hx hb dX2_puts_20 (by decide) ?_
  refine lv_iconst (v := 0) hx hb dX2_puts_21 (by decide) ?_
  refine g_cvx (g_runSN S hK I (As := [.int (b2i (decide ((w (125 + 3 * c.toNatClampNeg + 1)) = 2))), .int 1, .int 0]) (rest := []) (met_X1_refuse l Γ ph htr (decide (cX w c 1 = 2)) 1 0) ⟨va_cnB 3 hts (lw_meth q1791) rfl rfl rfl (hK.N q1940 rfl) (hts _ q120) (by decide +kernel) ⟨Nat.le_of_ble_eq_true rfl, Nat.le_of_ble_eq_true rfl⟩, hts _ q1790, trivial⟩ rfl hl.1 rfl (Nat.le_of_ble_eq_true rfl) dX2_puts_22 ⟨Nat.le_of_ble_eq_true rfl, Nat.le_of_ble_eq_true rfl⟩) I (fun E9 ce9 q9 ph1 H locs hp I hcell hv9 hcl => ?_) (fun ph1 H locs hp I => ?_)
  · obtain ⟨rfl, hb9, hx9, hf9⟩ := hp
    have hb9 := of_decide_eq_true hb9
    exact g_out S hlk hex I hcell hv9 hcl (Nat.le_of_ble_eq_true rfl) (Nat.le_of_ble_eq_true rfl) hQ ⟨rfl, (1, 0), (by rw [nPut_eq, if_pos hb9] <;> rfl), hx9, hf9⟩
  obtain ⟨hy, hp⟩ := hp
  rw [hp] at I
  have f1 := of_decide_eq_false hy
  refine lv_aload_n hx hb dX2_puts_25 rfl (lv_at hl 1 rfl) ?_
  refine lv_iload_n hx hb dX2_puts_26 rfl (lv_at hl 2 rfl) ?_
  refine g_cr (g_runV S hK I (As := [.int c]) (rest := []) (met_X2_climber l Γ htr ph i ad na mc w c hW hw  hc) (cwV 1 hts (lw_V q782 q783 q784 q121 q785) rfl rfl rfl (by decide +kernel) ⟨Nat.le_of_ble_eq_true rfl, Nat.le_of_ble_eq_true rfl⟩) (g_recv hK I (g_at.of hW.o0) (ci := 1) rfl) rfl hl.1 rfl (Nat.le_of_ble_eq_true rfl) dX2_puts_27 ⟨Nat.le_of_ble_eq_true rfl, Nat.le_of_ble_eq_true rfl⟩) I (fun r_27 ph1 H locs hp I => ?_)
  obtain ⟨hp, hph⟩ := hp
  rw [hph] at I
  have hp : r_27 = (ad (10 + c.toNatClampNeg)) := hp
  rw [hp]
  refine g_ci (g_runV S hK I (As := []) (rest := []) (met_X3_isHanging l Γ htr ph i ad na mc w c.toNatClampNeg hW hw  (by omega)) (cwV 0 hts (lw_V q2160 q2161 q2162 q122 q2163) rfl rfl rfl (by decide +kernel) ⟨Nat.le_of_ble_eq_true rfl, Nat.le_of_ble_eq_true rfl⟩) (g_recv hK I (g_at.of (hW.cl (c := c.toNatClampNeg) (by omega))) (ci := 2) rfl) rfl hl.1 rfl (Nat.le_of_ble_eq_true rfl) dX2_puts_30 ⟨Nat.le_of_ble_eq_true rfl, Nat.le_of_ble_eq_true rfl⟩) I (fun r_30 ph1 H locs hp I => ?_)
  obtain ⟨hp, hph⟩ := hp
  rw [hph] at I
  have hp : r_30 = (b2i (decide ((w (125 + 3 * c.toNatClampNeg + 1)) = 1))) := hp
  rw [hp]
  refine lv_bipush (v := 9) hx hb dX2_puts_33 (by decide) ?_
  refine lv_iconst (v := 0) hx hb dX2_puts_35 (by decide) ?_
  refine g_cvx (g_runSN S hK I (As := [.int (b2i (decide ((w (125 + 3 * c.toNatClampNeg + 1)) = 1))), .int 9, .int 0]) (rest := []) (met_X1_refuse l Γ ph htr (decide (cX w c 1 = 1)) 9 0) ⟨va_cnB 3 hts (lw_meth q1791) rfl rfl rfl (hK.N q1940 rfl) (hts _ q120) (by decide +kernel) ⟨Nat.le_of_ble_eq_true rfl, Nat.le_of_ble_eq_true rfl⟩, hts _ q1790, trivial⟩ rfl hl.1 rfl (Nat.le_of_ble_eq_true rfl) dX2_puts_36 ⟨Nat.le_of_ble_eq_true rfl, Nat.le_of_ble_eq_true rfl⟩) I (fun E9 ce9 q9 ph1 H locs hp I hcell hv9 hcl => ?_) (fun ph1 H locs hp I => ?_)
  · obtain ⟨rfl, hb9, hx9, hf9⟩ := hp
    have hb9 := of_decide_eq_true hb9
    exact g_out S hlk hex I hcell hv9 hcl (Nat.le_of_ble_eq_true rfl) (Nat.le_of_ble_eq_true rfl) hQ ⟨rfl, (9, 0), (by rw [nPut_eq, if_neg f1, if_pos hb9] <;> rfl), hx9, hf9⟩
  obtain ⟨hy, hp⟩ := hp
  rw [hp] at I
  have f2 := of_decide_eq_false hy
  refine lv_aload_n hx hb dX2_puts_39 rfl (lv_at hl 1 rfl) ?_
  refine lv_iload_n hx hb dX2_puts_40 rfl (lv_at hl 2 rfl) ?_
  refine lv_aload_n hx hb dX2_puts_41 rfl (lv_at hl 0 rfl) ?_
  refine g_ci (g_runV S hK I (As := [.int c, .ref (ad (20 + n.toNatClampNeg))]) (rest := []) (met_X2_isCarriedBy l Γ htr ph i ad na mc w c n.toNatClampNeg hW hw  hn1.1) (cwV 2 hts (lw_V q2432 q2434 qs40 q121 q2435) rfl rfl rfl (by decide +kernel) ⟨Nat.le_of_ble_eq_true rfl, Nat.le_of_ble_eq_true rfl⟩) (g_recv hK I (g_at.of hW.o0) (ci := 1) rfl) rfl hl.1 rfl (Nat.le_of_ble_eq_true rfl) dX2_puts_42 ⟨Nat.le_of_ble_eq_true rfl, Nat.le_of_ble_eq_true rfl⟩) I (fun r_42 ph1 H locs hp I => ?_)
  obtain ⟨hp, hph⟩ := hp
  rw [hph] at I
  have hp : r_42 = (b2i (decide (lX w (nI n.toNatClampNeg) 1 = c))) := hp
  rw [hp]
  rw [hn1.2]
  have J_53_0 : ∀ (x1 : Int32) (H : Heap) (locs : List Loc) (ls : Array Slot), (hx1 : x1 = (b2i (decide (¬ lX w n 1 = c)))) → g_I Γ ph s H locs → lv_has ls 4 [(3, .ref (ad (20 + n.toNatClampNeg))), (0, .ref (ad 0)), (1, .int c), (2, .int n)] → W pg l e (g_rm 5 3 24) s m A below meth cd H locs 2 16 Q (F0 m 53 ls [.int x1]) := by
    intro x1 H locs ls hx1 I hl
    subst hx1
    refine lv_bipush (v := 13) hx hb dX2_puts_53 (by decide) ?_
    refine lv_iload_n hx hb dX2_puts_55 rfl (lv_at hl 3 rfl) ?_
    refine g_cvx (g_runSN S hK I (As := [.int (b2i (decide (¬ lX w n 1 = c))), .int 13, .int n]) (rest := []) (met_X1_refuse l Γ ph htr (decide (¬ lX w n 1 = c)) 13 n) ⟨va_cnB 3 hts (lw_meth q1791) rfl rfl rfl (hK.N q1940 rfl) (hts _ q120) (by decide +kernel) ⟨Nat.le_of_ble_eq_true rfl, Nat.le_of_ble_eq_true rfl⟩, hts _ q1790, trivial⟩ rfl hl.1 rfl (Nat.le_of_ble_eq_true rfl) dX2_puts_56 ⟨Nat.le_of_ble_eq_true rfl, Nat.le_of_ble_eq_true rfl⟩) I (fun E9 ce9 q9 ph1 H locs hp I hcell hv9 hcl => ?_) (fun ph1 H locs hp I => ?_)
    · obtain ⟨rfl, hb9, hx9, hf9⟩ := hp
      have hb9 := of_decide_eq_true hb9
      exact g_out S hlk hex I hcell hv9 hcl (Nat.le_of_ble_eq_true rfl) (Nat.le_of_ble_eq_true rfl) hQ ⟨rfl, (13, n), (by rw [nPut_eq, if_neg f1, if_neg f2, if_pos hb9] <;> rfl), hx9, hf9⟩
    obtain ⟨hy, hp⟩ := hp
    rw [hp] at I
    have f3 := of_decide_eq_false hy
    refine lv_aload_n hx hb dX2_puts_59 rfl (lv_at hl 0 rfl) ?_
    refine lv_iconst (v := (-1)) hx hb dX2_puts_60 (by decide) ?_
    refine g_putN S hK I k_X12 (v := .int (-1)) (hW.la (k := n.toNatClampNeg) (by omega)) 2 (by decide) q1576 rfl rfl rfl rfl (Nat.le_of_ble_eq_true rfl) dX2_puts_61 (fun H locs I => ?_)
    obtain ⟨P_2, I, hW, hG⟩ : ∃ zz, g_I Γ zz s H locs ∧ g_Wl Γ zz i ad na mc (upd w (105 + 5 * n.toNatClampNeg + 1) (-1)) ∧ g_frR i ph zz := ⟨_, I, (hW.putl_2 hw (k := n.toNatClampNeg) (by omega)), g_frR.put⟩
    have hF : g_frR i ph P_2 := hG
    have eR : nN (upd w (105 + 5 * n.toNatClampNeg + 1) (-1)) = nN w ∧ nLa (upd w (105 + 5 * n.toNatClampNeg + 1) (-1)) = nLa w := by refine ⟨nN_eq ?_, nLa_eq ?_⟩ <;> (first | rfl | (have hb4 := hw.2.1.2; have hb20 := hw.1.2; exact upd_n (by omega)))
    have eN : nN (upd w (105 + 5 * n.toNatClampNeg + 1) (-1)) = nN w := eR.1
    have eL : nLa (upd w (105 + 5 * n.toNatClampNeg + 1) (-1)) = nLa w := eR.2
    have hw : WF (upd w (105 + 5 * n.toNatClampNeg + 1) (-1)) := (by obtain ⟨j, h1, h2, h3⟩ := vp_j (hw.l4 hn) (by decide); rw [h3]; exact hw.lcarr h1 (Or.inl rfl))
    refine lv_aload_n hx hb dX2_puts_64 rfl (lv_at hl 0 rfl) ?_
    refine lv_aload_n hx hb dX2_puts_65 rfl (lv_at hl 1 rfl) ?_
    refine lv_iload_n hx hb dX2_puts_66 rfl (lv_at hl 2 rfl) ?_
    refine g_cr (g_runV S hK I (As := [.int c]) (rest := [.ref (ad (20 + n.toNatClampNeg))]) (met_X2_climber l Γ htr P_2 i ad na mc (upd w (105 + 5 * n.toNatClampNeg + 1) (-1)) c hW hw  hc) (cwV 1 hts (lw_V q782 q783 q784 q121 q785) rfl rfl rfl (by decide +kernel) ⟨Nat.le_of_ble_eq_true rfl, Nat.le_of_ble_eq_true rfl⟩) (g_recv hK I (g_at.of hW.o0) (ci := 1) rfl) rfl hl.1 rfl (Nat.le_of_ble_eq_true rfl) dX2_puts_67 ⟨Nat.le_of_ble_eq_true rfl, Nat.le_of_ble_eq_true rfl⟩) I (fun r_67 ph1 H locs hp I => ?_)
    obtain ⟨hp, hph⟩ := hp
    rw [hph] at I
    have hp : r_67 = (ad (10 + c.toNatClampNeg)) := hp
    rw [hp]
    refine g_getN S hK I k_X3 (v := .int ((upd w (105 + 5 * n.toNatClampNeg + 1) (-1)) (125 + 3 * c.toNatClampNeg))) (g_at.of (hW.cl (c := c.toNatClampNeg) (by omega))) 1 (by decide) q212 rfl rfl dX2_puts_70 ?_
    refine g_putN S hK I k_X12 (v := .int ((upd w (105 + 5 * n.toNatClampNeg + 1) (-1)) (125 + 3 * c.toNatClampNeg))) (hW.la (k := n.toNatClampNeg) (by omega)) 1 (by decide) q1574 rfl rfl rfl rfl (Nat.le_of_ble_eq_true rfl) dX2_puts_73 (fun H locs I => ?_)
    obtain ⟨P_3, I, hW, hG⟩ : ∃ zz, g_I Γ zz s H locs ∧ g_Wl Γ zz i ad na mc (upd (upd w (105 + 5 * n.toNatClampNeg + 1) (-1)) (105 + 5 * n.toNatClampNeg) ((upd w (105 + 5 * n.toNatClampNeg + 1) (-1)) (125 + 3 * c.toNatClampNeg))) ∧ g_frR i P_2 zz := ⟨_, I, (hW.putl_1 hw (k := n.toNatClampNeg) (by omega)), g_frR.put⟩
    have hF : g_frR i ph P_3 := hF.trans hG
    have eR : nN (upd (upd w (105 + 5 * n.toNatClampNeg + 1) (-1)) (105 + 5 * n.toNatClampNeg) ((upd w (105 + 5 * n.toNatClampNeg + 1) (-1)) (125 + 3 * c.toNatClampNeg))) = nN (upd w (105 + 5 * n.toNatClampNeg + 1) (-1)) ∧ nLa (upd (upd w (105 + 5 * n.toNatClampNeg + 1) (-1)) (105 + 5 * n.toNatClampNeg) ((upd w (105 + 5 * n.toNatClampNeg + 1) (-1)) (125 + 3 * c.toNatClampNeg))) = nLa (upd w (105 + 5 * n.toNatClampNeg + 1) (-1)) := by refine ⟨nN_eq ?_, nLa_eq ?_⟩ <;> (first | rfl | (have hb4 := hw.2.1.2; have hb20 := hw.1.2; exact upd_n (by omega)))
    have eN : nN (upd (upd w (105 + 5 * n.toNatClampNeg + 1) (-1)) (105 + 5 * n.toNatClampNeg) ((upd w (105 + 5 * n.toNatClampNeg + 1) (-1)) (125 + 3 * c.toNatClampNeg))) = nN w := eR.1.trans eN
    have eL : nLa (upd (upd w (105 + 5 * n.toNatClampNeg + 1) (-1)) (105 + 5 * n.toNatClampNeg) ((upd w (105 + 5 * n.toNatClampNeg + 1) (-1)) (125 + 3 * c.toNatClampNeg))) = nLa w := eR.2.trans eL
    have hw : WF (upd (upd w (105 + 5 * n.toNatClampNeg + 1) (-1)) (105 + 5 * n.toNatClampNeg) ((upd w (105 + 5 * n.toNatClampNeg + 1) (-1)) (125 + 3 * c.toNatClampNeg))) := (hw0.put hc hn)
    refine lv_aload_n hx hb dX2_puts_76 rfl (lv_at hl 1 rfl) ?_
    refine lv_iload_n hx hb dX2_puts_77 rfl (lv_at hl 2 rfl) ?_
    refine g_ci (g_runV S hK I (As := [.int c]) (rest := []) (met_X2_carriedBy l Γ htr P_3 i ad na mc (upd (upd w (105 + 5 * n.toNatClampNeg + 1) (-1)) (105 + 5 * n.toNatClampNeg) ((upd w (105 + 5 * n.toNatClampNeg + 1) (-1)) (125 + 3 * c.toNatClampNeg))) c hW hw  ) (cwV 1 hts (lw_V q1948 q1913 q1914 q121 q1915) rfl rfl rfl (by decide +kernel) ⟨Nat.le_of_ble_eq_true rfl, Nat.le_of_ble_eq_true rfl⟩) (g_recv hK I (g_at.of hW.o0) (ci := 1) rfl) rfl hl.1 rfl (Nat.le_of_ble_eq_true rfl) dX2_puts_78 ⟨Nat.le_of_ble_eq_true rfl, Nat.le_of_ble_eq_true rfl⟩) I (fun r_78 ph1 H locs hp I => ?_)
    obtain ⟨hp, hph⟩ := hp
    rw [hph] at I
    have hp : r_78 = (carr (upd (upd w (105 + 5 * n.toNatClampNeg + 1) (-1)) (105 + 5 * n.toNatClampNeg) ((upd w (105 + 5 * n.toNatClampNeg + 1) (-1)) (125 + 3 * c.toNatClampNeg))) c) := hp
    rw [hp]
    obtain ⟨q16, hq16, eq16⟩ := carr16 hw (c := c)
    rw [eq16]
    refine g_ci (g_runS S hK I (As := [.int (nI q16)]) (rest := []) (met_J22_bitCount l Γ P_3 q16 hq16) (va_cwS 1 hts (lw_S q1949 q1950 q146 q1951) rfl rfl rfl (by decide +kernel) ⟨Nat.le_of_ble_eq_true rfl, Nat.le_of_ble_eq_true rfl⟩) rfl hl.1 rfl (Nat.le_of_ble_eq_true rfl) dX2_puts_81 ⟨Nat.le_of_ble_eq_true rfl, Nat.le_of_ble_eq_true rfl⟩) I (fun r_81 ph1 H locs hp I => ?_)
    obtain ⟨hp, hph⟩ := hp
    rw [hph] at I
    have hp : r_81 = bits (carr (upd (upd w (105 + 5 * n.toNatClampNeg + 1) (-1)) (105 + 5 * n.toNatClampNeg) ((upd w (105 + 5 * n.toNatClampNeg + 1) (-1)) (125 + 3 * c.toNatClampNeg))) c) := by rw [eq16]; exact hp
    rw [hp]
    exact g_iret S hr hlk I dX2_puts_84 (Nat.le_of_ble_eq_true rfl) (Nat.le_of_ble_eq_true rfl) hQ ⟨_, rfl, (by rw [nPut_eq, if_neg f1, if_neg f2, if_neg f3]), rfl, ⟨_, _, hW, hF⟩⟩
  refine lv_if_ne (tgt := 52) hx hb dX2_puts_45 (by decide) (fun c_45 => ?_) (fun c_45 => ?_)
  · have p_45 := of_decide_eq_true ((b2i_ne0 _).mp c_45)
    have c_45 := p_45
    refine lv_iconst (v := 0) hx hb dX2_puts_52 (by decide) ?_
    exact J_53_0 0 _ _ _ (by simp [b2i, c_45]) I (lv_sub hl [0, 1, 2, 3] rfl)
  · have p_45 := of_decide_eq_false ((b2i_eq0 _).mp c_45)
    have c_45 := p_45
    refine lv_iconst (v := 1) hx hb dX2_puts_48 (by decide) ?_
    refine lv_goto (tgt := 53) hx hb dX2_puts_49 (by decide) ?_
    exact J_53_0 1 _ _ _ (by simp [b2i, c_45]) I (lv_sub hl [0, 1, 2, 3] rfl)

theorem litW_eq {w : m_w} {k : Int32} (h : lX w k 4 = 0 ∨ lX w k 4 = 1) : litW w k = upd w (105 + 5 * k.toNatClampNeg + 4) (if lX w k 4 = 0 then 1 else 0) := by
  unfold litW
  rcases h with h | h
  · rw [h]; rfl
  · rw [h]; rfl
theorem litW_ok {w : m_w} (hw : WF w) {k : Int32} (hk : vp_in k (nLa w)) : WF (litW w k) := by
  obtain ⟨j, h1, h2, h3⟩ := vp_j hk (Nat.lt_of_le_of_lt hw.2.1.2 (by decide))
  have h4 := (hw.2.2.2.2.2.2.1 j h1).2.2
  have h5 : j < 4 := by have := hw.2.1.2; omega
  rw [litW_eq (by unfold lX; rw [h3]; exact h4), h3]
  refine hw.llit h5 ?_
  split
  · exact Or.inr rfl
  · exact Or.inl rfl
theorem lit_fit (p : Prop) (d : Decidable p) : fits .boolean (.int (if p then 1 else 0)) = true := by split <;> rfl
theorem lit_nar (p : Prop) (d : Decidable p) : narrow .boolean (.int (if p then 1 else 0)) = .int (if p then 1 else 0) := by split <;> rfl
set_option maxHeartbeats 4000000 in
set_option maxRecDepth 100000 in
theorem met_X2_lights (l : Launch) (Γ : g_C) (htr : l.stackTraces = false) (ph : g_H) (i : Nat) (ad na : Nat → Nat) (mc : Nat → Int32) (w : m_w) (c n : Int32)  (hW : g_Wl Γ ph i ad na mc w) (hw : WF w) (hc : vp_in c 2) (hn : vp_in n (nLa w)) : g_Met l yX2_lights (ws_ yX2_lights cX2_lights 4 (some .int)) (g_rm 5 3 24) Γ [.ref (ad 0), .int c, .int n] ph (g_oi (fun rv_ ph' => nLight w c n = none ∧ rv_ = (if lX w n 4 = 0 then 1 else 0) ∧ ∃ na' mc', g_Wl Γ ph' i ad na' mc' (litW w n) ∧ g_frR i ph ph')) (xR (nLight w c n) ph) := by
  refine g_start (y := yX2_lights) (cc := cX2_lights) (maxL := 4) (ret := (some .int)) (rm := g_rm 5 3 24) (by decide) (Nat.le_of_ble_eq_true rfl) ?_
  intro pg e s m A below meth cd ls Q hQ S hr hlk hex hnm hK I hl
  have hx := S.1
  have hb := S.2.1
  have hown := S.2.2.2.1
  have hts := S.2.2.2.2
  have S : CallFix pg m cd cX2_lights 4 s A lw_all "CrumblingWall$Wall" := S
  have hl : lv_has ls 4 [(0, .ref (ad 0)), (1, .int c), (2, .int n)] := hl
  have hwc := hw.1; have hwl := hw.2.1; have hwa := hw.2.2.1
  have hc2 := (okC hc).1
  have hn1 := okLx hw hn
  have hn2 := hn1.1
  have hw0 := hw
  have hl4 : lX w n 4 = 0 ∨ lX w n 4 = 1 := by unfold lX; exact (hw.2.2.2.2.2.2.1 n.toNatClampNeg hn1.1).2.2
  refine lv_aload_n hx hb dX2_lights_0 rfl (lv_at hl 0 rfl) ?_
  refine g_get S hK I k_X2 (v := .ref (ad 3)) (g_at.of hW.o0) 1 (by decide) q646 rfl rfl dX2_lights_1 ?_
  refine lv_iload_n hx hb dX2_lights_4 rfl (lv_at hl 2 rfl) ?_
  refine g_cr (g_runV S hK I (As := [.int n]) (rest := []) (by have z := (met_w_get3 l Γ ph i ad na mc w hW hw n.toNatClampNeg hn1.1); rw [hn1.2] at z; exact z) (cwV 1 hts (lw_V q883 q793 q3509 q130 q795) rfl rfl rfl (by decide +kernel) ⟨Nat.le_of_ble_eq_true rfl, Nat.le_of_ble_eq_true rfl⟩) (g_recv hK I (g_at.of hW.o3) (ci := 21) rfl) rfl hl.1 rfl (Nat.le_of_ble_eq_true rfl) dX2_lights_5 ⟨Nat.le_of_ble_eq_true rfl, Nat.le_of_ble_eq_true rfl⟩) I (fun r_5 ph1 H locs hp I => ?_)
  obtain ⟨hp, hph⟩ := hp
  rw [hph] at I
  have hp : r_5 = (ad (20 + n.toNatClampNeg)) := hp
  rw [hp]
  refine g_castS S hK (ci := 10) rfl q1559 (g_recv hK I (g_at.of (hW.la (k := n.toNatClampNeg) (by omega))) (ci := 10) rfl) dX2_lights_8 ?_
  refine lv_astore_n (lv' := [(3, .ref (ad (20 + n.toNatClampNeg))), (0, .ref (ad 0)), (1, .int c), (2, .int n)]) hx hb dX2_lights_11 rfl hl (by decide) rfl (fun ls hl => ?_)
  refine lv_aload_n hx hb dX2_lights_12 rfl (lv_at hl 1 rfl) ?_
  refine lv_iload_n hx hb dX2_lights_13 rfl (lv_at hl 2 rfl) ?_
  refine g_cr (g_runV S hK I (As := [.int c]) (rest := []) (met_X2_climber l Γ htr ph i ad na mc w c hW hw  hc) (cwV 1 hts (lw_V q782 q783 q784 q121 q785) rfl rfl rfl (by decide +kernel) ⟨Nat.le_of_ble_eq_true rfl, Nat.le_of_ble_eq_true rfl⟩) (g_recv hK I (g_at.of hW.o0) (ci := 1) rfl) rfl hl.1 rfl (Nat.le_of_ble_eq_true rfl) dX2_lights_14 ⟨Nat.le_of_ble_eq_true rfl, Nat.le_of_ble_eq_true rfl⟩) I (fun r_14 ph1 H locs hp I => ?_)
  obtain ⟨hp, hph⟩ := hp
  rw [hph] at I
  have hp : r_14 = (ad (10 + c.toNatClampNeg)) := hp
  rw [hp]
  refine g_ci (g_runV S hK I (As := []) (rest := []) (met_X3_isHurt l Γ htr ph i ad na mc w c.toNatClampNeg hW hw  (by omega)) (cwV 0 hts (lw_V q1936 q1937 q1938 q122 q1939) rfl rfl rfl (by decide +kernel) ⟨Nat.le_of_ble_eq_true rfl, Nat.le_of_ble_eq_true rfl⟩) (g_recv hK I (g_at.of (hW.cl (c := c.toNatClampNeg) (by omega))) (ci := 2) rfl) rfl hl.1 rfl (Nat.le_of_ble_eq_true rfl) dX2_lights_17 ⟨Nat.le_of_ble_eq_true rfl, Nat.le_of_ble_eq_true rfl⟩) I (fun r_17 ph1 H locs hp I => ?_)
  obtain ⟨hp, hph⟩ := hp
  rw [hph] at I
  have hp : r_17 = (b2i (decide ((w (125 + 3 * c.toNatClampNeg + 1)) = 2))) := hp
  rw [hp]
  refine lv_iconst (v := 1) hx hb dX2_lights_20 (by decide) ?_
  refine lv_iconst (v := 0) hx hb dX2_lights_21 (by decide) ?_
  refine g_cvx (g_runSN S hK I (As := [.int (b2i (decide ((w (125 + 3 * c.toNatClampNeg + 1)) = 2))), .int 1, .int 0]) (rest := []) (met_X1_refuse l Γ ph htr (decide (cX w c 1 = 2)) 1 0) ⟨va_cnB 3 hts (lw_meth q1791) rfl rfl rfl (hK.N q1940 rfl) (hts _ q120) (by decide +kernel) ⟨Nat.le_of_ble_eq_true rfl, Nat.le_of_ble_eq_true rfl⟩, hts _ q1790, trivial⟩ rfl hl.1 rfl (Nat.le_of_ble_eq_true rfl) dX2_lights_22 ⟨Nat.le_of_ble_eq_true rfl, Nat.le_of_ble_eq_true rfl⟩) I (fun E9 ce9 q9 ph1 H locs hp I hcell hv9 hcl => ?_) (fun ph1 H locs hp I => ?_)
  · obtain ⟨rfl, hb9, hx9, hf9⟩ := hp
    have hb9 := of_decide_eq_true hb9
    exact g_out S hlk hex I hcell hv9 hcl (Nat.le_of_ble_eq_true rfl) (Nat.le_of_ble_eq_true rfl) hQ ⟨rfl, (1, 0), (by rw [nLight_eq, if_pos hb9] <;> rfl), hx9, hf9⟩
  obtain ⟨hy, hp⟩ := hp
  rw [hp] at I
  have f1 := of_decide_eq_false hy
  refine lv_aload_n hx hb dX2_lights_25 rfl (lv_at hl 1 rfl) ?_
  refine lv_iload_n hx hb dX2_lights_26 rfl (lv_at hl 2 rfl) ?_
  refine lv_aload_n hx hb dX2_lights_27 rfl (lv_at hl 0 rfl) ?_
  refine g_ci (g_runV S hK I (As := [.int c, .ref (ad (20 + n.toNatClampNeg))]) (rest := []) (met_X2_isCarriedBy l Γ htr ph i ad na mc w c n.toNatClampNeg hW hw  hn1.1) (cwV 2 hts (lw_V q2432 q2434 qs40 q121 q2435) rfl rfl rfl (by decide +kernel) ⟨Nat.le_of_ble_eq_true rfl, Nat.le_of_ble_eq_true rfl⟩) (g_recv hK I (g_at.of hW.o0) (ci := 1) rfl) rfl hl.1 rfl (Nat.le_of_ble_eq_true rfl) dX2_lights_28 ⟨Nat.le_of_ble_eq_true rfl, Nat.le_of_ble_eq_true rfl⟩) I (fun r_28 ph1 H locs hp I => ?_)
  obtain ⟨hp, hph⟩ := hp
  rw [hph] at I
  have hp : r_28 = (b2i (decide (lX w (nI n.toNatClampNeg) 1 = c))) := hp
  rw [hp]
  rw [hn1.2]
  have J_48_0 : ∀ (x1 : Int32) (H : Heap) (locs : List Loc) (ls : Array Slot), (hx1 : x1 = (b2i (decide ((decide (lX w n 1 = c) || lies w c n) = false)))) → g_I Γ ph s H locs → lv_has ls 4 [(3, .ref (ad (20 + n.toNatClampNeg))), (0, .ref (ad 0)), (1, .int c), (2, .int n)] → W pg l e (g_rm 5 3 24) s m A below meth cd H locs 1 8 Q (F0 m 48 ls [.int x1]) := by
    intro x1 H locs ls hx1 I hl
    subst hx1
    refine lv_bipush (v := 13) hx hb dX2_lights_48 (by decide) ?_
    refine lv_iload_n hx hb dX2_lights_50 rfl (lv_at hl 3 rfl) ?_
    refine g_cvx (g_runSN S hK I (As := [.int (b2i (decide ((decide (lX w n 1 = c) || lies w c n) = false))), .int 13, .int n]) (rest := []) (met_X1_refuse l Γ ph htr (decide ((decide (lX w n 1 = c) || lies w c n) = false)) 13 n) ⟨va_cnB 3 hts (lw_meth q1791) rfl rfl rfl (hK.N q1940 rfl) (hts _ q120) (by decide +kernel) ⟨Nat.le_of_ble_eq_true rfl, Nat.le_of_ble_eq_true rfl⟩, hts _ q1790, trivial⟩ rfl hl.1 rfl (Nat.le_of_ble_eq_true rfl) dX2_lights_51 ⟨Nat.le_of_ble_eq_true rfl, Nat.le_of_ble_eq_true rfl⟩) I (fun E9 ce9 q9 ph1 H locs hp I hcell hv9 hcl => ?_) (fun ph1 H locs hp I => ?_)
    · obtain ⟨rfl, hb9, hx9, hf9⟩ := hp
      have hb9 := of_decide_eq_true hb9
      exact g_out S hlk hex I hcell hv9 hcl (Nat.le_of_ble_eq_true rfl) (Nat.le_of_ble_eq_true rfl) hQ ⟨rfl, (13, n), (by rw [nLight_eq, if_neg f1, if_pos hb9] <;> rfl), hx9, hf9⟩
    obtain ⟨hy, hp⟩ := hp
    rw [hp] at I
    have f2 := of_decide_eq_false hy
    refine lv_aload_n hx hb dX2_lights_54 rfl (lv_at hl 0 rfl) ?_
    refine g_getN S hK I k_X12 (v := .int (w (105 + 5 * n.toNatClampNeg + 4))) (g_at.of (hW.la (k := n.toNatClampNeg) (by omega))) 4 (by decide) q1582 rfl rfl dX2_lights_55 ?_
    have J_73_1 : ∀ (x2 : Int32) (H : Heap) (locs : List Loc) (ls : Array Slot), (hx2 : x2 = (b2i (decide (lX w n 4 = 0 ∧ lX w n 3 = 0)))) → g_I Γ ph s H locs → lv_has ls 4 [(3, .ref (ad (20 + n.toNatClampNeg))), (0, .ref (ad 0)), (1, .int c), (2, .int n)] → W pg l e (g_rm 5 3 24) s m A below meth cd H locs 2 16 Q (F0 m 73 ls [.int x2]) := by
      intro x2 H locs ls hx2 I hl
      subst hx2
      refine lv_bipush (v := 15) hx hb dX2_lights_73 (by decide) ?_
      refine lv_iconst (v := 0) hx hb dX2_lights_75 (by decide) ?_
      refine g_cvx (g_runSN S hK I (As := [.int (b2i (decide (lX w n 4 = 0 ∧ lX w n 3 = 0))), .int 15, .int 0]) (rest := []) (met_X1_refuse l Γ ph htr (decide (lX w n 4 = 0 ∧ lX w n 3 = 0)) 15 0) ⟨va_cnB 3 hts (lw_meth q1791) rfl rfl rfl (hK.N q1940 rfl) (hts _ q120) (by decide +kernel) ⟨Nat.le_of_ble_eq_true rfl, Nat.le_of_ble_eq_true rfl⟩, hts _ q1790, trivial⟩ rfl hl.1 rfl (Nat.le_of_ble_eq_true rfl) dX2_lights_76 ⟨Nat.le_of_ble_eq_true rfl, Nat.le_of_ble_eq_true rfl⟩) I (fun E9 ce9 q9 ph1 H locs hp I hcell hv9 hcl => ?_) (fun ph1 H locs hp I => ?_)
      · obtain ⟨rfl, hb9, hx9, hf9⟩ := hp
        have hb9 := of_decide_eq_true hb9
        exact g_out S hlk hex I hcell hv9 hcl (Nat.le_of_ble_eq_true rfl) (Nat.le_of_ble_eq_true rfl) hQ ⟨rfl, (15, 0), (by rw [nLight_eq, if_neg f1, if_neg f2, if_pos hb9] <;> rfl), hx9, hf9⟩
      obtain ⟨hy, hp⟩ := hp
      rw [hp] at I
      have f3 := of_decide_eq_false hy
      refine lv_aload_n hx hb dX2_lights_79 rfl (lv_at hl 0 rfl) ?_
      refine lv_aload_n hx hb dX2_lights_80 rfl (lv_at hl 0 rfl) ?_
      refine g_getN S hK I k_X12 (v := .int (w (105 + 5 * n.toNatClampNeg + 4))) (g_at.of (hW.la (k := n.toNatClampNeg) (by omega))) 4 (by decide) q1582 rfl rfl dX2_lights_81 ?_
      have J_92_2 : ∀ (x3 : Int32) (H : Heap) (locs : List Loc) (ls : Array Slot), (hx3 : x3 = (if lX w n 4 = 0 then 1 else 0)) → g_I Γ ph s H locs → lv_has ls 4 [(3, .ref (ad (20 + n.toNatClampNeg))), (0, .ref (ad 0)), (1, .int c), (2, .int n)] → W pg l e (g_rm 5 3 24) s m A below meth cd H locs 3 24 Q (F0 m 92 ls [.int x3, .ref (ad (20 + n.toNatClampNeg))]) := by
        intro x3 H locs ls hx3 I hl
        subst hx3
        refine g_putN S hK I k_X12 (v := .int (if lX w n 4 = 0 then 1 else 0)) (hW.la (k := n.toNatClampNeg) (by omega)) 4 (by decide) q1582 rfl rfl (lit_nar _ _) (lit_fit _ _) (Nat.le_of_ble_eq_true rfl) dX2_lights_92 (fun H locs I => ?_)
        obtain ⟨P_4, I, hW, hG⟩ : ∃ zz, g_I Γ zz s H locs ∧ g_Wl Γ zz i ad na mc (upd w (105 + 5 * n.toNatClampNeg + 4) (if lX w n 4 = 0 then 1 else 0)) ∧ g_frR i ph zz := ⟨_, I, (hW.putl_4 hw (k := n.toNatClampNeg) (by omega)), g_frR.put⟩
        have hF : g_frR i ph P_4 := hG
        have eR : nN (upd w (105 + 5 * n.toNatClampNeg + 4) (if lX w n 4 = 0 then 1 else 0)) = nN w ∧ nLa (upd w (105 + 5 * n.toNatClampNeg + 4) (if lX w n 4 = 0 then 1 else 0)) = nLa w := by refine ⟨nN_eq ?_, nLa_eq ?_⟩ <;> (first | rfl | (have hb4 := hw.2.1.2; have hb20 := hw.1.2; exact upd_n (by omega)))
        have eN : nN (upd w (105 + 5 * n.toNatClampNeg + 4) (if lX w n 4 = 0 then 1 else 0)) = nN w := eR.1
        have eL : nLa (upd w (105 + 5 * n.toNatClampNeg + 4) (if lX w n 4 = 0 then 1 else 0)) = nLa w := eR.2
        have hw : WF (upd w (105 + 5 * n.toNatClampNeg + 4) (if lX w n 4 = 0 then 1 else 0)) := (by rw [← litW_eq hl4]; exact litW_ok hw hn)
        refine lv_aload_n hx hb dX2_lights_95 rfl (lv_at hl 0 rfl) ?_
        refine g_getN S hK I k_X12 (v := .int ((upd w (105 + 5 * n.toNatClampNeg + 4) (if lX w n 4 = 0 then 1 else 0)) (105 + 5 * n.toNatClampNeg + 4))) (g_at.of (hW.la (k := n.toNatClampNeg) (by omega))) 4 (by decide) q1582 rfl rfl dX2_lights_96 ?_
        refine lv_if_eq (tgt := 106) hx hb dX2_lights_99 (by decide) (fun c_99 => ?_) (fun c_99 => ?_)
        · refine lv_iconst (v := 0) hx hb dX2_lights_106 (by decide) ?_
          exact g_iret S hr hlk I dX2_lights_107 (Nat.le_of_ble_eq_true rfl) (Nat.le_of_ble_eq_true rfl) hQ ⟨_, rfl, (by rw [nLight_eq, if_neg f1, if_neg f2, if_neg f3]), (by have z := c_99; rw [upd_s] at z; by_cases y : lX w n 4 = 0 <;> simp [y] at z ⊢), ⟨_, _, (by rw [show (litW w n) = (upd w (105 + 5 * n.toNatClampNeg + 4) (if lX w n 4 = 0 then 1 else 0)) from (litW_eq hl4)]; exact hW), hF⟩⟩
        · refine lv_iconst (v := 1) hx hb dX2_lights_102 (by decide) ?_
          refine lv_goto (tgt := 107) hx hb dX2_lights_103 (by decide) ?_
          exact g_iret S hr hlk I dX2_lights_107 (Nat.le_of_ble_eq_true rfl) (Nat.le_of_ble_eq_true rfl) hQ ⟨_, rfl, (by rw [nLight_eq, if_neg f1, if_neg f2, if_neg f3]), (by have z := c_99; rw [upd_s] at z; by_cases y : lX w n 4 = 0 <;> simp [y] at z ⊢), ⟨_, _, (by rw [show (litW w n) = (upd w (105 + 5 * n.toNatClampNeg + 4) (if lX w n 4 = 0 then 1 else 0)) from (litW_eq hl4)]; exact hW), hF⟩⟩
      refine lv_if_ne (tgt := 91) hx hb dX2_lights_84 (by decide) (fun c_84 => ?_) (fun c_84 => ?_)
      · refine lv_iconst (v := 0) hx hb dX2_lights_91 (by decide) ?_
        exact J_92_2 0 _ _ _ (by rw [show lX w n 4 = w (105 + 5 * n.toNatClampNeg + 4) from rfl]; simp [c_84]) I (lv_sub hl [0, 1, 2, 3] rfl)
      · refine lv_iconst (v := 1) hx hb dX2_lights_87 (by decide) ?_
        refine lv_goto (tgt := 92) hx hb dX2_lights_88 (by decide) ?_
        exact J_92_2 1 _ _ _ (by rw [show lX w n 4 = w (105 + 5 * n.toNatClampNeg + 4) from rfl]; simp [c_84]) I (lv_sub hl [0, 1, 2, 3] rfl)
    refine lv_if_ne (tgt := 72) hx hb dX2_lights_58 (by decide) (fun c_58 => ?_) (fun c_58 => ?_)
    · refine lv_iconst (v := 0) hx hb dX2_lights_72 (by decide) ?_
      exact J_73_1 0 _ _ _ (by rw [show lX w n 4 = w (105 + 5 * n.toNatClampNeg + 4) from rfl, show lX w n 3 = w (105 + 5 * n.toNatClampNeg + 3) from rfl]; simp [b2i, c_58]) I (lv_sub hl [0, 1, 2, 3] rfl)
    · refine lv_aload_n hx hb dX2_lights_61 rfl (lv_at hl 0 rfl) ?_
      refine g_getN S hK I k_X12 (v := .int (w (105 + 5 * n.toNatClampNeg + 3))) (g_at.of (hW.la (k := n.toNatClampNeg) (by omega))) 3 (by decide) q1580 rfl rfl dX2_lights_62 ?_
      refine lv_if_ne (tgt := 72) hx hb dX2_lights_65 (by decide) (fun c_65 => ?_) (fun c_65 => ?_)
      · refine lv_iconst (v := 0) hx hb dX2_lights_72 (by decide) ?_
        exact J_73_1 0 _ _ _ (by rw [show lX w n 4 = w (105 + 5 * n.toNatClampNeg + 4) from rfl, show lX w n 3 = w (105 + 5 * n.toNatClampNeg + 3) from rfl]; simp [b2i, c_58, c_65]) I (lv_sub hl [0, 1, 2, 3] rfl)
      · refine lv_iconst (v := 1) hx hb dX2_lights_68 (by decide) ?_
        refine lv_goto (tgt := 73) hx hb dX2_lights_69 (by decide) ?_
        exact J_73_1 1 _ _ _ (by rw [show lX w n 4 = w (105 + 5 * n.toNatClampNeg + 4) from rfl, show lX w n 3 = w (105 + 5 * n.toNatClampNeg + 3) from rfl]; simp [b2i, c_58, c_65]) I (lv_sub hl [0, 1, 2, 3] rfl)
  refine lv_if_ne (tgt := 47) hx hb dX2_lights_31 (by decide) (fun c_31 => ?_) (fun c_31 => ?_)
  · have p_31 := of_decide_eq_true ((b2i_ne0 _).mp c_31)
    have c_31 := p_31
    refine lv_iconst (v := 0) hx hb dX2_lights_47 (by decide) ?_
    exact J_48_0 0 _ _ _ (by simp [b2i, c_31]) I (lv_sub hl [0, 1, 2, 3] rfl)
  · have p_31 := of_decide_eq_false ((b2i_eq0 _).mp c_31)
    have c_31 := p_31
    refine lv_aload_n hx hb dX2_lights_34 rfl (lv_at hl 1 rfl) ?_
    refine lv_iload_n hx hb dX2_lights_35 rfl (lv_at hl 2 rfl) ?_
    refine lv_aload_n hx hb dX2_lights_36 rfl (lv_at hl 0 rfl) ?_
    refine g_ci (g_runV S hK I (As := [.int c, .ref (ad (20 + n.toNatClampNeg))]) (rest := []) (met_X2_liesWith l Γ htr ph i ad na mc w c n.toNatClampNeg hW hw  hc hn1.1) (cwV 2 hts (lw_V q2417 q2419 qs39 q121 q2420) rfl rfl rfl (by decide +kernel) ⟨Nat.le_of_ble_eq_true rfl, Nat.le_of_ble_eq_true rfl⟩) (g_recv hK I (g_at.of hW.o0) (ci := 1) rfl) rfl hl.1 rfl (Nat.le_of_ble_eq_true rfl) dX2_lights_37 ⟨Nat.le_of_ble_eq_true rfl, Nat.le_of_ble_eq_true rfl⟩) I (fun r_37 ph1 H locs hp I => ?_)
    obtain ⟨hp, hph⟩ := hp
    rw [hph] at I
    have hp : r_37 = (b2i (lies w c (nI n.toNatClampNeg))) := hp
    rw [hp]
    rw [hn1.2]
    refine lv_if_ne (tgt := 47) hx hb dX2_lights_40 (by decide) (fun c_40 => ?_) (fun c_40 => ?_)
    · have p_40 := (b2i_ne0 _).mp c_40
      refine lv_iconst (v := 0) hx hb dX2_lights_47 (by decide) ?_
      exact J_48_0 0 _ _ _ (by simp [b2i, c_31, p_40]) I (lv_sub hl [0, 1, 2, 3] rfl)
    · have p_40 := (b2i_eq0 _).mp c_40
      refine lv_iconst (v := 1) hx hb dX2_lights_43 (by decide) ?_
      refine lv_goto (tgt := 48) hx hb dX2_lights_44 (by decide) ?_
      exact J_48_0 1 _ _ _ (by simp [b2i, c_31, p_40]) I (lv_sub hl [0, 1, 2, 3] rfl)


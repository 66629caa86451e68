/-! THE REFERENCE: public methods that change the wall -/
set_option maxRecDepth 100000
theorem un_pos {w : m_w} (hw : WF w) (h : nUncl w = none) : 0 < nAn w := by
  rcases Nat.eq_zero_or_pos (nAn w) with e | e
  · have e2 : w 131 = 0 := by rw [hw.2.2.1.1, e]; rfl
    unfold nUncl at h
    rw [e2] at h
    split at h
    · exact absurd h (by simp)
    · split at h
      · exact absurd h (by simp)
      · simp at h
  · exact e
theorem cl_ok {w : m_w} (hw : WF w) (h : nClip w = none) : nAn w < 8 ∧ ¬ plc w 0 = -1 := by
  unfold nClip at h
  split at h
  · exact absurd h (by simp)
  · split at h
    · exact absurd h (by simp)
    · rename_i h1
      refine ⟨?_, h1⟩
      split at h
      · exact absurd h (by simp)
      · split at h
        · exact absurd h (by simp)
        · rename_i h3
          rcases Nat.lt_or_ge (nAn w) 8 with q | q
          · exact q
          · exact absurd (by rw [hw.2.2.1.1, show nAn w = 8 from by have := hw.2.2.1.2; omega]; rfl) h3
set_option maxHeartbeats 4000000 in
set_option maxRecDepth 100000 in
theorem met_X5_anchors (l : Launch) (Γ : g_C) (mo : Nat) (ad : Nat → Nat) (f : Nat → Int32) (a : Nat → Nat → Int32) (rr : Nat → UInt32) (ph : g_H) : g_Met l yX5_anchors (ws_ yX5_anchors cX5_anchors 1 (some .int)) (g_rm 1 0 0) Γ [.ref mo] (mG Γ mo ad f a rr ph) (g_oi (fun v ph' => v = ((a 5) 131) ∧ ph' = mG Γ mo ad (upd f 0 0) a rr ph)) g_no := by
  refine g_start (y := yX5_anchors) (cc := cX5_anchors) (maxL := 1) (ret := (some .int)) (rm := g_rm 1 0 0) (by decide) (Nat.le_of_ble_eq_true rfl) ?_
  intro p e s m A below meth c ls Q hQ S hr hlk hex hnm hK I hl
  have hx := S.1
  have hb := S.2.1
  have hown := S.2.2.2.1
  have hts := S.2.2.2.2
  have S : CallFix p m c cX5_anchors 1 s A lw_all "CrumblingWallModel" := S
  have hl : lv_has ls 1 [(0, .ref mo)] := hl
  refine lv_aload_n hx hb dX5_anchors_0 rfl (lv_at hl 0 rfl) ?_
  refine lv_iconst (v := 0) hx hb dX5_anchors_1 (by decide) ?_
  refine g_put S hK I k_X5 (v := .int 0) mG_obj 0 (by decide) q2952 rfl rfl rfl rfl (Nat.le_of_ble_eq_true rfl) dX5_anchors_2 (fun H locs I => ?_)
  have I := mI_f (f' := (upd f 0 0)) I rfl
  refine lv_aload_n hx hb dX5_anchors_5 rfl (lv_at hl 0 rfl) ?_
  refine g_get S hK I k_X5 (v := .ref (ad 5)) (g_at.of mG_obj) 5 (by decide) q2957 rfl rfl dX5_anchors_6 ?_
  refine lv_sipush (v := 131) hx hb dX5_anchors_9 (by decide) ?_
  refine m_iald S hK I (f := (a 5)) (k := 131) (g_at.of mG_5) (vp_lit (by decide)) (by decide) dX5_anchors_12 ?_
  exact g_iret S hr hlk I dX5_anchors_13 (Nat.le_of_ble_eq_true rfl) (Nat.le_of_ble_eq_true rfl) hQ ⟨_, rfl, rfl, rfl⟩

theorem anc_iff {w : m_w} (hw : WF w) {x : Int32} : btw x 0 (w 131 - 1) = true ↔ vp_in x (nAn w) := by
  rw [hw.2.2.1.1]
  exact vp_isBtw (Nat.lt_of_le_of_lt hw.2.2.1.2 (by decide))
theorem anc_ix {w : m_w} (hw : WF w) {x : Int32} (h : vp_in x (nAn w)) : vp_in (132 + x) 170 ∧ (132 + x).toNatClampNeg = 132 + x.toNatClampNeg := by
  have h8 := hw.2.2.1.2
  obtain ⟨j, h1, rfl, h3⟩ := vp_j h (by omega)
  rw [h3]
  exact ix_k (b := 132) (by omega) (by decide)
set_option maxHeartbeats 4000000 in
set_option maxRecDepth 100000 in
theorem met_X5_anchor (l : Launch) (Γ : g_C) (mo : Nat) (ad : Nat → Nat) (f : Nat → Int32) (a : Nat → Nat → Int32) (rr : Nat → UInt32) (ph : g_H) (p0 : Int32) (hw : WF (a 5)) : g_Met l yX5_anchor (ws_ yX5_anchor cX5_anchor 2 (some .int)) (g_rm 2 0 0) Γ [.ref mo, .int p0] (mG Γ mo ad f a rr ph) (g_oi (fun v ph' => v = (if btw p0 0 ((a 5) 131 - 1) = false then 0 else (a 5) (132 + p0.toNatClampNeg)) ∧ ph' = mG Γ mo ad (upd f 0 (if btw p0 0 ((a 5) 131 - 1) = false then 1 else 0)) a rr ph)) g_no := by
  refine g_start (y := yX5_anchor) (cc := cX5_anchor) (maxL := 2) (ret := (some .int)) (rm := g_rm 2 0 0) (by decide) (Nat.le_of_ble_eq_true rfl) ?_
  intro p e s m A below meth c ls Q hQ S hr hlk hex hnm hK I hl
  have hx := S.1
  have hb := S.2.1
  have hown := S.2.2.2.1
  have hts := S.2.2.2.2
  have S : CallFix p m c cX5_anchor 2 s A lw_all "CrumblingWallModel" := S
  have hl : lv_has ls 2 [(0, .ref mo), (1, .int p0)] := hl
  refine lv_iload_n hx hb dX5_anchor_0 rfl (lv_at hl 1 rfl) ?_
  refine lv_iconst (v := 0) hx hb dX5_anchor_1 (by decide) ?_
  refine lv_aload_n hx hb dX5_anchor_2 rfl (lv_at hl 0 rfl) ?_
  refine g_get S hK I k_X5 (v := .ref (ad 5)) (g_at.of mG_obj) 5 (by decide) q2957 rfl rfl dX5_anchor_3 ?_
  refine lv_sipush (v := 131) hx hb dX5_anchor_6 (by decide) ?_
  refine m_iald S hK I (f := (a 5)) (k := 131) (g_at.of mG_5) (vp_lit (by decide)) (by decide) dX5_anchor_9 ?_
  refine lv_iconst (v := 1) hx hb dX5_anchor_10 (by decide) ?_
  refine lv_isub hx hb dX5_anchor_11 ?_
  refine g_ci (g_runS S hK I (As := [.int p0, .int 0, .int (((a 5) 131) - 1)]) (rest := []) (met_X5_isBetween l Γ (mG Γ mo ad f a rr ph) p0 0 (((a 5) 131) - 1)) (va_cwS 3 hts (lw_S q3053 q3054 q151 q3055) rfl rfl rfl (by decide +kernel) ⟨Nat.le_of_ble_eq_true rfl, Nat.le_of_ble_eq_true rfl⟩) rfl hl.1 rfl (Nat.le_of_ble_eq_true rfl) dX5_anchor_12 ⟨Nat.le_of_ble_eq_true rfl, Nat.le_of_ble_eq_true rfl⟩) I (fun r_12 ph1 H locs hp I => ?_)
  obtain ⟨hp, rfl⟩ := hp
  have hp : r_12 = b2i (btw p0 0 (((a 5) 131) - 1)) := hp
  subst hp
  refine lv_if_ne (tgt := 24) hx hb dX5_anchor_15 (by decide) (fun c_15 => ?_) (fun c_15 => ?_)
  · have p_15 := (b2i_ne0 _).mp c_15
    have hv := (anc_iff hw).mp p_15
    refine lv_aload_n hx hb dX5_anchor_24 rfl (lv_at hl 0 rfl) ?_
    refine lv_iconst (v := 0) hx hb dX5_anchor_25 (by decide) ?_
    refine g_put S hK I k_X5 (v := .int 0) mG_obj 0 (by decide) q2952 rfl rfl rfl rfl (Nat.le_of_ble_eq_true rfl) dX5_anchor_26 (fun H locs I => ?_)
    have I := mI_f (f' := (upd f 0 0)) I rfl
    refine lv_aload_n hx hb dX5_anchor_29 rfl (lv_at hl 0 rfl) ?_
    refine g_get S hK I k_X5 (v := .ref (ad 5)) (g_at.of mG_obj) 5 (by decide) q2957 rfl rfl dX5_anchor_30 ?_
    refine lv_sipush (v := 132) hx hb dX5_anchor_33 (by decide) ?_
    refine lv_iload_n hx hb dX5_anchor_36 rfl (lv_at hl 1 rfl) ?_
    refine lv_iadd hx hb dX5_anchor_37 ?_
    refine m_iald S hK I (f := (a 5)) (k := (132 + p0.toNatClampNeg)) (g_at.of mG_5) (anc_ix hw hv).1 (anc_ix hw hv).2 dX5_anchor_38 ?_
    exact g_iret S hr hlk I dX5_anchor_39 (Nat.le_of_ble_eq_true rfl) (Nat.le_of_ble_eq_true rfl) hQ ⟨_, rfl, (by (try simp only [p_15]); (try simp [p_15])), (by (try simp only [p_15]); (try simp [p_15]))⟩
  · have p_15 := (b2i_eq0 _).mp c_15
    refine lv_aload_n hx hb dX5_anchor_18 rfl (lv_at hl 0 rfl) ?_
    refine lv_iconst (v := 1) hx hb dX5_anchor_19 (by decide) ?_
    refine g_ci (g_runV S hK I (As := [.int 1]) (rest := []) (met_X5_fails l Γ mo ad f a rr ph 1) (cwV 1 hts (lw_V q3056 q3058 qs51 q151 q3059) rfl rfl rfl (by decide +kernel) ⟨Nat.le_of_ble_eq_true rfl, Nat.le_of_ble_eq_true rfl⟩) (g_recv hK I (g_at.of mG_obj) (ci := 4) rfl) rfl hl.1 rfl (Nat.le_of_ble_eq_true rfl) dX5_anchor_20 ⟨Nat.le_of_ble_eq_true rfl, Nat.le_of_ble_eq_true rfl⟩) I (fun r_20 ph1 H locs hp I => ?_)
    obtain ⟨hp, rfl⟩ := hp
    have hp : r_20 = 0 := hp
    subst hp
    have I : g_I Γ (mG Γ mo ad (upd f 0 1) a rr ph) s H locs := I
    exact g_iret S hr hlk I dX5_anchor_23 (Nat.le_of_ble_eq_true rfl) (Nat.le_of_ble_eq_true rfl) hQ ⟨_, rfl, (by (try simp only [p_15]); (try simp [p_15])), (by (try simp only [p_15]); (try simp [p_15]))⟩

set_option maxHeartbeats 4000000 in
set_option maxRecDepth 100000 in
theorem met_X5_rope (l : Launch) (Γ : g_C) (mo : Nat) (ad : Nat → Nat) (f : Nat → Int32) (a : Nat → Nat → Int32) (rr : Nat → UInt32) (ph : g_H)  (hw : WF (a 5)) : g_Met l yX5_rope (ws_ yX5_rope cX5_rope 1 (some .int)) (g_rm 6 0 0) Γ [.ref mo] (mG Γ mo ad f a rr ph) (g_oi (fun v ph' => v = (ropeO (a 5)) ∧ ph' = mG Γ mo ad (upd f 0 0) a rr ph)) g_no := by
  refine g_start (y := yX5_rope) (cc := cX5_rope) (maxL := 1) (ret := (some .int)) (rm := g_rm 6 0 0) (by decide) (Nat.le_of_ble_eq_true rfl) ?_
  intro p e s m A below meth c ls Q hQ S hr hlk hex hnm hK I hl
  have hx := S.1
  have hb := S.2.1
  have hown := S.2.2.2.1
  have hts := S.2.2.2.2
  have S : CallFix p m c cX5_rope 1 s A lw_all "CrumblingWallModel" := S
  have hl : lv_has ls 1 [(0, .ref mo)] := hl
  refine lv_aload_n hx hb dX5_rope_0 rfl (lv_at hl 0 rfl) ?_
  refine lv_iconst (v := 0) hx hb dX5_rope_1 (by decide) ?_
  refine g_put S hK I k_X5 (v := .int 0) mG_obj 0 (by decide) q2952 rfl rfl rfl rfl (Nat.le_of_ble_eq_true rfl) dX5_rope_2 (fun H locs I => ?_)
  have I := mI_f (f' := (upd f 0 0)) I rfl
  refine lv_aload_n hx hb dX5_rope_5 rfl (lv_at hl 0 rfl) ?_
  refine g_ci (g_runV S hK I (As := []) (rest := []) (met_X5_ropeOut l Γ mo ad (upd f 0 0) a rr ph hw) (cwV 0 hts (lw_V q3091 q3093 qs58 q151 q3094) rfl rfl rfl (by decide +kernel) ⟨Nat.le_of_ble_eq_true rfl, Nat.le_of_ble_eq_true rfl⟩) (g_recv hK I (g_at.of mG_obj) (ci := 4) rfl) rfl hl.1 rfl (Nat.le_of_ble_eq_true rfl) dX5_rope_6 ⟨Nat.le_of_ble_eq_true rfl, Nat.le_of_ble_eq_true rfl⟩) I (fun r_6 ph1 H locs hp I => ?_)
  obtain ⟨hp, rfl⟩ := hp
  have hp : r_6 = ropeO (a 5) := hp
  subst hp
  exact g_iret S hr hlk I dX5_rope_9 (Nat.le_of_ble_eq_true rfl) (Nat.le_of_ble_eq_true rfl) hQ ⟨_, rfl, rfl, rfl⟩

set_option maxHeartbeats 4000000 in
set_option maxRecDepth 100000 in
theorem met_X5_ropeAgain (l : Launch) (Γ : g_C) (mo : Nat) (ad : Nat → Nat) (f : Nat → Int32) (a : Nat → Nat → Int32) (rr : Nat → UInt32) (ph : g_H)  (hw : WF (a 5)) : g_Met l yX5_ropeAgain (ws_ yX5_ropeAgain cX5_ropeAgain 1 (some .int)) (g_rm 6 0 0) Γ [.ref mo] (mG Γ mo ad f a rr ph) (g_oi (fun v ph' => v = (ropeO (a 5)) ∧ ph' = mG Γ mo ad (upd f 0 0) a rr ph)) g_no := by
  refine g_start (y := yX5_ropeAgain) (cc := cX5_ropeAgain) (maxL := 1) (ret := (some .int)) (rm := g_rm 6 0 0) (by decide) (Nat.le_of_ble_eq_true rfl) ?_
  intro p e s m A below meth c ls Q hQ S hr hlk hex hnm hK I hl
  have hx := S.1
  have hb := S.2.1
  have hown := S.2.2.2.1
  have hts := S.2.2.2.2
  have S : CallFix p m c cX5_ropeAgain 1 s A lw_all "CrumblingWallModel" := S
  have hl : lv_has ls 1 [(0, .ref mo)] := hl
  refine lv_aload_n hx hb dX5_ropeAgain_0 rfl (lv_at hl 0 rfl) ?_
  refine lv_iconst (v := 0) hx hb dX5_ropeAgain_1 (by decide) ?_
  refine g_put S hK I k_X5 (v := .int 0) mG_obj 0 (by decide) q2952 rfl rfl rfl rfl (Nat.le_of_ble_eq_true rfl) dX5_ropeAgain_2 (fun H locs I => ?_)
  have I := mI_f (f' := (upd f 0 0)) I rfl
  refine lv_aload_n hx hb dX5_ropeAgain_5 rfl (lv_at hl 0 rfl) ?_
  refine g_ci (g_runV S hK I (As := []) (rest := []) (met_X5_ropeOut l Γ mo ad (upd f 0 0) a rr ph hw) (cwV 0 hts (lw_V q3091 q3093 qs58 q151 q3094) rfl rfl rfl (by decide +kernel) ⟨Nat.le_of_ble_eq_true rfl, Nat.le_of_ble_eq_true rfl⟩) (g_recv hK I (g_at.of mG_obj) (ci := 4) rfl) rfl hl.1 rfl (Nat.le_of_ble_eq_true rfl) dX5_ropeAgain_6 ⟨Nat.le_of_ble_eq_true rfl, Nat.le_of_ble_eq_true rfl⟩) I (fun r_6 ph1 H locs hp I => ?_)
  obtain ⟨hp, rfl⟩ := hp
  have hp : r_6 = ropeO (a 5) := hp
  subst hp
  exact g_iret S hr hlk I dX5_ropeAgain_9 (Nat.le_of_ble_eq_true rfl) (Nat.le_of_ble_eq_true rfl) hQ ⟨_, rfl, rfl, rfl⟩

/-- the ints of the reference behind n looks why a move is refused -/
def mvF (w : m_w) (c : Int32) (f : Nat → Int32) : Nat → Nat → Int32
  | 0 => f
  | n + 1 => m_hin (mvF w c f n) (nMove w c (nI n))
set_option maxHeartbeats 4000000 in
set_option maxRecDepth 100000 in
theorem met_X5_moves (l : Launch) (Γ : g_C) (mo : Nat) (ad : Nat → Nat) (f : Nat → Int32) (a : Nat → Nat → Int32) (rr : Nat → UInt32) (ph : g_H) (p0 : Int32) (hw : WF (a 5)) : g_Met l yX5_moves (ws_ yX5_moves cX5_moves 4 (some .int)) (g_rm 6 0 0) Γ [.ref mo, .int p0] (mG Γ mo ad f a rr ph) (g_oi (fun v ph' => v = (if isCl p0 = false then 0 else movS (a 5) p0) ∧ ph' = mG Γ mo ad (if isCl p0 = false then upd f 0 1 else mvF (a 5) p0 (upd f 0 0) (nN (a 5))) a rr ph)) g_no := by
  refine g_start (y := yX5_moves) (cc := cX5_moves) (maxL := 4) (ret := (some .int)) (rm := g_rm 6 0 0) (by decide) (Nat.le_of_ble_eq_true rfl) ?_
  intro p e s m A below meth c ls Q hQ S hr hlk hex hnm hK I hl
  have hx := S.1
  have hb := S.2.1
  have hown := S.2.2.2.1
  have hts := S.2.2.2.2
  have S : CallFix p m c cX5_moves 4 s A lw_all "CrumblingWallModel" := S
  have hl : lv_has ls 4 [(0, .ref mo), (1, .int p0)] := hl
  refine lv_iload_n hx hb dX5_moves_0 rfl (lv_at hl 1 rfl) ?_
  refine g_ci (g_runS S hK I (As := [.int p0]) (rest := []) (met_X5_isClimber l Γ (mG Γ mo ad f a rr ph) p0) (va_cwS 1 hts (lw_S q3217 q3218 q151 q3219) rfl rfl rfl (by decide +kernel) ⟨Nat.le_of_ble_eq_true rfl, Nat.le_of_ble_eq_true rfl⟩) rfl hl.1 rfl (Nat.le_of_ble_eq_true rfl) dX5_moves_1 ⟨Nat.le_of_ble_eq_true rfl, Nat.le_of_ble_eq_true rfl⟩) I (fun r_1 ph1 H locs hp I => ?_)
  obtain ⟨hp, rfl⟩ := hp
  have hp : r_1 = b2i (isCl p0) := hp
  subst hp
  refine lv_if_ne (tgt := 13) hx hb dX5_moves_4 (by decide) (fun c_4 => ?_) (fun c_4 => ?_)
  · have p_4 := (b2i_ne0 _).mp c_4
    have hc := isCl_iff.mp p_4
    refine lv_aload_n hx hb dX5_moves_13 rfl (lv_at hl 0 rfl) ?_
    refine lv_iconst (v := 0) hx hb dX5_moves_14 (by decide) ?_
    refine g_put S hK I k_X5 (v := .int 0) mG_obj 0 (by decide) q2952 rfl rfl rfl rfl (Nat.le_of_ble_eq_true rfl) dX5_moves_15 (fun H locs I => ?_)
    have I := mI_f (f' := (upd f 0 0)) I rfl
    refine lv_iconst (v := 0) hx hb dX5_moves_18 (by decide) ?_
    refine lv_istore_n (lv' := [(2, .int 0), (0, .ref mo), (1, .int p0)]) hx hb dX5_moves_19 rfl hl (by decide) rfl (fun ls hl => ?_)
    refine lv_iconst (v := 0) hx hb dX5_moves_20 (by decide) ?_
    refine lv_istore_n (lv' := [(3, .int 0), (2, .int 0), (0, .ref mo), (1, .int p0)]) hx hb dX5_moves_21 rfl hl (by decide) rfl (fun ls hl => ?_)
    have L_22 : ∀ (d : Nat) (k : Nat), (hk : k ≤ nN (a 5)) → nN (a 5) - k < d → ∀ (H : Heap) (locs : List Loc) (ls : Array Slot), g_I Γ (mG Γ mo ad (mvF (a 5) p0 (upd f 0 0) k) a rr ph) s H locs → lv_has ls 4 [(0, .ref mo), (1, .int p0), (2, .int (orN k (fun k => if (nMove (a 5) p0 (nI k)).isSome = true then 0 else bitK k))), (3, .int (nI k))] → W p l e (g_rm 6 0 0) s m A below meth c H locs 0 0 Q (F0 m 22 ls []) := by
      intro d
      induction d with
      | zero => intro k hk hd; exact absurd hd (Nat.not_lt_zero _)
      | succ d ih =>
        intro k hk hd H locs ls I hl
        refine lv_iload_n hx hb dX5_moves_22 rfl (lv_at hl 3 rfl) ?_
        refine lv_aload_n hx hb dX5_moves_23 rfl (lv_at hl 0 rfl) ?_
        refine g_get S hK I k_X5 (v := .ref (ad 5)) (g_at.of mG_obj) 5 (by decide) q2957 rfl rfl dX5_moves_24 ?_
        refine lv_iconst (v := 0) hx hb dX5_moves_27 (by decide) ?_
        refine m_iald S hK I (f := (a 5)) (k := 0) (g_at.of mG_5) (vp_lit (by decide)) (by decide) dX5_moves_28 ?_
        refine lv_icmp_ge (tgt := 57) hx hb dX5_moves_29 (by decide) (fun c_29 => ?_) (fun c_29 => ?_)
        · have n_29 := Int32.not_lt.mpr c_29
          obtain rfl : k = nN (a 5) := k_ge hw.1.1 (wf_le20 hw) hk c_29
          refine lv_iload_n hx hb dX5_moves_57 rfl (lv_at hl 2 rfl) ?_
          exact g_iret S hr hlk I dX5_moves_58 (Nat.le_of_ble_eq_true rfl) (Nat.le_of_ble_eq_true rfl) hQ ⟨_, rfl, (by (try simp only [p_4]); (try simp [movS, p_4, c_29, n_29])), (by (try simp only [p_4]); (try simp [movS, p_4, c_29, n_29]))⟩
        · have n_29 := Int32.not_le.mp c_29
          have hkl : k < nN (a 5) := k_lt hw.1.1 (wf_le20 hw) hk c_29
          have hkv : vp_in (nI k) (nN (a 5)) := vp_k hkl (Nat.le_refl _) (Nat.lt_of_le_of_lt hw.1.2 (by decide))
          refine lv_iload_n hx hb dX5_moves_32 rfl (lv_at hl 2 rfl) ?_
          refine lv_aload_n hx hb dX5_moves_33 rfl (lv_at hl 0 rfl) ?_
          refine lv_iload_n hx hb dX5_moves_34 rfl (lv_at hl 1 rfl) ?_
          refine lv_iload_n hx hb dX5_moves_35 rfl (lv_at hl 3 rfl) ?_
          refine g_ci (g_runV S hK I (As := [.int p0, .int (nI k)]) (rest := [.int (orN k (fun k => if (nMove (a 5) p0 (nI k)).isSome = true then 0 else bitK k))]) (met_X5_mayNotMove l Γ mo ad (mvF (a 5) p0 (upd f 0 0) k) a rr ph p0 (nI k) hw hc (Or.inr hkv)) (cwV 2 hts (lw_V q3232 q3234 qs80 q151 q3235) rfl rfl rfl (by decide +kernel) ⟨Nat.le_of_ble_eq_true rfl, Nat.le_of_ble_eq_true rfl⟩) (g_recv hK I (g_at.of mG_obj) (ci := 4) rfl) rfl hl.1 rfl (Nat.le_of_ble_eq_true rfl) dX5_moves_36 ⟨Nat.le_of_ble_eq_true rfl, Nat.le_of_ble_eq_true rfl⟩) I (fun r_36 ph1 H locs hp I => ?_)
          obtain ⟨hp, rfl⟩ := hp
          have hp : r_36 = b2i ((nMove (a 5) p0 (nI k)).isSome) := hp
          subst hp
          have I : g_I Γ (mG Γ mo ad (m_hin (mvF (a 5) p0 (upd f 0 0) k) (nMove (a 5) p0 (nI k))) a rr ph) s H locs := I
          have J_49_0 : ∀ (x1 : Int32) (H : Heap) (locs : List Loc) (ls : Array Slot), (hx1 : x1 = (if (nMove (a 5) p0 (nI k)).isSome = true then 0 else bitK k)) → g_I Γ (mG Γ mo ad (m_hin (mvF (a 5) p0 (upd f 0 0) k) (nMove (a 5) p0 (nI k))) a rr ph) s H locs → lv_has ls 4 [(0, .ref mo), (1, .int p0), (2, .int (orN k (fun k => if (nMove (a 5) p0 (nI k)).isSome = true then 0 else bitK k))), (3, .int (nI k))] → W p l e (g_rm 6 0 0) s m A below meth c H locs 0 0 Q (F0 m 49 ls [.int x1, .int (orN k (fun k => if (nMove (a 5) p0 (nI k)).isSome = true then 0 else bitK k))]) := by
            intro x1 H locs ls hx1 I hl
            subst hx1
            refine lv_ior hx hb dX5_moves_49 ?_
            refine lv_istore_n (lv' := [(2, .int (orN (k + 1) (fun k => if (nMove (a 5) p0 (nI k)).isSome = true then 0 else bitK k))), (0, .ref mo), (1, .int p0), (3, .int (nI k))]) hx hb dX5_moves_50 rfl hl (by decide) rfl (fun ls hl => ?_)
            refine lv_iinc (v := nI (k + 1)) (lv' := [(3, .int (nI (k + 1))), (2, .int (orN (k + 1) (fun k => if (nMove (a 5) p0 (nI k)).isSome = true then 0 else bitK k))), (0, .ref mo), (1, .int p0)]) hx hb dX5_moves_51 hl (k := 3) rfl (nI_1 k) (by decide) rfl (fun ls hl => ?_)
            refine lv_goto (tgt := 22) hx hb dX5_moves_54 (by decide) ?_
            exact ih (k + 1) hkl (by omega) _ _ _ I (lv_sub hl [2, 3, 1, 0] rfl)
          refine lv_if_eq (tgt := 46) hx hb dX5_moves_39 (by decide) (fun c_39 => ?_) (fun c_39 => ?_)
          · have p_39 := (b2i_eq0 _).mp c_39
            refine lv_iconst (v := 1) hx hb dX5_moves_46 (by decide) ?_
            refine lv_iload_n hx hb dX5_moves_47 rfl (lv_at hl 3 rfl) ?_
            refine lv_ishl hx hb dX5_moves_48 ?_
            exact J_49_0 (1 <<< ((nI k) &&& 31)) _ _ _ (by simp [bitK, p_39]) I (lv_sub hl [0, 1, 2, 3] rfl)
          · have p_39 := (b2i_ne0 _).mp c_39
            refine lv_iconst (v := 0) hx hb dX5_moves_42 (by decide) ?_
            refine lv_goto (tgt := 49) hx hb dX5_moves_43 (by decide) ?_
            exact J_49_0 0 _ _ _ (by simp [bitK, p_39]) I (lv_sub hl [0, 1, 2, 3] rfl)
    exact L_22 _ 0 (Nat.zero_le _) (Nat.lt_succ_self _) _ _ _ I (lv_sub hl [2, 3, 1, 0] rfl)
  · have p_4 := (b2i_eq0 _).mp c_4
    refine lv_aload_n hx hb dX5_moves_7 rfl (lv_at hl 0 rfl) ?_
    refine lv_iconst (v := 1) hx hb dX5_moves_8 (by decide) ?_
    refine g_ci (g_runV S hK I (As := [.int 1]) (rest := []) (met_X5_fails l Γ mo ad f a rr ph 1) (cwV 1 hts (lw_V q3056 q3058 qs51 q151 q3059) rfl rfl rfl (by decide +kernel) ⟨Nat.le_of_ble_eq_true rfl, Nat.le_of_ble_eq_true rfl⟩) (g_recv hK I (g_at.of mG_obj) (ci := 4) rfl) rfl hl.1 rfl (Nat.le_of_ble_eq_true rfl) dX5_moves_9 ⟨Nat.le_of_ble_eq_true rfl, Nat.le_of_ble_eq_true rfl⟩) I (fun r_9 ph1 H locs hp I => ?_)
    obtain ⟨hp, rfl⟩ := hp
    have hp : r_9 = 0 := hp
    subst hp
    have I : g_I Γ (mG Γ mo ad (upd f 0 1) a rr ph) s H locs := I
    exact g_iret S hr hlk I dX5_moves_12 (Nat.le_of_ble_eq_true rfl) (Nat.le_of_ble_eq_true rfl) hQ ⟨_, rfl, (by (try simp only [p_4]); (try simp [movS, p_4])), (by (try simp only [p_4]); (try simp [movS, p_4]))⟩

set_option maxHeartbeats 4000000 in
set_option maxRecDepth 100000 in
theorem met_X5_clip (l : Launch) (Γ : g_C) (mo : Nat) (ad : Nat → Nat) (f : Nat → Int32) (a : Nat → Nat → Int32) (rr : Nat → UInt32) (ph : g_H)  (hw : WF (a 5)) (hU : okU f) : g_Met l yX5_clip (ws_ yX5_clip cX5_clip 1 (some .int)) (g_rm 8 0 0) Γ [.ref mo] (mG Γ mo ad f a rr ph) (g_oi (fun v ph' => v = (pubR (nClip (a 5)) (clipW (a 5) 131)) ∧ ph' = mG Γ mo ad (pubF f (nClip (a 5)) 1) (pubA f a (nClip (a 5)) (clipW (a 5))) rr ph)) g_no := by
  refine g_start (y := yX5_clip) (cc := cX5_clip) (maxL := 1) (ret := (some .int)) (rm := g_rm 8 0 0) (by decide) (Nat.le_of_ble_eq_true rfl) ?_
  intro p e s m A below meth c ls Q hQ S hr hlk hex hnm hK I hl
  have hx := S.1
  have hb := S.2.1
  have hown := S.2.2.2.1
  have hts := S.2.2.2.2
  have S : CallFix p m c cX5_clip 1 s A lw_all "CrumblingWallModel" := S
  have hl : lv_has ls 1 [(0, .ref mo)] := hl
  refine lv_aload_n hx hb dX5_clip_0 rfl (lv_at hl 0 rfl) ?_
  refine g_ci (g_runV S hK I (As := []) (rest := []) (met_X5_mayNotClip l Γ mo ad f a rr ph hw) (cwV 0 hts (lw_V q3173 q3175 qs73 q151 q3176) rfl rfl rfl (by decide +kernel) ⟨Nat.le_of_ble_eq_true rfl, Nat.le_of_ble_eq_true rfl⟩) (g_recv hK I (g_at.of mG_obj) (ci := 4) rfl) rfl hl.1 rfl (Nat.le_of_ble_eq_true rfl) dX5_clip_1 ⟨Nat.le_of_ble_eq_true rfl, Nat.le_of_ble_eq_true rfl⟩) I (fun r_1 ph1 H locs hp I => ?_)
  obtain ⟨hp, rfl⟩ := hp
  have hp : r_1 = b2i ((nClip (a 5)).isSome) := hp
  subst hp
  have I : g_I Γ (mG Γ mo ad (m_hin f (nClip (a 5))) a rr ph) s H locs := I
  refine lv_if_eq (tgt := 13) hx hb dX5_clip_4 (by decide) (fun c_4 => ?_) (fun c_4 => ?_)
  · have p_4 := (b2i_eq0 _).mp c_4
    have z_4 := wk_none p_4
    have I := mI_ef I (show _ = f from by rw [z_4]; rfl)
    refine lv_aload_n hx hb dX5_clip_13 rfl (lv_at hl 0 rfl) ?_
    refine lv_iconst (v := 0) hx hb dX5_clip_14 (by decide) ?_
    refine g_put S hK I k_X5 (v := .int 0) mG_obj 0 (by decide) q2952 rfl rfl rfl rfl (Nat.le_of_ble_eq_true rfl) dX5_clip_15 (fun H locs I => ?_)
    have I := mI_f (f' := (upd f 0 0)) I rfl
    refine lv_aload_n hx hb dX5_clip_18 rfl (lv_at hl 0 rfl) ?_
    refine g_cv (g_runV S hK I (As := []) (rest := []) (met_X5_notes l Γ mo ad (upd f 0 0) a rr ph ) (cwV 0 hts (lw_V q3079 q3081 qs56 q151 q3082) rfl rfl rfl (by decide +kernel) ⟨Nat.le_of_ble_eq_true rfl, Nat.le_of_ble_eq_true rfl⟩) (g_recv hK I (g_at.of mG_obj) (ci := 4) rfl) rfl hl.1 rfl (Nat.le_of_ble_eq_true rfl) dX5_clip_19 ⟨Nat.le_of_ble_eq_true rfl, Nat.le_of_ble_eq_true rfl⟩) I (fun ph1 H locs hp I => ?_)
    subst hp
    have I : g_I Γ (mG Γ mo ad (upd f 0 0) (va_up a 8 (va_cpy (a 5) (a 8) 0 0 170)) rr ph) s H locs := I
    refine lv_aload_n hx hb dX5_clip_22 rfl (lv_at hl 0 rfl) ?_
    refine g_cv (g_runV S hK I (As := []) (rest := []) (met_X5_remembers l Γ mo ad (upd f 0 0) (va_up a 8 (va_cpy (a 5) (a 8) 0 0 170)) rr ph (okU_0 hU)) (cwV 0 hts (lw_V q3083 q3085 qs57 q151 q3086) rfl rfl rfl (by decide +kernel) ⟨Nat.le_of_ble_eq_true rfl, Nat.le_of_ble_eq_true rfl⟩) (g_recv hK I (g_at.of mG_obj) (ci := 4) rfl) rfl hl.1 rfl (Nat.le_of_ble_eq_true rfl) dX5_clip_23 ⟨Nat.le_of_ble_eq_true rfl, Nat.le_of_ble_eq_true rfl⟩) I (fun ph1 H locs hp I => ?_)
    subst hp
    have I : g_I Γ (mG Γ mo ad (remF (upd f 0 0)) (va_up (va_up a 8 (va_cpy (a 5) (a 8) 0 0 170)) 6 (va_cpy (va_cpy (a 5) (a 8) 0 0 170) (a 6) 0 (170 * rSl (upd f 0 0)) 170)) rr ph) s H locs := I
    refine lv_aload_n hx hb dX5_clip_26 rfl (lv_at hl 0 rfl) ?_
    refine g_cv (g_runV S hK I (As := []) (rest := []) (met_X5_clips l Γ mo ad (remF (upd f 0 0)) (va_up (va_up a 8 (va_cpy (a 5) (a 8) 0 0 170)) 6 (va_cpy (va_cpy (a 5) (a 8) 0 0 170) (a 6) 0 (170 * rSl (upd f 0 0)) 170)) rr ph hw) (cwV 0 hts (lw_V q3181 q3183 qs75 q151 q3184) rfl rfl rfl (by decide +kernel) ⟨Nat.le_of_ble_eq_true rfl, Nat.le_of_ble_eq_true rfl⟩) (g_recv hK I (g_at.of mG_obj) (ci := 4) rfl) rfl hl.1 rfl (Nat.le_of_ble_eq_true rfl) dX5_clip_27 ⟨Nat.le_of_ble_eq_true rfl, Nat.le_of_ble_eq_true rfl⟩) I (fun ph1 H locs hp I => ?_)
    subst hp
    have I : g_I Γ (mG Γ mo ad (remF (upd f 0 0)) (va_up (va_up (va_up a 8 (va_cpy (a 5) (a 8) 0 0 170)) 6 (va_cpy (va_cpy (a 5) (a 8) 0 0 170) (a 6) 0 (170 * rSl (upd f 0 0)) 170)) 5 (clipW (a 5))) rr ph) s H locs := I
    refine lv_aload_n hx hb dX5_clip_30 rfl (lv_at hl 0 rfl) ?_
    refine g_get S hK I k_X5 (v := .ref (ad 5)) (g_at.of mG_obj) 5 (by decide) q2957 rfl rfl dX5_clip_31 ?_
    refine lv_sipush (v := 131) hx hb dX5_clip_34 (by decide) ?_
    refine m_iald S hK I (f := (clipW (a 5))) (k := 131) (g_at.of mG_5) (vp_lit (by decide)) (by decide) dX5_clip_37 ?_
    exact g_iret S hr hlk I dX5_clip_38 (Nat.le_of_ble_eq_true rfl) (Nat.le_of_ble_eq_true rfl) hQ ⟨_, rfl, (by (try simp only [z_4]); (try simp [pubF, pubA, pubR, cmA, z_4])), (by (try simp only [z_4]); (try simp [pubF, pubA, pubR, cmA, z_4]))⟩
  · have p_4 := (b2i_ne0 _).mp c_4
    obtain ⟨q_4, hq_4⟩ := wk_some p_4
    refine lv_aload_n hx hb dX5_clip_7 rfl (lv_at hl 0 rfl) ?_
    refine lv_iconst (v := 1) hx hb dX5_clip_8 (by decide) ?_
    refine g_ci (g_runV S hK I (As := [.int 1]) (rest := []) (met_X5_refuses l Γ mo ad (m_hin f (nClip (a 5))) a rr ph 1) (cwV 1 hts (lw_V q3075 q3077 qs55 q151 q3078) rfl rfl rfl (by decide +kernel) ⟨Nat.le_of_ble_eq_true rfl, Nat.le_of_ble_eq_true rfl⟩) (g_recv hK I (g_at.of mG_obj) (ci := 4) rfl) rfl hl.1 rfl (Nat.le_of_ble_eq_true rfl) dX5_clip_9 ⟨Nat.le_of_ble_eq_true rfl, Nat.le_of_ble_eq_true rfl⟩) I (fun r_9 ph1 H locs hp I => ?_)
    obtain ⟨hp, rfl⟩ := hp
    have hp : r_9 = 0 := hp
    subst hp
    have I : g_I Γ (mG Γ mo ad (m_ref (m_hin f (nClip (a 5))) 1) a rr ph) s H locs := I
    exact g_iret S hr hlk I dX5_clip_12 (Nat.le_of_ble_eq_true rfl) (Nat.le_of_ble_eq_true rfl) hQ ⟨_, rfl, (by (try simp only [p_4, hq_4]); (try simp [pubF, pubA, pubR, cmA, p_4, hq_4])), (by (try simp only [p_4, hq_4]); (try simp [pubF, pubA, pubR, cmA, p_4, hq_4]))⟩

set_option maxHeartbeats 4000000 in
set_option maxRecDepth 100000 in
theorem met_X5_unclip (l : Launch) (Γ : g_C) (mo : Nat) (ad : Nat → Nat) (f : Nat → Int32) (a : Nat → Nat → Int32) (rr : Nat → UInt32) (ph : g_H)  (hw : WF (a 5)) (hU : okU f) : g_Met l yX5_unclip (ws_ yX5_unclip cX5_unclip 1 (some .int)) (g_rm 8 0 0) Γ [.ref mo] (mG Γ mo ad f a rr ph) (g_oi (fun v ph' => v = (pubR (nUncl (a 5)) (unclW (a 5) 131)) ∧ ph' = mG Γ mo ad (pubF f (nUncl (a 5)) 1) (pubA f a (nUncl (a 5)) (unclW (a 5))) rr ph)) g_no := by
  refine g_start (y := yX5_unclip) (cc := cX5_unclip) (maxL := 1) (ret := (some .int)) (rm := g_rm 8 0 0) (by decide) (Nat.le_of_ble_eq_true rfl) ?_
  intro p e s m A below meth c ls Q hQ S hr hlk hex hnm hK I hl
  have hx := S.1
  have hb := S.2.1
  have hown := S.2.2.2.1
  have hts := S.2.2.2.2
  have S : CallFix p m c cX5_unclip 1 s A lw_all "CrumblingWallModel" := S
  have hl : lv_has ls 1 [(0, .ref mo)] := hl
  refine lv_aload_n hx hb dX5_unclip_0 rfl (lv_at hl 0 rfl) ?_
  refine g_ci (g_runV S hK I (As := []) (rest := []) (met_X5_mayNotUnclip l Γ mo ad f a rr ph ) (cwV 0 hts (lw_V q3189 q3191 qs76 q151 q3192) rfl rfl rfl (by decide +kernel) ⟨Nat.le_of_ble_eq_true rfl, Nat.le_of_ble_eq_true rfl⟩) (g_recv hK I (g_at.of mG_obj) (ci := 4) rfl) rfl hl.1 rfl (Nat.le_of_ble_eq_true rfl) dX5_unclip_1 ⟨Nat.le_of_ble_eq_true rfl, Nat.le_of_ble_eq_true rfl⟩) I (fun r_1 ph1 H locs hp I => ?_)
  obtain ⟨hp, rfl⟩ := hp
  have hp : r_1 = b2i ((nUncl (a 5)).isSome) := hp
  subst hp
  have I : g_I Γ (mG Γ mo ad (m_hin f (nUncl (a 5))) a rr ph) s H locs := I
  refine lv_if_eq (tgt := 13) hx hb dX5_unclip_4 (by decide) (fun c_4 => ?_) (fun c_4 => ?_)
  · have p_4 := (b2i_eq0 _).mp c_4
    have z_4 := wk_none p_4
    have I := mI_ef I (show _ = f from by rw [z_4]; rfl)
    refine lv_aload_n hx hb dX5_unclip_13 rfl (lv_at hl 0 rfl) ?_
    refine lv_iconst (v := 0) hx hb dX5_unclip_14 (by decide) ?_
    refine g_put S hK I k_X5 (v := .int 0) mG_obj 0 (by decide) q2952 rfl rfl rfl rfl (Nat.le_of_ble_eq_true rfl) dX5_unclip_15 (fun H locs I => ?_)
    have I := mI_f (f' := (upd f 0 0)) I rfl
    refine lv_aload_n hx hb dX5_unclip_18 rfl (lv_at hl 0 rfl) ?_
    refine g_cv (g_runV S hK I (As := []) (rest := []) (met_X5_notes l Γ mo ad (upd f 0 0) a rr ph ) (cwV 0 hts (lw_V q3079 q3081 qs56 q151 q3082) rfl rfl rfl (by decide +kernel) ⟨Nat.le_of_ble_eq_true rfl, Nat.le_of_ble_eq_true rfl⟩) (g_recv hK I (g_at.of mG_obj) (ci := 4) rfl) rfl hl.1 rfl (Nat.le_of_ble_eq_true rfl) dX5_unclip_19 ⟨Nat.le_of_ble_eq_true rfl, Nat.le_of_ble_eq_true rfl⟩) I (fun ph1 H locs hp I => ?_)
    subst hp
    have I : g_I Γ (mG Γ mo ad (upd f 0 0) (va_up a 8 (va_cpy (a 5) (a 8) 0 0 170)) rr ph) s H locs := I
    refine lv_aload_n hx hb dX5_unclip_22 rfl (lv_at hl 0 rfl) ?_
    refine g_cv (g_runV S hK I (As := []) (rest := []) (met_X5_remembers l Γ mo ad (upd f 0 0) (va_up a 8 (va_cpy (a 5) (a 8) 0 0 170)) rr ph (okU_0 hU)) (cwV 0 hts (lw_V q3083 q3085 qs57 q151 q3086) rfl rfl rfl (by decide +kernel) ⟨Nat.le_of_ble_eq_true rfl, Nat.le_of_ble_eq_true rfl⟩) (g_recv hK I (g_at.of mG_obj) (ci := 4) rfl) rfl hl.1 rfl (Nat.le_of_ble_eq_true rfl) dX5_unclip_23 ⟨Nat.le_of_ble_eq_true rfl, Nat.le_of_ble_eq_true rfl⟩) I (fun ph1 H locs hp I => ?_)
    subst hp
    have I : g_I Γ (mG Γ mo ad (remF (upd f 0 0)) (va_up (va_up a 8 (va_cpy (a 5) (a 8) 0 0 170)) 6 (va_cpy (va_cpy (a 5) (a 8) 0 0 170) (a 6) 0 (170 * rSl (upd f 0 0)) 170)) rr ph) s H locs := I
    refine lv_aload_n hx hb dX5_unclip_26 rfl (lv_at hl 0 rfl) ?_
    refine g_cv (g_runV S hK I (As := []) (rest := []) (met_X5_unclips l Γ mo ad (remF (upd f 0 0)) (va_up (va_up a 8 (va_cpy (a 5) (a 8) 0 0 170)) 6 (va_cpy (va_cpy (a 5) (a 8) 0 0 170) (a 6) 0 (170 * rSl (upd f 0 0)) 170)) rr ph hw (un_pos hw z_4)) (cwV 0 hts (lw_V q3193 q3195 qs77 q151 q3196) rfl rfl rfl (by decide +kernel) ⟨Nat.le_of_ble_eq_true rfl, Nat.le_of_ble_eq_true rfl⟩) (g_recv hK I (g_at.of mG_obj) (ci := 4) rfl) rfl hl.1 rfl (Nat.le_of_ble_eq_true rfl) dX5_unclip_27 ⟨Nat.le_of_ble_eq_true rfl, Nat.le_of_ble_eq_true rfl⟩) I (fun ph1 H locs hp I => ?_)
    subst hp
    have I : g_I Γ (mG Γ mo ad (remF (upd f 0 0)) (va_up (va_up (va_up a 8 (va_cpy (a 5) (a 8) 0 0 170)) 6 (va_cpy (va_cpy (a 5) (a 8) 0 0 170) (a 6) 0 (170 * rSl (upd f 0 0)) 170)) 5 (unclW (a 5))) rr ph) s H locs := I
    refine lv_aload_n hx hb dX5_unclip_30 rfl (lv_at hl 0 rfl) ?_
    refine g_get S hK I k_X5 (v := .ref (ad 5)) (g_at.of mG_obj) 5 (by decide) q2957 rfl rfl dX5_unclip_31 ?_
    refine lv_sipush (v := 131) hx hb dX5_unclip_34 (by decide) ?_
    refine m_iald S hK I (f := (unclW (a 5))) (k := 131) (g_at.of mG_5) (vp_lit (by decide)) (by decide) dX5_unclip_37 ?_
    exact g_iret S hr hlk I dX5_unclip_38 (Nat.le_of_ble_eq_true rfl) (Nat.le_of_ble_eq_true rfl) hQ ⟨_, rfl, (by (try simp only [z_4]); (try simp [pubF, pubA, pubR, cmA, z_4])), (by (try simp only [z_4]); (try simp [pubF, pubA, pubR, cmA, z_4]))⟩
  · have p_4 := (b2i_ne0 _).mp c_4
    obtain ⟨q_4, hq_4⟩ := wk_some p_4
    refine lv_aload_n hx hb dX5_unclip_7 rfl (lv_at hl 0 rfl) ?_
    refine lv_iconst (v := 1) hx hb dX5_unclip_8 (by decide) ?_
    refine g_ci (g_runV S hK I (As := [.int 1]) (rest := []) (met_X5_refuses l Γ mo ad (m_hin f (nUncl (a 5))) a rr ph 1) (cwV 1 hts (lw_V q3075 q3077 qs55 q151 q3078) rfl rfl rfl (by decide +kernel) ⟨Nat.le_of_ble_eq_true rfl, Nat.le_of_ble_eq_true rfl⟩) (g_recv hK I (g_at.of mG_obj) (ci := 4) rfl) rfl hl.1 rfl (Nat.le_of_ble_eq_true rfl) dX5_unclip_9 ⟨Nat.le_of_ble_eq_true rfl, Nat.le_of_ble_eq_true rfl⟩) I (fun r_9 ph1 H locs hp I => ?_)
    obtain ⟨hp, rfl⟩ := hp
    have hp : r_9 = 0 := hp
    subst hp
    have I : g_I Γ (mG Γ mo ad (m_ref (m_hin f (nUncl (a 5))) 1) a rr ph) s H locs := I
    exact g_iret S hr hlk I dX5_unclip_12 (Nat.le_of_ble_eq_true rfl) (Nat.le_of_ble_eq_true rfl) hQ ⟨_, rfl, (by (try simp only [p_4, hq_4]); (try simp [pubF, pubA, pubR, cmA, p_4, hq_4])), (by (try simp only [p_4, hq_4]); (try simp [pubF, pubA, pubR, cmA, p_4, hq_4]))⟩

set_option maxHeartbeats 4000000 in
set_option maxRecDepth 100000 in
theorem met_X5_take (l : Launch) (Γ : g_C) (mo : Nat) (ad : Nat → Nat) (f : Nat → Int32) (a : Nat → Nat → Int32) (rr : Nat → UInt32) (ph : g_H) (p0 : Int32) (p1 : Int32) (hw : WF (a 5)) (hU : okU f) : g_Met l yX5_take (ws_ yX5_take cX5_take 3 (some .int)) (g_rm 8 0 0) Γ [.ref mo, .int p0, .int p1] (mG Γ mo ad f a rr ph) (g_oi (fun v ph' => v = (if (isCl p0 && isLa (a 5) p1) = false then 0 else pubR (nTake (a 5) p0 p1) (bits (carr (takeW (a 5) p0 p1) p0))) ∧ ph' = mG Γ mo ad (if (isCl p0 && isLa (a 5) p1) = false then upd f 0 1 else pubF f (nTake (a 5) p0 p1) 2) (if (isCl p0 && isLa (a 5) p1) = false then a else pubA f a (nTake (a 5) p0 p1) (takeW (a 5) p0 p1)) rr ph)) g_no := by
  refine g_start (y := yX5_take) (cc := cX5_take) (maxL := 3) (ret := (some .int)) (rm := g_rm 8 0 0) (by decide) (Nat.le_of_ble_eq_true rfl) ?_
  intro p e s m A below meth c ls Q hQ S hr hlk hex hnm hK I hl
  have hx := S.1
  have hb := S.2.1
  have hown := S.2.2.2.1
  have hts := S.2.2.2.2
  have S : CallFix p m c cX5_take 3 s A lw_all "CrumblingWallModel" := S
  have hl : lv_has ls 3 [(0, .ref mo), (1, .int p0), (2, .int p1)] := hl
  refine lv_iload_n hx hb dX5_take_0 rfl (lv_at hl 1 rfl) ?_
  refine g_ci (g_runS S hK I (As := [.int p0]) (rest := []) (met_X5_isClimber l Γ (mG Γ mo ad f a rr ph) p0) (va_cwS 1 hts (lw_S q3217 q3218 q151 q3219) rfl rfl rfl (by decide +kernel) ⟨Nat.le_of_ble_eq_true rfl, Nat.le_of_ble_eq_true rfl⟩) rfl hl.1 rfl (Nat.le_of_ble_eq_true rfl) dX5_take_1 ⟨Nat.le_of_ble_eq_true rfl, Nat.le_of_ble_eq_true rfl⟩) I (fun r_1 ph1 H locs hp I => ?_)
  obtain ⟨hp, rfl⟩ := hp
  have hp : r_1 = b2i (isCl p0) := hp
  subst hp
  refine lv_if_eq (tgt := 15) hx hb dX5_take_4 (by decide) (fun c_4 => ?_) (fun c_4 => ?_)
  · have p_4 := (b2i_eq0 _).mp c_4
    refine lv_aload_n hx hb dX5_take_15 rfl (lv_at hl 0 rfl) ?_
    refine lv_iconst (v := 1) hx hb dX5_take_16 (by decide) ?_
    refine g_ci (g_runV S hK I (As := [.int 1]) (rest := []) (met_X5_fails l Γ mo ad f a rr ph 1) (cwV 1 hts (lw_V q3056 q3058 qs51 q151 q3059) rfl rfl rfl (by decide +kernel) ⟨Nat.le_of_ble_eq_true rfl, Nat.le_of_ble_eq_true rfl⟩) (g_recv hK I (g_at.of mG_obj) (ci := 4) rfl) rfl hl.1 rfl (Nat.le_of_ble_eq_true rfl) dX5_take_17 ⟨Nat.le_of_ble_eq_true rfl, Nat.le_of_ble_eq_true rfl⟩) I (fun r_17 ph1 H locs hp I => ?_)
    obtain ⟨hp, rfl⟩ := hp
    have hp : r_17 = 0 := hp
    subst hp
    have I : g_I Γ (mG Γ mo ad (upd f 0 1) a rr ph) s H locs := I
    exact g_iret S hr hlk I dX5_take_20 (Nat.le_of_ble_eq_true rfl) (Nat.le_of_ble_eq_true rfl) hQ ⟨_, rfl, (by (try simp only [p_4]); (try simp [pubF, pubA, pubR, cmA, takeW, p_4])), (by (try simp only [p_4]); (try simp [pubF, pubA, pubR, cmA, takeW, p_4]))⟩
  · have p_4 := (b2i_ne0 _).mp c_4
    have hc := isCl_iff.mp p_4
    refine lv_aload_n hx hb dX5_take_7 rfl (lv_at hl 0 rfl) ?_
    refine lv_iload_n hx hb dX5_take_8 rfl (lv_at hl 2 rfl) ?_
    refine g_ci (g_runV S hK I (As := [.int p1]) (rest := []) (met_X5_isLamp l Γ mo ad f a rr ph p1) (cwV 1 hts (lw_V q3165 q3167 qs72 q151 q3168) rfl rfl rfl (by decide +kernel) ⟨Nat.le_of_ble_eq_true rfl, Nat.le_of_ble_eq_true rfl⟩) (g_recv hK I (g_at.of mG_obj) (ci := 4) rfl) rfl hl.1 rfl (Nat.le_of_ble_eq_true rfl) dX5_take_9 ⟨Nat.le_of_ble_eq_true rfl, Nat.le_of_ble_eq_true rfl⟩) I (fun r_9 ph1 H locs hp I => ?_)
    obtain ⟨hp, rfl⟩ := hp
    have hp : r_9 = b2i (isLa (a 5) p1) := hp
    subst hp
    refine lv_if_ne (tgt := 21) hx hb dX5_take_12 (by decide) (fun c_12 => ?_) (fun c_12 => ?_)
    · have p_12 := (b2i_ne0 _).mp c_12
      have hv := (isLa_iff hw).mp p_12
      refine lv_aload_n hx hb dX5_take_21 rfl (lv_at hl 0 rfl) ?_
      refine lv_iload_n hx hb dX5_take_22 rfl (lv_at hl 1 rfl) ?_
      refine lv_iload_n hx hb dX5_take_23 rfl (lv_at hl 2 rfl) ?_
      refine g_ci (g_runV S hK I (As := [.int p0, .int p1]) (rest := []) (met_X5_mayNotTake l Γ mo ad f a rr ph p0 p1 hw hc (hw.l4 hv)) (cwV 2 hts (lw_V q3340 q3342 qs99 q151 q3343) rfl rfl rfl (by decide +kernel) ⟨Nat.le_of_ble_eq_true rfl, Nat.le_of_ble_eq_true rfl⟩) (g_recv hK I (g_at.of mG_obj) (ci := 4) rfl) rfl hl.1 rfl (Nat.le_of_ble_eq_true rfl) dX5_take_24 ⟨Nat.le_of_ble_eq_true rfl, Nat.le_of_ble_eq_true rfl⟩) I (fun r_24 ph1 H locs hp I => ?_)
      obtain ⟨hp, rfl⟩ := hp
      have hp : r_24 = b2i ((nTake (a 5) p0 p1).isSome) := hp
      subst hp
      have I : g_I Γ (mG Γ mo ad (m_hin f (nTake (a 5) p0 p1)) a rr ph) s H locs := I
      refine lv_if_eq (tgt := 36) hx hb dX5_take_27 (by decide) (fun c_27 => ?_) (fun c_27 => ?_)
      · have p_27 := (b2i_eq0 _).mp c_27
        have z_27 := wk_none p_27
        have I := mI_ef I (show _ = f from by rw [z_27]; rfl)
        refine lv_aload_n hx hb dX5_take_36 rfl (lv_at hl 0 rfl) ?_
        refine lv_iconst (v := 0) hx hb dX5_take_37 (by decide) ?_
        refine g_put S hK I k_X5 (v := .int 0) mG_obj 0 (by decide) q2952 rfl rfl rfl rfl (Nat.le_of_ble_eq_true rfl) dX5_take_38 (fun H locs I => ?_)
        have I := mI_f (f' := (upd f 0 0)) I rfl
        refine lv_aload_n hx hb dX5_take_41 rfl (lv_at hl 0 rfl) ?_
        refine g_cv (g_runV S hK I (As := []) (rest := []) (met_X5_notes l Γ mo ad (upd f 0 0) a rr ph ) (cwV 0 hts (lw_V q3079 q3081 qs56 q151 q3082) rfl rfl rfl (by decide +kernel) ⟨Nat.le_of_ble_eq_true rfl, Nat.le_of_ble_eq_true rfl⟩) (g_recv hK I (g_at.of mG_obj) (ci := 4) rfl) rfl hl.1 rfl (Nat.le_of_ble_eq_true rfl) dX5_take_42 ⟨Nat.le_of_ble_eq_true rfl, Nat.le_of_ble_eq_true rfl⟩) I (fun ph1 H locs hp I => ?_)
        subst hp
        have I : g_I Γ (mG Γ mo ad (upd f 0 0) (va_up a 8 (va_cpy (a 5) (a 8) 0 0 170)) rr ph) s H locs := I
        refine lv_aload_n hx hb dX5_take_45 rfl (lv_at hl 0 rfl) ?_
        refine g_cv (g_runV S hK I (As := []) (rest := []) (met_X5_remembers l Γ mo ad (upd f 0 0) (va_up a 8 (va_cpy (a 5) (a 8) 0 0 170)) rr ph (okU_0 hU)) (cwV 0 hts (lw_V q3083 q3085 qs57 q151 q3086) rfl rfl rfl (by decide +kernel) ⟨Nat.le_of_ble_eq_true rfl, Nat.le_of_ble_eq_true rfl⟩) (g_recv hK I (g_at.of mG_obj) (ci := 4) rfl) rfl hl.1 rfl (Nat.le_of_ble_eq_true rfl) dX5_take_46 ⟨Nat.le_of_ble_eq_true rfl, Nat.le_of_ble_eq_true rfl⟩) I (fun ph1 H locs hp I => ?_)
        subst hp
        have I : g_I Γ (mG Γ mo ad (remF (upd f 0 0)) (va_up (va_up a 8 (va_cpy (a 5) (a 8) 0 0 170)) 6 (va_cpy (va_cpy (a 5) (a 8) 0 0 170) (a 6) 0 (170 * rSl (upd f 0 0)) 170)) rr ph) s H locs := I
        refine lv_aload_n hx hb dX5_take_49 rfl (lv_at hl 0 rfl) ?_
        refine g_get S hK I k_X5 (v := .ref (ad 5)) (g_at.of mG_obj) 5 (by decide) q2957 rfl rfl dX5_take_50 ?_
        refine lv_iload_n hx hb dX5_take_53 rfl (lv_at hl 2 rfl) ?_
        refine lv_iconst (v := 1) hx hb dX5_take_54 (by decide) ?_
        refine g_ci (g_runS S hK I (As := [.int p1, .int 1]) (rest := [.ref (ad 5)]) (met_X5_atLamp l Γ (mG Γ mo ad (remF (upd f 0 0)) (va_up (va_up a 8 (va_cpy (a 5) (a 8) 0 0 170)) 6 (va_cpy (va_cpy (a 5) (a 8) 0 0 170) (a 6) 0 (170 * rSl (upd f 0 0)) 170)) rr ph) p1 1) (va_cwS 2 hts (lw_S q3134 q3135 q151 q3136) rfl rfl rfl (by decide +kernel) ⟨Nat.le_of_ble_eq_true rfl, Nat.le_of_ble_eq_true rfl⟩) rfl hl.1 rfl (Nat.le_of_ble_eq_true rfl) dX5_take_55 ⟨Nat.le_of_ble_eq_true rfl, Nat.le_of_ble_eq_true rfl⟩) I (fun r_55 ph1 H locs hp I => ?_)
        obtain ⟨hp, rfl⟩ := hp
        have hp : r_55 = 105 + 5 * p1 + 1 := hp
        subst hp
        refine lv_iload_n hx hb dX5_take_58 rfl (lv_at hl 1 rfl) ?_
        refine m_iast S hK I (f := (a 5)) (k := (105 + 5 * p1.toNatClampNeg + 1)) mG_5 (ix_l (t := 1) (hw.l4 hv) (vp_lit (by decide))).1 (ix_l (t := 1) (hw.l4 hv) (vp_lit (by decide))).2 dX5_take_59 (fun H locs I => ?_)
        have I := mI_5 I
        refine lv_aload_n hx hb dX5_take_60 rfl (lv_at hl 0 rfl) ?_
        refine lv_iload_n hx hb dX5_take_61 rfl (lv_at hl 1 rfl) ?_
        refine g_ci (g_runV S hK I (As := [.int p0]) (rest := []) (met_X5_carried l Γ mo ad (remF (upd f 0 0)) (va_up (va_up (va_up a 8 (va_cpy (a 5) (a 8) 0 0 170)) 6 (va_cpy (va_cpy (a 5) (a 8) 0 0 170) (a 6) 0 (170 * rSl (upd f 0 0)) 170)) 5 (upd (a 5) (105 + 5 * p1.toNatClampNeg + 1) p0)) rr ph p0 (hw.take hc hv)) (cwV 1 hts (lw_V q3220 q3222 qs78 q151 q3223) rfl rfl rfl (by decide +kernel) ⟨Nat.le_of_ble_eq_true rfl, Nat.le_of_ble_eq_true rfl⟩) (g_recv hK I (g_at.of mG_obj) (ci := 4) rfl) rfl hl.1 rfl (Nat.le_of_ble_eq_true rfl) dX5_take_62 ⟨Nat.le_of_ble_eq_true rfl, Nat.le_of_ble_eq_true rfl⟩) I (fun r_62 ph1 H locs hp I => ?_)
        obtain ⟨hp, rfl⟩ := hp
        have hp : r_62 = carr (upd (a 5) (105 + 5 * p1.toNatClampNeg + 1) p0) p0 := hp
        subst hp
        refine g_ci (g_runS S hK I (As := [.int (carr (upd (a 5) (105 + 5 * p1.toNatClampNeg + 1) p0) p0)]) (rest := []) (met_X5_bits l Γ (mG Γ mo ad (remF (upd f 0 0)) (va_up (va_up (va_up a 8 (va_cpy (a 5) (a 8) 0 0 170)) 6 (va_cpy (va_cpy (a 5) (a 8) 0 0 170) (a 6) 0 (170 * rSl (upd f 0 0)) 170)) 5 (upd (a 5) (105 + 5 * p1.toNatClampNeg + 1) p0)) rr ph) (carr (upd (a 5) (105 + 5 * p1.toNatClampNeg + 1) p0) p0)) (va_cwS 1 hts (lw_S q3240 q3241 q151 q3242) rfl rfl rfl (by decide +kernel) ⟨Nat.le_of_ble_eq_true rfl, Nat.le_of_ble_eq_true rfl⟩) rfl hl.1 rfl (Nat.le_of_ble_eq_true rfl) dX5_take_65 ⟨Nat.le_of_ble_eq_true rfl, Nat.le_of_ble_eq_true rfl⟩) I (fun r_65 ph1 H locs hp I => ?_)
        obtain ⟨hp, rfl⟩ := hp
        have hp : r_65 = bits (carr (upd (a 5) (105 + 5 * p1.toNatClampNeg + 1) p0) p0) := hp
        subst hp
        exact g_iret S hr hlk I dX5_take_68 (Nat.le_of_ble_eq_true rfl) (Nat.le_of_ble_eq_true rfl) hQ ⟨_, rfl, (by (try simp only [p_4, p_12, z_27]); (try simp [pubF, pubA, pubR, cmA, takeW, p_4, p_12, z_27])), (by (try simp only [p_4, p_12, z_27]); (try simp [pubF, pubA, pubR, cmA, takeW, p_4, p_12, z_27]))⟩
      · have p_27 := (b2i_ne0 _).mp c_27
        obtain ⟨q_27, hq_27⟩ := wk_some p_27
        refine lv_aload_n hx hb dX5_take_30 rfl (lv_at hl 0 rfl) ?_
        refine lv_iconst (v := 2) hx hb dX5_take_31 (by decide) ?_
        refine g_ci (g_runV S hK I (As := [.int 2]) (rest := []) (met_X5_refuses l Γ mo ad (m_hin f (nTake (a 5) p0 p1)) a rr ph 2) (cwV 1 hts (lw_V q3075 q3077 qs55 q151 q3078) rfl rfl rfl (by decide +kernel) ⟨Nat.le_of_ble_eq_true rfl, Nat.le_of_ble_eq_true rfl⟩) (g_recv hK I (g_at.of mG_obj) (ci := 4) rfl) rfl hl.1 rfl (Nat.le_of_ble_eq_true rfl) dX5_take_32 ⟨Nat.le_of_ble_eq_true rfl, Nat.le_of_ble_eq_true rfl⟩) I (fun r_32 ph1 H locs hp I => ?_)
        obtain ⟨hp, rfl⟩ := hp
        have hp : r_32 = 0 := hp
        subst hp
        have I : g_I Γ (mG Γ mo ad (m_ref (m_hin f (nTake (a 5) p0 p1)) 2) a rr ph) s H locs := I
        exact g_iret S hr hlk I dX5_take_35 (Nat.le_of_ble_eq_true rfl) (Nat.le_of_ble_eq_true rfl) hQ ⟨_, rfl, (by (try simp only [p_4, p_12, p_27, hq_27]); (try simp [pubF, pubA, pubR, cmA, takeW, p_4, p_12, p_27, hq_27])), (by (try simp only [p_4, p_12, p_27, hq_27]); (try simp [pubF, pubA, pubR, cmA, takeW, p_4, p_12, p_27, hq_27]))⟩
    · have p_12 := (b2i_eq0 _).mp c_12
      refine lv_aload_n hx hb dX5_take_15 rfl (lv_at hl 0 rfl) ?_
      refine lv_iconst (v := 1) hx hb dX5_take_16 (by decide) ?_
      refine g_ci (g_runV S hK I (As := [.int 1]) (rest := []) (met_X5_fails l Γ mo ad f a rr ph 1) (cwV 1 hts (lw_V q3056 q3058 qs51 q151 q3059) rfl rfl rfl (by decide +kernel) ⟨Nat.le_of_ble_eq_true rfl, Nat.le_of_ble_eq_true rfl⟩) (g_recv hK I (g_at.of mG_obj) (ci := 4) rfl) rfl hl.1 rfl (Nat.le_of_ble_eq_true rfl) dX5_take_17 ⟨Nat.le_of_ble_eq_true rfl, Nat.le_of_ble_eq_true rfl⟩) I (fun r_17 ph1 H locs hp I => ?_)
      obtain ⟨hp, rfl⟩ := hp
      have hp : r_17 = 0 := hp
      subst hp
      have I : g_I Γ (mG Γ mo ad (upd f 0 1) a rr ph) s H locs := I
      exact g_iret S hr hlk I dX5_take_20 (Nat.le_of_ble_eq_true rfl) (Nat.le_of_ble_eq_true rfl) hQ ⟨_, rfl, (by (try simp only [p_4, p_12]); (try simp [pubF, pubA, pubR, cmA, takeW, p_4, p_12])), (by (try simp only [p_4, p_12]); (try simp [pubF, pubA, pubR, cmA, takeW, p_4, p_12]))⟩

set_option maxHeartbeats 4000000 in
set_option maxRecDepth 100000 in
theorem met_X5_put (l : Launch) (Γ : g_C) (mo : Nat) (ad : Nat → Nat) (f : Nat → Int32) (a : Nat → Nat → Int32) (rr : Nat → UInt32) (ph : g_H) (p0 : Int32) (p1 : Int32) (hw : WF (a 5)) (hU : okU f) : g_Met l yX5_put (ws_ yX5_put cX5_put 3 (some .int)) (g_rm 8 0 0) Γ [.ref mo, .int p0, .int p1] (mG Γ mo ad f a rr ph) (g_oi (fun v ph' => v = (if (isCl p0 && isLa (a 5) p1) = false then 0 else pubR (nPut (a 5) p0 p1) (bits (carr (putW (a 5) p0 p1) p0))) ∧ ph' = mG Γ mo ad (if (isCl p0 && isLa (a 5) p1) = false then upd f 0 1 else pubF f (nPut (a 5) p0 p1) 2) (if (isCl p0 && isLa (a 5) p1) = false then a else pubA f a (nPut (a 5) p0 p1) (putW (a 5) p0 p1)) rr ph)) g_no := by
  refine g_start (y := yX5_put) (cc := cX5_put) (maxL := 3) (ret := (some .int)) (rm := g_rm 8 0 0) (by decide) (Nat.le_of_ble_eq_true rfl) ?_
  intro p e s m A below meth c ls Q hQ S hr hlk hex hnm hK I hl
  have hx := S.1
  have hb := S.2.1
  have hown := S.2.2.2.1
  have hts := S.2.2.2.2
  have S : CallFix p m c cX5_put 3 s A lw_all "CrumblingWallModel" := S
  have hl : lv_has ls 3 [(0, .ref mo), (1, .int p0), (2, .int p1)] := hl
  refine lv_iload_n hx hb dX5_put_0 rfl (lv_at hl 1 rfl) ?_
  refine g_ci (g_runS S hK I (As := [.int p0]) (rest := []) (met_X5_isClimber l Γ (mG Γ mo ad f a rr ph) p0) (va_cwS 1 hts (lw_S q3217 q3218 q151 q3219) rfl rfl rfl (by decide +kernel) ⟨Nat.le_of_ble_eq_true rfl, Nat.le_of_ble_eq_true rfl⟩) rfl hl.1 rfl (Nat.le_of_ble_eq_true rfl) dX5_put_1 ⟨Nat.le_of_ble_eq_true rfl, Nat.le_of_ble_eq_true rfl⟩) I (fun r_1 ph1 H locs hp I => ?_)
  obtain ⟨hp, rfl⟩ := hp
  have hp : r_1 = b2i (isCl p0) := hp
  subst hp
  refine lv_if_eq (tgt := 15) hx hb dX5_put_4 (by decide) (fun c_4 => ?_) (fun c_4 => ?_)
  · have p_4 := (b2i_eq0 _).mp c_4
    refine lv_aload_n hx hb dX5_put_15 rfl (lv_at hl 0 rfl) ?_
    refine lv_iconst (v := 1) hx hb dX5_put_16 (by decide) ?_
    refine g_ci (g_runV S hK I (As := [.int 1]) (rest := []) (met_X5_fails l Γ mo ad f a rr ph 1) (cwV 1 hts (lw_V q3056 q3058 qs51 q151 q3059) rfl rfl rfl (by decide +kernel) ⟨Nat.le_of_ble_eq_true rfl, Nat.le_of_ble_eq_true rfl⟩) (g_recv hK I (g_at.of mG_obj) (ci := 4) rfl) rfl hl.1 rfl (Nat.le_of_ble_eq_true rfl) dX5_put_17 ⟨Nat.le_of_ble_eq_true rfl, Nat.le_of_ble_eq_true rfl⟩) I (fun r_17 ph1 H locs hp I => ?_)
    obtain ⟨hp, rfl⟩ := hp
    have hp : r_17 = 0 := hp
    subst hp
    have I : g_I Γ (mG Γ mo ad (upd f 0 1) a rr ph) s H locs := I
    exact g_iret S hr hlk I dX5_put_20 (Nat.le_of_ble_eq_true rfl) (Nat.le_of_ble_eq_true rfl) hQ ⟨_, rfl, (by (try simp only [p_4]); (try simp [pubF, pubA, pubR, cmA, p_4])), (by (try simp only [p_4]); (try simp [pubF, pubA, pubR, cmA, p_4]))⟩
  · have p_4 := (b2i_ne0 _).mp c_4
    have hc := isCl_iff.mp p_4
    refine lv_aload_n hx hb dX5_put_7 rfl (lv_at hl 0 rfl) ?_
    refine lv_iload_n hx hb dX5_put_8 rfl (lv_at hl 2 rfl) ?_
    refine g_ci (g_runV S hK I (As := [.int p1]) (rest := []) (met_X5_isLamp l Γ mo ad f a rr ph p1) (cwV 1 hts (lw_V q3165 q3167 qs72 q151 q3168) rfl rfl rfl (by decide +kernel) ⟨Nat.le_of_ble_eq_true rfl, Nat.le_of_ble_eq_true rfl⟩) (g_recv hK I (g_at.of mG_obj) (ci := 4) rfl) rfl hl.1 rfl (Nat.le_of_ble_eq_true rfl) dX5_put_9 ⟨Nat.le_of_ble_eq_true rfl, Nat.le_of_ble_eq_true rfl⟩) I (fun r_9 ph1 H locs hp I => ?_)
    obtain ⟨hp, rfl⟩ := hp
    have hp : r_9 = b2i (isLa (a 5) p1) := hp
    subst hp
    refine lv_if_ne (tgt := 21) hx hb dX5_put_12 (by decide) (fun c_12 => ?_) (fun c_12 => ?_)
    · have p_12 := (b2i_ne0 _).mp c_12
      have hv := (isLa_iff hw).mp p_12
      refine lv_aload_n hx hb dX5_put_21 rfl (lv_at hl 0 rfl) ?_
      refine lv_iload_n hx hb dX5_put_22 rfl (lv_at hl 1 rfl) ?_
      refine lv_iload_n hx hb dX5_put_23 rfl (lv_at hl 2 rfl) ?_
      refine g_ci (g_runV S hK I (As := [.int p0, .int p1]) (rest := []) (met_X5_mayNotPut l Γ mo ad f a rr ph p0 p1 hc (hw.l4 hv)) (cwV 2 hts (lw_V q3352 q3354 qs101 q151 q3355) rfl rfl rfl (by decide +kernel) ⟨Nat.le_of_ble_eq_true rfl, Nat.le_of_ble_eq_true rfl⟩) (g_recv hK I (g_at.of mG_obj) (ci := 4) rfl) rfl hl.1 rfl (Nat.le_of_ble_eq_true rfl) dX5_put_24 ⟨Nat.le_of_ble_eq_true rfl, Nat.le_of_ble_eq_true rfl⟩) I (fun r_24 ph1 H locs hp I => ?_)
      obtain ⟨hp, rfl⟩ := hp
      have hp : r_24 = b2i ((nPut (a 5) p0 p1).isSome) := hp
      subst hp
      have I : g_I Γ (mG Γ mo ad (m_hin f (nPut (a 5) p0 p1)) a rr ph) s H locs := I
      refine lv_if_eq (tgt := 36) hx hb dX5_put_27 (by decide) (fun c_27 => ?_) (fun c_27 => ?_)
      · have p_27 := (b2i_eq0 _).mp c_27
        have z_27 := wk_none p_27
        have I := mI_ef I (show _ = f from by rw [z_27]; rfl)
        refine lv_aload_n hx hb dX5_put_36 rfl (lv_at hl 0 rfl) ?_
        refine lv_iconst (v := 0) hx hb dX5_put_37 (by decide) ?_
        refine g_put S hK I k_X5 (v := .int 0) mG_obj 0 (by decide) q2952 rfl rfl rfl rfl (Nat.le_of_ble_eq_true rfl) dX5_put_38 (fun H locs I => ?_)
        have I := mI_f (f' := (upd f 0 0)) I rfl
        refine lv_aload_n hx hb dX5_put_41 rfl (lv_at hl 0 rfl) ?_
        refine g_cv (g_runV S hK I (As := []) (rest := []) (met_X5_notes l Γ mo ad (upd f 0 0) a rr ph ) (cwV 0 hts (lw_V q3079 q3081 qs56 q151 q3082) rfl rfl rfl (by decide +kernel) ⟨Nat.le_of_ble_eq_true rfl, Nat.le_of_ble_eq_true rfl⟩) (g_recv hK I (g_at.of mG_obj) (ci := 4) rfl) rfl hl.1 rfl (Nat.le_of_ble_eq_true rfl) dX5_put_42 ⟨Nat.le_of_ble_eq_true rfl, Nat.le_of_ble_eq_true rfl⟩) I (fun ph1 H locs hp I => ?_)
        subst hp
        have I : g_I Γ (mG Γ mo ad (upd f 0 0) (va_up a 8 (va_cpy (a 5) (a 8) 0 0 170)) rr ph) s H locs := I
        refine lv_aload_n hx hb dX5_put_45 rfl (lv_at hl 0 rfl) ?_
        refine g_cv (g_runV S hK I (As := []) (rest := []) (met_X5_remembers l Γ mo ad (upd f 0 0) (va_up a 8 (va_cpy (a 5) (a 8) 0 0 170)) rr ph (okU_0 hU)) (cwV 0 hts (lw_V q3083 q3085 qs57 q151 q3086) rfl rfl rfl (by decide +kernel) ⟨Nat.le_of_ble_eq_true rfl, Nat.le_of_ble_eq_true rfl⟩) (g_recv hK I (g_at.of mG_obj) (ci := 4) rfl) rfl hl.1 rfl (Nat.le_of_ble_eq_true rfl) dX5_put_46 ⟨Nat.le_of_ble_eq_true rfl, Nat.le_of_ble_eq_true rfl⟩) I (fun ph1 H locs hp I => ?_)
        subst hp
        have I : g_I Γ (mG Γ mo ad (remF (upd f 0 0)) (va_up (va_up a 8 (va_cpy (a 5) (a 8) 0 0 170)) 6 (va_cpy (va_cpy (a 5) (a 8) 0 0 170) (a 6) 0 (170 * rSl (upd f 0 0)) 170)) rr ph) s H locs := I
        refine lv_aload_n hx hb dX5_put_49 rfl (lv_at hl 0 rfl) ?_
        refine lv_iload_n hx hb dX5_put_50 rfl (lv_at hl 1 rfl) ?_
        refine lv_iload_n hx hb dX5_put_51 rfl (lv_at hl 2 rfl) ?_
        refine g_cv (g_runV S hK I (As := [.int p0, .int p1]) (rest := []) (met_X5_puts l Γ mo ad (remF (upd f 0 0)) (va_up (va_up a 8 (va_cpy (a 5) (a 8) 0 0 170)) 6 (va_cpy (va_cpy (a 5) (a 8) 0 0 170) (a 6) 0 (170 * rSl (upd f 0 0)) 170)) rr ph p0 p1 hc (hw.l4 hv)) (cwV 2 hts (lw_V q3356 q3358 qs102 q151 q3359) rfl rfl rfl (by decide +kernel) ⟨Nat.le_of_ble_eq_true rfl, Nat.le_of_ble_eq_true rfl⟩) (g_recv hK I (g_at.of mG_obj) (ci := 4) rfl) rfl hl.1 rfl (Nat.le_of_ble_eq_true rfl) dX5_put_52 ⟨Nat.le_of_ble_eq_true rfl, Nat.le_of_ble_eq_true rfl⟩) I (fun ph1 H locs hp I => ?_)
        subst hp
        have I : g_I Γ (mG Γ mo ad (remF (upd f 0 0)) (va_up (va_up (va_up a 8 (va_cpy (a 5) (a 8) 0 0 170)) 6 (va_cpy (va_cpy (a 5) (a 8) 0 0 170) (a 6) 0 (170 * rSl (upd f 0 0)) 170)) 5 (putW (a 5) p0 p1)) rr ph) s H locs := I
        refine lv_aload_n hx hb dX5_put_55 rfl (lv_at hl 0 rfl) ?_
        refine lv_iload_n hx hb dX5_put_56 rfl (lv_at hl 1 rfl) ?_
        refine g_ci (g_runV S hK I (As := [.int p0]) (rest := []) (met_X5_carried l Γ mo ad (remF (upd f 0 0)) (va_up (va_up (va_up a 8 (va_cpy (a 5) (a 8) 0 0 170)) 6 (va_cpy (va_cpy (a 5) (a 8) 0 0 170) (a 6) 0 (170 * rSl (upd f 0 0)) 170)) 5 (putW (a 5) p0 p1)) rr ph p0 (hw.put hc hv)) (cwV 1 hts (lw_V q3220 q3222 qs78 q151 q3223) rfl rfl rfl (by decide +kernel) ⟨Nat.le_of_ble_eq_true rfl, Nat.le_of_ble_eq_true rfl⟩) (g_recv hK I (g_at.of mG_obj) (ci := 4) rfl) rfl hl.1 rfl (Nat.le_of_ble_eq_true rfl) dX5_put_57 ⟨Nat.le_of_ble_eq_true rfl, Nat.le_of_ble_eq_true rfl⟩) I (fun r_57 ph1 H locs hp I => ?_)
        obtain ⟨hp, rfl⟩ := hp
        have hp : r_57 = carr (putW (a 5) p0 p1) p0 := hp
        subst hp
        refine g_ci (g_runS S hK I (As := [.int (carr (putW (a 5) p0 p1) p0)]) (rest := []) (met_X5_bits l Γ (mG Γ mo ad (remF (upd f 0 0)) (va_up (va_up (va_up a 8 (va_cpy (a 5) (a 8) 0 0 170)) 6 (va_cpy (va_cpy (a 5) (a 8) 0 0 170) (a 6) 0 (170 * rSl (upd f 0 0)) 170)) 5 (putW (a 5) p0 p1)) rr ph) (carr (putW (a 5) p0 p1) p0)) (va_cwS 1 hts (lw_S q3240 q3241 q151 q3242) rfl rfl rfl (by decide +kernel) ⟨Nat.le_of_ble_eq_true rfl, Nat.le_of_ble_eq_true rfl⟩) rfl hl.1 rfl (Nat.le_of_ble_eq_true rfl) dX5_put_60 ⟨Nat.le_of_ble_eq_true rfl, Nat.le_of_ble_eq_true rfl⟩) I (fun r_60 ph1 H locs hp I => ?_)
        obtain ⟨hp, rfl⟩ := hp
        have hp : r_60 = bits (carr (putW (a 5) p0 p1) p0) := hp
        subst hp
        exact g_iret S hr hlk I dX5_put_63 (Nat.le_of_ble_eq_true rfl) (Nat.le_of_ble_eq_true rfl) hQ ⟨_, rfl, (by (try simp only [p_4, p_12, z_27]); (try simp [pubF, pubA, pubR, cmA, p_4, p_12, z_27])), (by (try simp only [p_4, p_12, z_27]); (try simp [pubF, pubA, pubR, cmA, p_4, p_12, z_27]))⟩
      · have p_27 := (b2i_ne0 _).mp c_27
        obtain ⟨q_27, hq_27⟩ := wk_some p_27
        refine lv_aload_n hx hb dX5_put_30 rfl (lv_at hl 0 rfl) ?_
        refine lv_iconst (v := 2) hx hb dX5_put_31 (by decide) ?_
        refine g_ci (g_runV S hK I (As := [.int 2]) (rest := []) (met_X5_refuses l Γ mo ad (m_hin f (nPut (a 5) p0 p1)) a rr ph 2) (cwV 1 hts (lw_V q3075 q3077 qs55 q151 q3078) rfl rfl rfl (by decide +kernel) ⟨Nat.le_of_ble_eq_true rfl, Nat.le_of_ble_eq_true rfl⟩) (g_recv hK I (g_at.of mG_obj) (ci := 4) rfl) rfl hl.1 rfl (Nat.le_of_ble_eq_true rfl) dX5_put_32 ⟨Nat.le_of_ble_eq_true rfl, Nat.le_of_ble_eq_true rfl⟩) I (fun r_32 ph1 H locs hp I => ?_)
        obtain ⟨hp, rfl⟩ := hp
        have hp : r_32 = 0 := hp
        subst hp
        have I : g_I Γ (mG Γ mo ad (m_ref (m_hin f (nPut (a 5) p0 p1)) 2) a rr ph) s H locs := I
        exact g_iret S hr hlk I dX5_put_35 (Nat.le_of_ble_eq_true rfl) (Nat.le_of_ble_eq_true rfl) hQ ⟨_, rfl, (by (try simp only [p_4, p_12, p_27, hq_27]); (try simp [pubF, pubA, pubR, cmA, p_4, p_12, p_27, hq_27])), (by (try simp only [p_4, p_12, p_27, hq_27]); (try simp [pubF, pubA, pubR, cmA, p_4, p_12, p_27, hq_27]))⟩
    · have p_12 := (b2i_eq0 _).mp c_12
      refine lv_aload_n hx hb dX5_put_15 rfl (lv_at hl 0 rfl) ?_
      refine lv_iconst (v := 1) hx hb dX5_put_16 (by decide) ?_
      refine g_ci (g_runV S hK I (As := [.int 1]) (rest := []) (met_X5_fails l Γ mo ad f a rr ph 1) (cwV 1 hts (lw_V q3056 q3058 qs51 q151 q3059) rfl rfl rfl (by decide +kernel) ⟨Nat.le_of_ble_eq_true rfl, Nat.le_of_ble_eq_true rfl⟩) (g_recv hK I (g_at.of mG_obj) (ci := 4) rfl) rfl hl.1 rfl (Nat.le_of_ble_eq_true rfl) dX5_put_17 ⟨Nat.le_of_ble_eq_true rfl, Nat.le_of_ble_eq_true rfl⟩) I (fun r_17 ph1 H locs hp I => ?_)
      obtain ⟨hp, rfl⟩ := hp
      have hp : r_17 = 0 := hp
      subst hp
      have I : g_I Γ (mG Γ mo ad (upd f 0 1) a rr ph) s H locs := I
      exact g_iret S hr hlk I dX5_put_20 (Nat.le_of_ble_eq_true rfl) (Nat.le_of_ble_eq_true rfl) hQ ⟨_, rfl, (by (try simp only [p_4, p_12]); (try simp [pubF, pubA, pubR, cmA, p_4, p_12])), (by (try simp only [p_4, p_12]); (try simp [pubF, pubA, pubR, cmA, p_4, p_12]))⟩

set_option maxHeartbeats 4000000 in
set_option maxRecDepth 100000 in
theorem met_X5_light (l : Launch) (Γ : g_C) (mo : Nat) (ad : Nat → Nat) (f : Nat → Int32) (a : Nat → Nat → Int32) (rr : Nat → UInt32) (ph : g_H) (p0 : Int32) (p1 : Int32) (hw : WF (a 5)) (hU : okU f) : g_Met l yX5_light (ws_ yX5_light cX5_light 3 (some .int)) (g_rm 8 0 0) Γ [.ref mo, .int p0, .int p1] (mG Γ mo ad f a rr ph) (g_oi (fun v ph' => v = (if (isCl p0 && isLa (a 5) p1) = false then 0 else pubR (nLight (a 5) p0 p1) (lX (litW (a 5) p1) p1 4)) ∧ ph' = mG Γ mo ad (if (isCl p0 && isLa (a 5) p1) = false then upd f 0 1 else pubF f (nLight (a 5) p0 p1) 2) (if (isCl p0 && isLa (a 5) p1) = false then a else pubA f a (nLight (a 5) p0 p1) (litW (a 5) p1)) rr ph)) g_no := by
  refine g_start (y := yX5_light) (cc := cX5_light) (maxL := 3) (ret := (some .int)) (rm := g_rm 8 0 0) (by decide) (Nat.le_of_ble_eq_true rfl) ?_
  intro p e s m A below meth c ls Q hQ S hr hlk hex hnm hK I hl
  have hx := S.1
  have hb := S.2.1
  have hown := S.2.2.2.1
  have hts := S.2.2.2.2
  have S : CallFix p m c cX5_light 3 s A lw_all "CrumblingWallModel" := S
  have hl : lv_has ls 3 [(0, .ref mo), (1, .int p0), (2, .int p1)] := hl
  refine lv_iload_n hx hb dX5_light_0 rfl (lv_at hl 1 rfl) ?_
  refine g_ci (g_runS S hK I (As := [.int p0]) (rest := []) (met_X5_isClimber l Γ (mG Γ mo ad f a rr ph) p0) (va_cwS 1 hts (lw_S q3217 q3218 q151 q3219) rfl rfl rfl (by decide +kernel) ⟨Nat.le_of_ble_eq_true rfl, Nat.le_of_ble_eq_true rfl⟩) rfl hl.1 rfl (Nat.le_of_ble_eq_true rfl) dX5_light_1 ⟨Nat.le_of_ble_eq_true rfl, Nat.le_of_ble_eq_true rfl⟩) I (fun r_1 ph1 H locs hp I => ?_)
  obtain ⟨hp, rfl⟩ := hp
  have hp : r_1 = b2i (isCl p0) := hp
  subst hp
  refine lv_if_eq (tgt := 15) hx hb dX5_light_4 (by decide) (fun c_4 => ?_) (fun c_4 => ?_)
  · have p_4 := (b2i_eq0 _).mp c_4
    refine lv_aload_n hx hb dX5_light_15 rfl (lv_at hl 0 rfl) ?_
    refine lv_iconst (v := 1) hx hb dX5_light_16 (by decide) ?_
    refine g_ci (g_runV S hK I (As := [.int 1]) (rest := []) (met_X5_fails l Γ mo ad f a rr ph 1) (cwV 1 hts (lw_V q3056 q3058 qs51 q151 q3059) rfl rfl rfl (by decide +kernel) ⟨Nat.le_of_ble_eq_true rfl, Nat.le_of_ble_eq_true rfl⟩) (g_recv hK I (g_at.of mG_obj) (ci := 4) rfl) rfl hl.1 rfl (Nat.le_of_ble_eq_true rfl) dX5_light_17 ⟨Nat.le_of_ble_eq_true rfl, Nat.le_of_ble_eq_true rfl⟩) I (fun r_17 ph1 H locs hp I => ?_)
    obtain ⟨hp, rfl⟩ := hp
    have hp : r_17 = 0 := hp
    subst hp
    have I : g_I Γ (mG Γ mo ad (upd f 0 1) a rr ph) s H locs := I
    exact g_iret S hr hlk I dX5_light_20 (Nat.le_of_ble_eq_true rfl) (Nat.le_of_ble_eq_true rfl) hQ ⟨_, rfl, (by (try simp only [p_4]); (try simp [pubF, pubA, pubR, cmA, litW, p_4])), (by (try simp only [p_4]); (try simp [pubF, pubA, pubR, cmA, litW, p_4]))⟩
  · have p_4 := (b2i_ne0 _).mp c_4
    have hc := isCl_iff.mp p_4
    refine lv_aload_n hx hb dX5_light_7 rfl (lv_at hl 0 rfl) ?_
    refine lv_iload_n hx hb dX5_light_8 rfl (lv_at hl 2 rfl) ?_
    refine g_ci (g_runV S hK I (As := [.int p1]) (rest := []) (met_X5_isLamp l Γ mo ad f a rr ph p1) (cwV 1 hts (lw_V q3165 q3167 qs72 q151 q3168) rfl rfl rfl (by decide +kernel) ⟨Nat.le_of_ble_eq_true rfl, Nat.le_of_ble_eq_true rfl⟩) (g_recv hK I (g_at.of mG_obj) (ci := 4) rfl) rfl hl.1 rfl (Nat.le_of_ble_eq_true rfl) dX5_light_9 ⟨Nat.le_of_ble_eq_true rfl, Nat.le_of_ble_eq_true rfl⟩) I (fun r_9 ph1 H locs hp I => ?_)
    obtain ⟨hp, rfl⟩ := hp
    have hp : r_9 = b2i (isLa (a 5) p1) := hp
    subst hp
    refine lv_if_ne (tgt := 21) hx hb dX5_light_12 (by decide) (fun c_12 => ?_) (fun c_12 => ?_)
    · have p_12 := (b2i_ne0 _).mp c_12
      have hv := (isLa_iff hw).mp p_12
      refine lv_aload_n hx hb dX5_light_21 rfl (lv_at hl 0 rfl) ?_
      refine lv_iload_n hx hb dX5_light_22 rfl (lv_at hl 1 rfl) ?_
      refine lv_iload_n hx hb dX5_light_23 rfl (lv_at hl 2 rfl) ?_
      refine g_ci (g_runV S hK I (As := [.int p0, .int p1]) (rest := []) (met_X5_mayNotLight l Γ mo ad f a rr ph p0 p1 hc (hw.l4 hv)) (cwV 2 hts (lw_V q3364 q3366 qs103 q151 q3367) rfl rfl rfl (by decide +kernel) ⟨Nat.le_of_ble_eq_true rfl, Nat.le_of_ble_eq_true rfl⟩) (g_recv hK I (g_at.of mG_obj) (ci := 4) rfl) rfl hl.1 rfl (Nat.le_of_ble_eq_true rfl) dX5_light_24 ⟨Nat.le_of_ble_eq_true rfl, Nat.le_of_ble_eq_true rfl⟩) I (fun r_24 ph1 H locs hp I => ?_)
      obtain ⟨hp, rfl⟩ := hp
      have hp : r_24 = b2i ((nLight (a 5) p0 p1).isSome) := hp
      subst hp
      have I : g_I Γ (mG Γ mo ad (m_hin f (nLight (a 5) p0 p1)) a rr ph) s H locs := I
      refine lv_if_eq (tgt := 36) hx hb dX5_light_27 (by decide) (fun c_27 => ?_) (fun c_27 => ?_)
      · have p_27 := (b2i_eq0 _).mp c_27
        have z_27 := wk_none p_27
        have I := mI_ef I (show _ = f from by rw [z_27]; rfl)
        refine lv_aload_n hx hb dX5_light_36 rfl (lv_at hl 0 rfl) ?_
        refine lv_iconst (v := 0) hx hb dX5_light_37 (by decide) ?_
        refine g_put S hK I k_X5 (v := .int 0) mG_obj 0 (by decide) q2952 rfl rfl rfl rfl (Nat.le_of_ble_eq_true rfl) dX5_light_38 (fun H locs I => ?_)
        have I := mI_f (f' := (upd f 0 0)) I rfl
        refine lv_aload_n hx hb dX5_light_41 rfl (lv_at hl 0 rfl) ?_
        refine g_cv (g_runV S hK I (As := []) (rest := []) (met_X5_notes l Γ mo ad (upd f 0 0) a rr ph ) (cwV 0 hts (lw_V q3079 q3081 qs56 q151 q3082) rfl rfl rfl (by decide +kernel) ⟨Nat.le_of_ble_eq_true rfl, Nat.le_of_ble_eq_true rfl⟩) (g_recv hK I (g_at.of mG_obj) (ci := 4) rfl) rfl hl.1 rfl (Nat.le_of_ble_eq_true rfl) dX5_light_42 ⟨Nat.le_of_ble_eq_true rfl, Nat.le_of_ble_eq_true rfl⟩) I (fun ph1 H locs hp I => ?_)
        subst hp
        have I : g_I Γ (mG Γ mo ad (upd f 0 0) (va_up a 8 (va_cpy (a 5) (a 8) 0 0 170)) rr ph) s H locs := I
        refine lv_aload_n hx hb dX5_light_45 rfl (lv_at hl 0 rfl) ?_
        refine g_cv (g_runV S hK I (As := []) (rest := []) (met_X5_remembers l Γ mo ad (upd f 0 0) (va_up a 8 (va_cpy (a 5) (a 8) 0 0 170)) rr ph (okU_0 hU)) (cwV 0 hts (lw_V q3083 q3085 qs57 q151 q3086) rfl rfl rfl (by decide +kernel) ⟨Nat.le_of_ble_eq_true rfl, Nat.le_of_ble_eq_true rfl⟩) (g_recv hK I (g_at.of mG_obj) (ci := 4) rfl) rfl hl.1 rfl (Nat.le_of_ble_eq_true rfl) dX5_light_46 ⟨Nat.le_of_ble_eq_true rfl, Nat.le_of_ble_eq_true rfl⟩) I (fun ph1 H locs hp I => ?_)
        subst hp
        have I : g_I Γ (mG Γ mo ad (remF (upd f 0 0)) (va_up (va_up a 8 (va_cpy (a 5) (a 8) 0 0 170)) 6 (va_cpy (va_cpy (a 5) (a 8) 0 0 170) (a 6) 0 (170 * rSl (upd f 0 0)) 170)) rr ph) s H locs := I
        refine lv_aload_n hx hb dX5_light_49 rfl (lv_at hl 0 rfl) ?_
        refine g_get S hK I k_X5 (v := .ref (ad 5)) (g_at.of mG_obj) 5 (by decide) q2957 rfl rfl dX5_light_50 ?_
        refine lv_iload_n hx hb dX5_light_53 rfl (lv_at hl 2 rfl) ?_
        refine lv_iconst (v := 4) hx hb dX5_light_54 (by decide) ?_
        refine g_ci (g_runS S hK I (As := [.int p1, .int 4]) (rest := [.ref (ad 5)]) (met_X5_atLamp l Γ (mG Γ mo ad (remF (upd f 0 0)) (va_up (va_up a 8 (va_cpy (a 5) (a 8) 0 0 170)) 6 (va_cpy (va_cpy (a 5) (a 8) 0 0 170) (a 6) 0 (170 * rSl (upd f 0 0)) 170)) rr ph) p1 4) (va_cwS 2 hts (lw_S q3134 q3135 q151 q3136) rfl rfl rfl (by decide +kernel) ⟨Nat.le_of_ble_eq_true rfl, Nat.le_of_ble_eq_true rfl⟩) rfl hl.1 rfl (Nat.le_of_ble_eq_true rfl) dX5_light_55 ⟨Nat.le_of_ble_eq_true rfl, Nat.le_of_ble_eq_true rfl⟩) I (fun r_55 ph1 H locs hp I => ?_)
        obtain ⟨hp, rfl⟩ := hp
        have hp : r_55 = 105 + 5 * p1 + 4 := hp
        subst hp
        refine lv_iconst (v := 1) hx hb dX5_light_58 (by decide) ?_
        refine lv_aload_n hx hb dX5_light_59 rfl (lv_at hl 0 rfl) ?_
        refine lv_iload_n hx hb dX5_light_60 rfl (lv_at hl 2 rfl) ?_
        refine lv_iconst (v := 4) hx hb dX5_light_61 (by decide) ?_
        refine g_ci (g_runV S hK I (As := [.int p1, .int 4]) (rest := [.int 1, .int (105 + 5 * p1 + 4), .ref (ad 5)]) (met_X5_ofLamp l Γ mo ad (remF (upd f 0 0)) (va_up (va_up a 8 (va_cpy (a 5) (a 8) 0 0 170)) 6 (va_cpy (va_cpy (a 5) (a 8) 0 0 170) (a 6) 0 (170 * rSl (upd f 0 0)) 170)) rr ph p1 4 (hw.l4 hv) (vp_lit (by decide))) (cwV 2 hts (lw_V q3130 q3132 qs66 q151 q3133) rfl rfl rfl (by decide +kernel) ⟨Nat.le_of_ble_eq_true rfl, Nat.le_of_ble_eq_true rfl⟩) (g_recv hK I (g_at.of mG_obj) (ci := 4) rfl) rfl hl.1 rfl (Nat.le_of_ble_eq_true rfl) dX5_light_62 ⟨Nat.le_of_ble_eq_true rfl, Nat.le_of_ble_eq_true rfl⟩) I (fun r_62 ph1 H locs hp I => ?_)
        obtain ⟨hp, rfl⟩ := hp
        have hp : r_62 = lX (a 5) p1 4 := hp
        subst hp
        refine lv_isub hx hb dX5_light_65 ?_
        refine m_iast S hK I (f := (a 5)) (k := (105 + 5 * p1.toNatClampNeg + 4)) mG_5 (ix_l (t := 4) (hw.l4 hv) (vp_lit (by decide))).1 (ix_l (t := 4) (hw.l4 hv) (vp_lit (by decide))).2 dX5_light_66 (fun H locs I => ?_)
        have I := mI_5 I
        refine lv_aload_n hx hb dX5_light_67 rfl (lv_at hl 0 rfl) ?_
        refine lv_iload_n hx hb dX5_light_68 rfl (lv_at hl 2 rfl) ?_
        refine lv_iconst (v := 4) hx hb dX5_light_69 (by decide) ?_
        refine g_ci (g_runV S hK I (As := [.int p1, .int 4]) (rest := []) (met_X5_ofLamp l Γ mo ad (remF (upd f 0 0)) (va_up (va_up (va_up a 8 (va_cpy (a 5) (a 8) 0 0 170)) 6 (va_cpy (va_cpy (a 5) (a 8) 0 0 170) (a 6) 0 (170 * rSl (upd f 0 0)) 170)) 5 (upd (a 5) (105 + 5 * p1.toNatClampNeg + 4) (1 - (lX (a 5) p1 4)))) rr ph p1 4 (hw.l4 hv) (vp_lit (by decide))) (cwV 2 hts (lw_V q3130 q3132 qs66 q151 q3133) rfl rfl rfl (by decide +kernel) ⟨Nat.le_of_ble_eq_true rfl, Nat.le_of_ble_eq_true rfl⟩) (g_recv hK I (g_at.of mG_obj) (ci := 4) rfl) rfl hl.1 rfl (Nat.le_of_ble_eq_true rfl) dX5_light_70 ⟨Nat.le_of_ble_eq_true rfl, Nat.le_of_ble_eq_true rfl⟩) I (fun r_70 ph1 H locs hp I => ?_)
        obtain ⟨hp, rfl⟩ := hp
        have hp : r_70 = lX (upd (a 5) (105 + 5 * p1.toNatClampNeg + 4) (1 - (lX (a 5) p1 4))) p1 4 := hp
        subst hp
        exact g_iret S hr hlk I dX5_light_73 (Nat.le_of_ble_eq_true rfl) (Nat.le_of_ble_eq_true rfl) hQ ⟨_, rfl, (by (try simp only [p_4, p_12, z_27]); (try simp [pubF, pubA, pubR, cmA, litW, p_4, p_12, z_27])), (by (try simp only [p_4, p_12, z_27]); (try simp [pubF, pubA, pubR, cmA, litW, p_4, p_12, z_27]))⟩
      · have p_27 := (b2i_ne0 _).mp c_27
        obtain ⟨q_27, hq_27⟩ := wk_some p_27
        refine lv_aload_n hx hb dX5_light_30 rfl (lv_at hl 0 rfl) ?_
        refine lv_iconst (v := 2) hx hb dX5_light_31 (by decide) ?_
        refine g_ci (g_runV S hK I (As := [.int 2]) (rest := []) (met_X5_refuses l Γ mo ad (m_hin f (nLight (a 5) p0 p1)) a rr ph 2) (cwV 1 hts (lw_V q3075 q3077 qs55 q151 q3078) rfl rfl rfl (by decide +kernel) ⟨Nat.le_of_ble_eq_true rfl, Nat.le_of_ble_eq_true rfl⟩) (g_recv hK I (g_at.of mG_obj) (ci := 4) rfl) rfl hl.1 rfl (Nat.le_of_ble_eq_true rfl) dX5_light_32 ⟨Nat.le_of_ble_eq_true rfl, Nat.le_of_ble_eq_true rfl⟩) I (fun r_32 ph1 H locs hp I => ?_)
        obtain ⟨hp, rfl⟩ := hp
        have hp : r_32 = 0 := hp
        subst hp
        have I : g_I Γ (mG Γ mo ad (m_ref (m_hin f (nLight (a 5) p0 p1)) 2) a rr ph) s H locs := I
        exact g_iret S hr hlk I dX5_light_35 (Nat.le_of_ble_eq_true rfl) (Nat.le_of_ble_eq_true rfl) hQ ⟨_, rfl, (by (try simp only [p_4, p_12, p_27, hq_27]); (try simp [pubF, pubA, pubR, cmA, litW, p_4, p_12, p_27, hq_27])), (by (try simp only [p_4, p_12, p_27, hq_27]); (try simp [pubF, pubA, pubR, cmA, litW, p_4, p_12, p_27, hq_27]))⟩
    · have p_12 := (b2i_eq0 _).mp c_12
      refine lv_aload_n hx hb dX5_light_15 rfl (lv_at hl 0 rfl) ?_
      refine lv_iconst (v := 1) hx hb dX5_light_16 (by decide) ?_
      refine g_ci (g_runV S hK I (As := [.int 1]) (rest := []) (met_X5_fails l Γ mo ad f a rr ph 1) (cwV 1 hts (lw_V q3056 q3058 qs51 q151 q3059) rfl rfl rfl (by decide +kernel) ⟨Nat.le_of_ble_eq_true rfl, Nat.le_of_ble_eq_true rfl⟩) (g_recv hK I (g_at.of mG_obj) (ci := 4) rfl) rfl hl.1 rfl (Nat.le_of_ble_eq_true rfl) dX5_light_17 ⟨Nat.le_of_ble_eq_true rfl, Nat.le_of_ble_eq_true rfl⟩) I (fun r_17 ph1 H locs hp I => ?_)
      obtain ⟨hp, rfl⟩ := hp
      have hp : r_17 = 0 := hp
      subst hp
      have I : g_I Γ (mG Γ mo ad (upd f 0 1) a rr ph) s H locs := I
      exact g_iret S hr hlk I dX5_light_20 (Nat.le_of_ble_eq_true rfl) (Nat.le_of_ble_eq_true rfl) hQ ⟨_, rfl, (by (try simp only [p_4, p_12]); (try simp [pubF, pubA, pubR, cmA, litW, p_4, p_12])), (by (try simp only [p_4, p_12]); (try simp [pubF, pubA, pubR, cmA, litW, p_4, p_12]))⟩

set_option maxHeartbeats 4000000 in
set_option maxRecDepth 100000 in
theorem met_X5_rest (l : Launch) (Γ : g_C) (mo : Nat) (ad : Nat → Nat) (f : Nat → Int32) (a : Nat → Nat → Int32) (rr : Nat → UInt32) (ph : g_H) (p0 : Int32) (hw : WF (a 5)) (hU : okU f) : g_Met l yX5_rest (ws_ yX5_rest cX5_rest 2 (some .int)) (g_rm 8 0 0) Γ [.ref mo, .int p0] (mG Γ mo ad f a rr ph) (g_oi (fun v ph' => v = (if isCl p0 = false then 0 else pubR (nAct (a 5) p0 true) (cX (restW (a 5) p0) p0 2)) ∧ ph' = mG Γ mo ad (if isCl p0 = false then upd f 0 1 else pubF f (nAct (a 5) p0 true) 2) (if isCl p0 = false then a else pubA f a (nAct (a 5) p0 true) (restW (a 5) p0)) rr ph)) g_no := by
  refine g_start (y := yX5_rest) (cc := cX5_rest) (maxL := 2) (ret := (some .int)) (rm := g_rm 8 0 0) (by decide) (Nat.le_of_ble_eq_true rfl) ?_
  intro p e s m A below meth c ls Q hQ S hr hlk hex hnm hK I hl
  have hx := S.1
  have hb := S.2.1
  have hown := S.2.2.2.1
  have hts := S.2.2.2.2
  have S : CallFix p m c cX5_rest 2 s A lw_all "CrumblingWallModel" := S
  have hl : lv_has ls 2 [(0, .ref mo), (1, .int p0)] := hl
  refine lv_iload_n hx hb dX5_rest_0 rfl (lv_at hl 1 rfl) ?_
  refine g_ci (g_runS S hK I (As := [.int p0]) (rest := []) (met_X5_isClimber l Γ (mG Γ mo ad f a rr ph) p0) (va_cwS 1 hts (lw_S q3217 q3218 q151 q3219) rfl rfl rfl (by decide +kernel) ⟨Nat.le_of_ble_eq_true rfl, Nat.le_of_ble_eq_true rfl⟩) rfl hl.1 rfl (Nat.le_of_ble_eq_true rfl) dX5_rest_1 ⟨Nat.le_of_ble_eq_true rfl, Nat.le_of_ble_eq_true rfl⟩) I (fun r_1 ph1 H locs hp I => ?_)
  obtain ⟨hp, rfl⟩ := hp
  have hp : r_1 = b2i (isCl p0) := hp
  subst hp
  refine lv_if_ne (tgt := 13) hx hb dX5_rest_4 (by decide) (fun c_4 => ?_) (fun c_4 => ?_)
  · have p_4 := (b2i_ne0 _).mp c_4
    have hc := isCl_iff.mp p_4
    refine lv_aload_n hx hb dX5_rest_13 rfl (lv_at hl 0 rfl) ?_
    refine lv_iload_n hx hb dX5_rest_14 rfl (lv_at hl 1 rfl) ?_
    refine lv_iconst (v := 1) hx hb dX5_rest_15 (by decide) ?_
    refine g_ci (g_runV S hK I (As := [.int p0, .int 1]) (rest := []) (met_X5_mayNotAct l Γ mo ad f a rr ph p0 1 hc) (cwV 2 hts (lw_V q3177 q3179 qs74 q151 q3180) rfl rfl rfl (by decide +kernel) ⟨Nat.le_of_ble_eq_true rfl, Nat.le_of_ble_eq_true rfl⟩) (g_recv hK I (g_at.of mG_obj) (ci := 4) rfl) rfl hl.1 rfl (Nat.le_of_ble_eq_true rfl) dX5_rest_16 ⟨Nat.le_of_ble_eq_true rfl, Nat.le_of_ble_eq_true rfl⟩) I (fun r_16 ph1 H locs hp I => ?_)
    obtain ⟨hp, rfl⟩ := hp
    have hp : r_16 = b2i ((nAct (a 5) p0 true).isSome) := hp
    subst hp
    have I : g_I Γ (mG Γ mo ad (m_hin f (nAct (a 5) p0 true)) a rr ph) s H locs := I
    refine lv_if_eq (tgt := 28) hx hb dX5_rest_19 (by decide) (fun c_19 => ?_) (fun c_19 => ?_)
    · have p_19 := (b2i_eq0 _).mp c_19
      have z_19 := wk_none p_19
      have I := mI_ef I (show _ = f from by rw [z_19]; rfl)
      refine lv_aload_n hx hb dX5_rest_28 rfl (lv_at hl 0 rfl) ?_
      refine lv_iconst (v := 0) hx hb dX5_rest_29 (by decide) ?_
      refine g_put S hK I k_X5 (v := .int 0) mG_obj 0 (by decide) q2952 rfl rfl rfl rfl (Nat.le_of_ble_eq_true rfl) dX5_rest_30 (fun H locs I => ?_)
      have I := mI_f (f' := (upd f 0 0)) I rfl
      refine lv_aload_n hx hb dX5_rest_33 rfl (lv_at hl 0 rfl) ?_
      refine g_cv (g_runV S hK I (As := []) (rest := []) (met_X5_notes l Γ mo ad (upd f 0 0) a rr ph ) (cwV 0 hts (lw_V q3079 q3081 qs56 q151 q3082) rfl rfl rfl (by decide +kernel) ⟨Nat.le_of_ble_eq_true rfl, Nat.le_of_ble_eq_true rfl⟩) (g_recv hK I (g_at.of mG_obj) (ci := 4) rfl) rfl hl.1 rfl (Nat.le_of_ble_eq_true rfl) dX5_rest_34 ⟨Nat.le_of_ble_eq_true rfl, Nat.le_of_ble_eq_true rfl⟩) I (fun ph1 H locs hp I => ?_)
      subst hp
      have I : g_I Γ (mG Γ mo ad (upd f 0 0) (va_up a 8 (va_cpy (a 5) (a 8) 0 0 170)) rr ph) s H locs := I
      refine lv_aload_n hx hb dX5_rest_37 rfl (lv_at hl 0 rfl) ?_
      refine g_cv (g_runV S hK I (As := []) (rest := []) (met_X5_remembers l Γ mo ad (upd f 0 0) (va_up a 8 (va_cpy (a 5) (a 8) 0 0 170)) rr ph (okU_0 hU)) (cwV 0 hts (lw_V q3083 q3085 qs57 q151 q3086) rfl rfl rfl (by decide +kernel) ⟨Nat.le_of_ble_eq_true rfl, Nat.le_of_ble_eq_true rfl⟩) (g_recv hK I (g_at.of mG_obj) (ci := 4) rfl) rfl hl.1 rfl (Nat.le_of_ble_eq_true rfl) dX5_rest_38 ⟨Nat.le_of_ble_eq_true rfl, Nat.le_of_ble_eq_true rfl⟩) I (fun ph1 H locs hp I => ?_)
      subst hp
      have I : g_I Γ (mG Γ mo ad (remF (upd f 0 0)) (va_up (va_up a 8 (va_cpy (a 5) (a 8) 0 0 170)) 6 (va_cpy (va_cpy (a 5) (a 8) 0 0 170) (a 6) 0 (170 * rSl (upd f 0 0)) 170)) rr ph) s H locs := I
      refine lv_aload_n hx hb dX5_rest_41 rfl (lv_at hl 0 rfl) ?_
      refine lv_iload_n hx hb dX5_rest_42 rfl (lv_at hl 1 rfl) ?_
      refine g_cv (g_runV S hK I (As := [.int p0]) (rest := []) (met_X5_rests l Γ mo ad (remF (upd f 0 0)) (va_up (va_up a 8 (va_cpy (a 5) (a 8) 0 0 170)) 6 (va_cpy (va_cpy (a 5) (a 8) 0 0 170) (a 6) 0 (170 * rSl (upd f 0 0)) 170)) rr ph p0 hw hc) (cwV 1 hts (lw_V q3297 q3299 qs94 q151 q3300) rfl rfl rfl (by decide +kernel) ⟨Nat.le_of_ble_eq_true rfl, Nat.le_of_ble_eq_true rfl⟩) (g_recv hK I (g_at.of mG_obj) (ci := 4) rfl) rfl hl.1 rfl (Nat.le_of_ble_eq_true rfl) dX5_rest_43 ⟨Nat.le_of_ble_eq_true rfl, Nat.le_of_ble_eq_true rfl⟩) I (fun ph1 H locs hp I => ?_)
      subst hp
      have I : g_I Γ (mG Γ mo ad (remF (upd f 0 0)) (va_up (va_up (va_up a 8 (va_cpy (a 5) (a 8) 0 0 170)) 6 (va_cpy (va_cpy (a 5) (a 8) 0 0 170) (a 6) 0 (170 * rSl (upd f 0 0)) 170)) 5 (restW (a 5) p0)) rr ph) s H locs := I
      refine lv_aload_n hx hb dX5_rest_46 rfl (lv_at hl 0 rfl) ?_
      refine lv_iload_n hx hb dX5_rest_47 rfl (lv_at hl 1 rfl) ?_
      refine lv_iconst (v := 2) hx hb dX5_rest_48 (by decide) ?_
      refine g_ci (g_runV S hK I (As := [.int p0, .int 2]) (rest := []) (met_X5_ofClimber l Γ mo ad (remF (upd f 0 0)) (va_up (va_up (va_up a 8 (va_cpy (a 5) (a 8) 0 0 170)) 6 (va_cpy (va_cpy (a 5) (a 8) 0 0 170) (a 6) 0 (170 * rSl (upd f 0 0)) 170)) 5 (restW (a 5) p0)) rr ph p0 2 hc (vp_lit (by decide))) (cwV 2 hts (lw_V q3099 q3101 qs60 q151 q3102) rfl rfl rfl (by decide +kernel) ⟨Nat.le_of_ble_eq_true rfl, Nat.le_of_ble_eq_true rfl⟩) (g_recv hK I (g_at.of mG_obj) (ci := 4) rfl) rfl hl.1 rfl (Nat.le_of_ble_eq_true rfl) dX5_rest_49 ⟨Nat.le_of_ble_eq_true rfl, Nat.le_of_ble_eq_true rfl⟩) I (fun r_49 ph1 H locs hp I => ?_)
      obtain ⟨hp, rfl⟩ := hp
      have hp : r_49 = cX (restW (a 5) p0) p0 2 := hp
      subst hp
      exact g_iret S hr hlk I dX5_rest_52 (Nat.le_of_ble_eq_true rfl) (Nat.le_of_ble_eq_true rfl) hQ ⟨_, rfl, (by (try simp only [p_4, z_19]); (try simp [pubF, pubA, pubR, cmA, p_4, z_19])), (by (try simp only [p_4, z_19]); (try simp [pubF, pubA, pubR, cmA, p_4, z_19]))⟩
    · have p_19 := (b2i_ne0 _).mp c_19
      obtain ⟨q_19, hq_19⟩ := wk_some p_19
      refine lv_aload_n hx hb dX5_rest_22 rfl (lv_at hl 0 rfl) ?_
      refine lv_iconst (v := 2) hx hb dX5_rest_23 (by decide) ?_
      refine g_ci (g_runV S hK I (As := [.int 2]) (rest := []) (met_X5_refuses l Γ mo ad (m_hin f (nAct (a 5) p0 true)) a rr ph 2) (cwV 1 hts (lw_V q3075 q3077 qs55 q151 q3078) rfl rfl rfl (by decide +kernel) ⟨Nat.le_of_ble_eq_true rfl, Nat.le_of_ble_eq_true rfl⟩) (g_recv hK I (g_at.of mG_obj) (ci := 4) rfl) rfl hl.1 rfl (Nat.le_of_ble_eq_true rfl) dX5_rest_24 ⟨Nat.le_of_ble_eq_true rfl, Nat.le_of_ble_eq_true rfl⟩) I (fun r_24 ph1 H locs hp I => ?_)
      obtain ⟨hp, rfl⟩ := hp
      have hp : r_24 = 0 := hp
      subst hp
      have I : g_I Γ (mG Γ mo ad (m_ref (m_hin f (nAct (a 5) p0 true)) 2) a rr ph) s H locs := I
      exact g_iret S hr hlk I dX5_rest_27 (Nat.le_of_ble_eq_true rfl) (Nat.le_of_ble_eq_true rfl) hQ ⟨_, rfl, (by (try simp only [p_4, p_19, hq_19]); (try simp [pubF, pubA, pubR, cmA, p_4, p_19, hq_19])), (by (try simp only [p_4, p_19, hq_19]); (try simp [pubF, pubA, pubR, cmA, p_4, p_19, hq_19]))⟩
  · have p_4 := (b2i_eq0 _).mp c_4
    refine lv_aload_n hx hb dX5_rest_7 rfl (lv_at hl 0 rfl) ?_
    refine lv_iconst (v := 1) hx hb dX5_rest_8 (by decide) ?_
    refine g_ci (g_runV S hK I (As := [.int 1]) (rest := []) (met_X5_fails l Γ mo ad f a rr ph 1) (cwV 1 hts (lw_V q3056 q3058 qs51 q151 q3059) rfl rfl rfl (by decide +kernel) ⟨Nat.le_of_ble_eq_true rfl, Nat.le_of_ble_eq_true rfl⟩) (g_recv hK I (g_at.of mG_obj) (ci := 4) rfl) rfl hl.1 rfl (Nat.le_of_ble_eq_true rfl) dX5_rest_9 ⟨Nat.le_of_ble_eq_true rfl, Nat.le_of_ble_eq_true rfl⟩) I (fun r_9 ph1 H locs hp I => ?_)
    obtain ⟨hp, rfl⟩ := hp
    have hp : r_9 = 0 := hp
    subst hp
    have I : g_I Γ (mG Γ mo ad (upd f 0 1) a rr ph) s H locs := I
    exact g_iret S hr hlk I dX5_rest_12 (Nat.le_of_ble_eq_true rfl) (Nat.le_of_ble_eq_true rfl) hQ ⟨_, rfl, (by (try simp only [p_4]); (try simp [pubF, pubA, pubR, cmA, p_4])), (by (try simp only [p_4]); (try simp [pubF, pubA, pubR, cmA, p_4]))⟩

set_option maxHeartbeats 4000000 in
set_option maxRecDepth 100000 in
theorem met_X5_set (l : Launch) (Γ : g_C) (mo : Nat) (ad : Nat → Nat) (f : Nat → Int32) (a : Nat → Nat → Int32) (rr : Nat → UInt32) (ph : g_H) (p0 : Int32) (p1 : Int32) (hw : WF (a 5)) (hU : okU f) : g_Met l yX5_set (ws_ yX5_set cX5_set 5 (some .int)) (g_rm 8 0 0) Γ [.ref mo, .int p0, .int p1] (mG Γ mo ad f a rr ph) (g_oi (fun v ph' => v = (if setOk p0 p1 = false then 0 else pubR (nSet (a 5) p0 p1) ((a 5) (101 + p0.toNatClampNeg))) ∧ ph' = mG Γ mo ad (if setOk p0 p1 = false then upd f 0 1 else pubF f (nSet (a 5) p0 p1) 2) (if setOk p0 p1 = false then a else pubA f a (nSet (a 5) p0 p1) (setW (a 5) p0 p1)) rr ph)) g_no := by
  refine g_start (y := yX5_set) (cc := cX5_set) (maxL := 5) (ret := (some .int)) (rm := g_rm 8 0 0) (by decide) (Nat.le_of_ble_eq_true rfl) ?_
  intro p e s m A below meth c ls Q hQ S hr hlk hex hnm hK I hl
  have hx := S.1
  have hb := S.2.1
  have hown := S.2.2.2.1
  have hts := S.2.2.2.2
  have S : CallFix p m c cX5_set 5 s A lw_all "CrumblingWallModel" := S
  have hl : lv_has ls 5 [(0, .ref mo), (1, .int p0), (2, .int p1)] := hl
  refine lv_iload_n hx hb dX5_set_0 rfl (lv_at hl 1 rfl) ?_
  have J_49_0 : ∀ (x1 : Int32) (H : Heap) (locs : List Loc) (ls : Array Slot), (hx1 : x1 = (b2i (setOk p0 p1))) → g_I Γ (mG Γ mo ad f a rr ph) s H locs → lv_has ls 5 [(0, .ref mo), (1, .int p0), (2, .int p1)] → W p l e (g_rm 8 0 0) s m A below meth c H locs 0 0 Q (F0 m 49 ls [.int x1]) := by
    intro x1 H locs ls hx1 I hl
    subst hx1
    refine lv_istore_n (lv' := [(3, .int (b2i (setOk p0 p1))), (0, .ref mo), (1, .int p0), (2, .int p1)]) hx hb dX5_set_49 rfl hl (by decide) rfl (fun ls hl => ?_)
    refine lv_iload_n hx hb dX5_set_50 rfl (lv_at hl 0 rfl) ?_
    refine lv_if_ne (tgt := 60) hx hb dX5_set_51 (by decide) (fun c_51 => ?_) (fun c_51 => ?_)
    · have p_51 := (b2i_ne0 _).mp c_51
      refine lv_iload_n hx hb dX5_set_60 rfl (lv_at hl 2 rfl) ?_
      refine lv_iconst (v := 2) hx hb dX5_set_61 (by decide) ?_
      have J_92_1 : ∀ (H : Heap) (locs : List Loc) (ls : Array Slot), (hn : nSet (a 5) p0 p1 = none) → g_I Γ (mG Γ mo ad f a rr ph) s H locs → lv_has ls 5 [(3, .int (b2i (setOk p0 p1))), (0, .ref mo), (1, .int p0), (2, .int p1)] → W p l e (g_rm 8 0 0) s m A below meth c H locs 0 0 Q (F0 m 92 ls []) := by
        intro  H locs ls hn I hl
        refine lv_aload_n hx hb dX5_set_92 rfl (lv_at hl 1 rfl) ?_
        refine lv_iconst (v := 0) hx hb dX5_set_93 (by decide) ?_
        refine g_put S hK I k_X5 (v := .int 0) mG_obj 0 (by decide) q2952 rfl rfl rfl rfl (Nat.le_of_ble_eq_true rfl) dX5_set_94 (fun H locs I => ?_)
        have I := mI_f (f' := (upd f 0 0)) I rfl
        refine lv_aload_n hx hb dX5_set_97 rfl (lv_at hl 1 rfl) ?_
        refine g_cv (g_runV S hK I (As := []) (rest := []) (met_X5_notes l Γ mo ad (upd f 0 0) a rr ph ) (cwV 0 hts (lw_V q3079 q3081 qs56 q151 q3082) rfl rfl rfl (by decide +kernel) ⟨Nat.le_of_ble_eq_true rfl, Nat.le_of_ble_eq_true rfl⟩) (g_recv hK I (g_at.of mG_obj) (ci := 4) rfl) rfl hl.1 rfl (Nat.le_of_ble_eq_true rfl) dX5_set_98 ⟨Nat.le_of_ble_eq_true rfl, Nat.le_of_ble_eq_true rfl⟩) I (fun ph1 H locs hp I => ?_)
        subst hp
        have I : g_I Γ (mG Γ mo ad (upd f 0 0) (va_up a 8 (va_cpy (a 5) (a 8) 0 0 170)) rr ph) s H locs := I
        refine lv_aload_n hx hb dX5_set_101 rfl (lv_at hl 1 rfl) ?_
        refine g_cv (g_runV S hK I (As := []) (rest := []) (met_X5_remembers l Γ mo ad (upd f 0 0) (va_up a 8 (va_cpy (a 5) (a 8) 0 0 170)) rr ph (okU_0 hU)) (cwV 0 hts (lw_V q3083 q3085 qs57 q151 q3086) rfl rfl rfl (by decide +kernel) ⟨Nat.le_of_ble_eq_true rfl, Nat.le_of_ble_eq_true rfl⟩) (g_recv hK I (g_at.of mG_obj) (ci := 4) rfl) rfl hl.1 rfl (Nat.le_of_ble_eq_true rfl) dX5_set_102 ⟨Nat.le_of_ble_eq_true rfl, Nat.le_of_ble_eq_true rfl⟩) I (fun ph1 H locs hp I => ?_)
        subst hp
        have I : g_I Γ (mG Γ mo ad (remF (upd f 0 0)) (va_up (va_up a 8 (va_cpy (a 5) (a 8) 0 0 170)) 6 (va_cpy (va_cpy (a 5) (a 8) 0 0 170) (a 6) 0 (170 * rSl (upd f 0 0)) 170)) rr ph) s H locs := I
        refine lv_aload_n hx hb dX5_set_105 rfl (lv_at hl 1 rfl) ?_
        refine g_get S hK I k_X5 (v := .ref (ad 5)) (g_at.of mG_obj) 5 (by decide) q2957 rfl rfl dX5_set_106 ?_
        refine lv_bipush (v := 101) hx hb dX5_set_109 (by decide) ?_
        refine lv_iload_n hx hb dX5_set_111 rfl (lv_at hl 2 rfl) ?_
        refine lv_iadd hx hb dX5_set_112 ?_
        refine m_iald S hK I (f := (a 5)) (k := (101 + p0.toNatClampNeg)) (g_at.of mG_5) (set_ix p_51).1 (set_ix p_51).2 dX5_set_113 ?_
        refine lv_istore (lv' := [(4, .int ((a 5) (101 + p0.toNatClampNeg))), (3, .int (b2i (setOk p0 p1))), (0, .ref mo), (1, .int p0), (2, .int p1)]) hx hb dX5_set_114 hl (by decide) rfl (fun ls hl => ?_)
        refine lv_aload_n hx hb dX5_set_116 rfl (lv_at hl 2 rfl) ?_
        refine g_get S hK I k_X5 (v := .ref (ad 5)) (g_at.of mG_obj) 5 (by decide) q2957 rfl rfl dX5_set_117 ?_
        refine lv_bipush (v := 101) hx hb dX5_set_120 (by decide) ?_
        refine lv_iload_n hx hb dX5_set_122 rfl (lv_at hl 3 rfl) ?_
        refine lv_iadd hx hb dX5_set_123 ?_
        refine lv_iload_n hx hb dX5_set_124 rfl (lv_at hl 4 rfl) ?_
        refine m_iast S hK I (f := (a 5)) (k := (101 + p0.toNatClampNeg)) mG_5 (set_ix p_51).1 (set_ix p_51).2 dX5_set_125 (fun H locs I => ?_)
        have I := mI_5 I
        refine lv_iload hx hb dX5_set_126 (lv_at hl 0 rfl) ?_
        exact g_iret S hr hlk I dX5_set_128 (Nat.le_of_ble_eq_true rfl) (Nat.le_of_ble_eq_true rfl) hQ ⟨_, rfl, (by (try simp only [p_51]); (try simp [pubF, pubA, pubR, cmA, setW, p_51, hn])), (by (try simp only [p_51]); (try simp [pubF, pubA, pubR, cmA, setW, p_51, hn]))⟩
      refine lv_icmp_ne (tgt := 92) hx hb dX5_set_62 (by decide) (fun c_62 => ?_) (fun c_62 => ?_)
      · exact J_92_1  _ _ _ (if_neg (fun q => c_62 q.1)) I (lv_sub hl [0, 1, 2, 3] rfl)
      · refine lv_aload_n hx hb dX5_set_65 rfl (lv_at hl 1 rfl) ?_
        refine g_ci (g_runV S hK I (As := []) (rest := []) (met_X5_ropeOut l Γ mo ad f a rr ph hw) (cwV 0 hts (lw_V q3091 q3093 qs58 q151 q3094) rfl rfl rfl (by decide +kernel) ⟨Nat.le_of_ble_eq_true rfl, Nat.le_of_ble_eq_true rfl⟩) (g_recv hK I (g_at.of mG_obj) (ci := 4) rfl) rfl hl.1 rfl (Nat.le_of_ble_eq_true rfl) dX5_set_66 ⟨Nat.le_of_ble_eq_true rfl, Nat.le_of_ble_eq_true rfl⟩) I (fun r_66 ph1 H locs hp I => ?_)
        obtain ⟨hp, rfl⟩ := hp
        have hp : r_66 = ropeO (a 5) := hp
        subst hp
        refine lv_iload_n hx hb dX5_set_69 rfl (lv_at hl 3 rfl) ?_
        refine lv_icmp_le (tgt := 92) hx hb dX5_set_70 (by decide) (fun c_70 => ?_) (fun c_70 => ?_)
        · have n_70 := Int32.not_lt.mpr c_70
          exact J_92_1  _ _ _ (if_neg (fun q => n_70 q.2)) I (lv_sub hl [0, 1, 2, 3] rfl)
        · have n_70 := Int32.not_le.mp c_70
          refine lv_aload_n hx hb dX5_set_73 rfl (lv_at hl 1 rfl) ?_
          refine lv_bipush (v := 17) hx hb dX5_set_74 (by decide) ?_
          refine lv_aload_n hx hb dX5_set_76 rfl (lv_at hl 1 rfl) ?_
          refine g_ci (g_runV S hK I (As := []) (rest := [.int 17, .ref mo]) (met_X5_ropeOut l Γ mo ad f a rr ph hw) (cwV 0 hts (lw_V q3091 q3093 qs58 q151 q3094) rfl rfl rfl (by decide +kernel) ⟨Nat.le_of_ble_eq_true rfl, Nat.le_of_ble_eq_true rfl⟩) (g_recv hK I (g_at.of mG_obj) (ci := 4) rfl) rfl hl.1 rfl (Nat.le_of_ble_eq_true rfl) dX5_set_77 ⟨Nat.le_of_ble_eq_true rfl, Nat.le_of_ble_eq_true rfl⟩) I (fun r_77 ph1 H locs hp I => ?_)
          obtain ⟨hp, rfl⟩ := hp
          have hp : r_77 = ropeO (a 5) := hp
          subst hp
          refine g_ci (g_runV S hK I (As := [.int 17, .int (ropeO (a 5))]) (rest := []) (met_X5_hinders l Γ mo ad f a rr ph 17 (ropeO (a 5))) (cwV 2 hts (lw_V q3071 q3073 qs54 q151 q3074) rfl rfl rfl (by decide +kernel) ⟨Nat.le_of_ble_eq_true rfl, Nat.le_of_ble_eq_true rfl⟩) (g_recv hK I (g_at.of mG_obj) (ci := 4) rfl) rfl hl.1 rfl (Nat.le_of_ble_eq_true rfl) dX5_set_80 ⟨Nat.le_of_ble_eq_true rfl, Nat.le_of_ble_eq_true rfl⟩) I (fun r_80 ph1 H locs hp I => ?_)
          obtain ⟨hp, rfl⟩ := hp
          have hp : r_80 = b2i true := hp
          subst hp
          have I : g_I Γ (mG Γ mo ad (upd (upd f 3 17) 4 (ropeO (a 5))) a rr ph) s H locs := I
          refine lv_if_eq (tgt := 92) hx hb dX5_set_83 (by decide) (fun q => absurd q (by decide)) (fun _ => ?_)
          refine lv_aload_n hx hb dX5_set_86 rfl (lv_at hl 1 rfl) ?_
          refine lv_iconst (v := 2) hx hb dX5_set_87 (by decide) ?_
          refine g_ci (g_runV S hK I (As := [.int 2]) (rest := []) (met_X5_refuses l Γ mo ad (upd (upd f 3 17) 4 (ropeO (a 5))) a rr ph 2) (cwV 1 hts (lw_V q3075 q3077 qs55 q151 q3078) rfl rfl rfl (by decide +kernel) ⟨Nat.le_of_ble_eq_true rfl, Nat.le_of_ble_eq_true rfl⟩) (g_recv hK I (g_at.of mG_obj) (ci := 4) rfl) rfl hl.1 rfl (Nat.le_of_ble_eq_true rfl) dX5_set_88 ⟨Nat.le_of_ble_eq_true rfl, Nat.le_of_ble_eq_true rfl⟩) I (fun r_88 ph1 H locs hp I => ?_)
          obtain ⟨hp, rfl⟩ := hp
          have hp : r_88 = 0 := hp
          subst hp
          have I : g_I Γ (mG Γ mo ad (m_ref (upd (upd f 3 17) 4 (ropeO (a 5))) 2) a rr ph) s H locs := I
          exact g_iret S hr hlk I dX5_set_91 (Nat.le_of_ble_eq_true rfl) (Nat.le_of_ble_eq_true rfl) hQ ⟨_, rfl, (by rw [show nSet (a 5) p0 p1 = some (17, ropeO (a 5)) from if_pos ⟨c_62, n_70⟩]; simp [p_51, pubF, pubA, pubR, m_hin]), (by rw [show nSet (a 5) p0 p1 = some (17, ropeO (a 5)) from if_pos ⟨c_62, n_70⟩]; simp [p_51, pubF, pubA, pubR, m_hin])⟩
    · have p_51 := (b2i_eq0 _).mp c_51
      refine lv_aload_n hx hb dX5_set_54 rfl (lv_at hl 1 rfl) ?_
      refine lv_iconst (v := 1) hx hb dX5_set_55 (by decide) ?_
      refine g_ci (g_runV S hK I (As := [.int 1]) (rest := []) (met_X5_fails l Γ mo ad f a rr ph 1) (cwV 1 hts (lw_V q3056 q3058 qs51 q151 q3059) rfl rfl rfl (by decide +kernel) ⟨Nat.le_of_ble_eq_true rfl, Nat.le_of_ble_eq_true rfl⟩) (g_recv hK I (g_at.of mG_obj) (ci := 4) rfl) rfl hl.1 rfl (Nat.le_of_ble_eq_true rfl) dX5_set_56 ⟨Nat.le_of_ble_eq_true rfl, Nat.le_of_ble_eq_true rfl⟩) I (fun r_56 ph1 H locs hp I => ?_)
      obtain ⟨hp, rfl⟩ := hp
      have hp : r_56 = 0 := hp
      subst hp
      have I : g_I Γ (mG Γ mo ad (upd f 0 1) a rr ph) s H locs := I
      exact g_iret S hr hlk I dX5_set_59 (Nat.le_of_ble_eq_true rfl) (Nat.le_of_ble_eq_true rfl) hQ ⟨_, rfl, (by (try simp only [p_51]); (try simp [pubF, pubA, pubR, cmA, setW, p_51])), (by (try simp only [p_51]); (try simp [pubF, pubA, pubR, cmA, setW, p_51]))⟩
  refine lv_if_ne (tgt := 14) hx hb dX5_set_1 (by decide) (fun c_1 => ?_) (fun c_1 => ?_)
  · refine lv_iload_n hx hb dX5_set_14 rfl (lv_at hl 1 rfl) ?_
    refine lv_iconst (v := 1) hx hb dX5_set_15 (by decide) ?_
    refine lv_icmp_ne (tgt := 29) hx hb dX5_set_16 (by decide) (fun c_16 => ?_) (fun c_16 => ?_)
    · refine lv_iload_n hx hb dX5_set_29 rfl (lv_at hl 1 rfl) ?_
      refine lv_iconst (v := 2) hx hb dX5_set_30 (by decide) ?_
      refine lv_icmp_ne (tgt := 48) hx hb dX5_set_31 (by decide) (fun c_31 => ?_) (fun c_31 => ?_)
      · refine lv_iconst (v := 0) hx hb dX5_set_48 (by decide) ?_
        exact J_49_0 0 _ _ _ (by simp [setOk, b2i, c_1, c_16, c_31]) I (lv_sub hl [0, 1, 2] rfl)
      · refine lv_iload_n hx hb dX5_set_34 rfl (lv_at hl 2 rfl) ?_
        refine lv_iconst (v := 5) hx hb dX5_set_35 (by decide) ?_
        refine lv_bipush (v := 60) hx hb dX5_set_36 (by decide) ?_
        refine g_ci (g_runS S hK I (As := [.int p1, .int 5, .int 60]) (rest := []) (met_X5_isBetween l Γ (mG Γ mo ad f a rr ph) p1 5 60) (va_cwS 3 hts (lw_S q3053 q3054 q151 q3055) rfl rfl rfl (by decide +kernel) ⟨Nat.le_of_ble_eq_true rfl, Nat.le_of_ble_eq_true rfl⟩) rfl hl.1 rfl (Nat.le_of_ble_eq_true rfl) dX5_set_38 ⟨Nat.le_of_ble_eq_true rfl, Nat.le_of_ble_eq_true rfl⟩) I (fun r_38 ph1 H locs hp I => ?_)
        obtain ⟨hp, rfl⟩ := hp
        have hp : r_38 = b2i (btw p1 5 60) := hp
        subst hp
        refine lv_if_eq (tgt := 48) hx hb dX5_set_41 (by decide) (fun c_41 => ?_) (fun c_41 => ?_)
        · have p_41 := (b2i_eq0 _).mp c_41
          refine lv_iconst (v := 0) hx hb dX5_set_48 (by decide) ?_
          exact J_49_0 0 _ _ _ (by simp [setOk, b2i, c_1, c_16, c_31, p_41]) I (lv_sub hl [0, 1, 2] rfl)
        · have p_41 := (b2i_ne0 _).mp c_41
          refine lv_iconst (v := 1) hx hb dX5_set_44 (by decide) ?_
          refine lv_goto (tgt := 49) hx hb dX5_set_45 (by decide) ?_
          exact J_49_0 1 _ _ _ (by simp [setOk, b2i, c_1, c_16, c_31, p_41]) I (lv_sub hl [0, 1, 2] rfl)
    · refine lv_iload_n hx hb dX5_set_19 rfl (lv_at hl 2 rfl) ?_
      refine lv_iconst (v := 0) hx hb dX5_set_20 (by decide) ?_
      refine lv_bipush (v := 21) hx hb dX5_set_21 (by decide) ?_
      refine g_ci (g_runS S hK I (As := [.int p1, .int 0, .int 21]) (rest := []) (met_X5_isBetween l Γ (mG Γ mo ad f a rr ph) p1 0 21) (va_cwS 3 hts (lw_S q3053 q3054 q151 q3055) rfl rfl rfl (by decide +kernel) ⟨Nat.le_of_ble_eq_true rfl, Nat.le_of_ble_eq_true rfl⟩) rfl hl.1 rfl (Nat.le_of_ble_eq_true rfl) dX5_set_23 ⟨Nat.le_of_ble_eq_true rfl, Nat.le_of_ble_eq_true rfl⟩) I (fun r_23 ph1 H locs hp I => ?_)
      obtain ⟨hp, rfl⟩ := hp
      have hp : r_23 = b2i (btw p1 0 21) := hp
      subst hp
      refine lv_goto (tgt := 49) hx hb dX5_set_26 (by decide) ?_
      exact J_49_0 (b2i (btw p1 0 21)) _ _ _ (by simp [setOk, b2i, c_1, c_16]) I (lv_sub hl [0, 1, 2] rfl)
  · refine lv_iload_n hx hb dX5_set_4 rfl (lv_at hl 2 rfl) ?_
    refine lv_iconst (v := 1) hx hb dX5_set_5 (by decide) ?_
    refine lv_bipush (v := 6) hx hb dX5_set_6 (by decide) ?_
    refine g_ci (g_runS S hK I (As := [.int p1, .int 1, .int 6]) (rest := []) (met_X5_isBetween l Γ (mG Γ mo ad f a rr ph) p1 1 6) (va_cwS 3 hts (lw_S q3053 q3054 q151 q3055) rfl rfl rfl (by decide +kernel) ⟨Nat.le_of_ble_eq_true rfl, Nat.le_of_ble_eq_true rfl⟩) rfl hl.1 rfl (Nat.le_of_ble_eq_true rfl) dX5_set_8 ⟨Nat.le_of_ble_eq_true rfl, Nat.le_of_ble_eq_true rfl⟩) I (fun r_8 ph1 H locs hp I => ?_)
    obtain ⟨hp, rfl⟩ := hp
    have hp : r_8 = b2i (btw p1 1 6) := hp
    subst hp
    refine lv_goto (tgt := 49) hx hb dX5_set_11 (by decide) ?_
    exact J_49_0 (b2i (btw p1 1 6)) _ _ _ (by simp [setOk, b2i, c_1]) I (lv_sub hl [0, 1, 2] rfl)


/-! THE REFERENCE: methods that read the wall -/
set_option maxRecDepth 100000
theorem k_ge {k n : Nat} {x : Int32} (hx : x = nI n) (hn : n ≤ 100000) (hk : k ≤ n) (c : x ≤ nI k) : k = n := by
  rw [hx, nI_leI (by omega) (by omega)] at c
  omega
theorem k_lt {k n : Nat} {x : Int32} (hx : x = nI n) (hn : n ≤ 100000) (hk : k ≤ n) (c : ¬ x ≤ nI k) : k < n := by
  rw [hx, nI_leI (by omega) (by omega)] at c
  omega
theorem b2i_or (x y : Bool) : b2i x ||| b2i y = b2i (x || y) := by cases x <;> cases y <;> decide
theorem nI_1' (k : Nat) : nI k + 1 = nI (k + 1) := nI_1 k
theorem ob1 {c : Bool} (h : c = true) : (1 : Int32) = b2i c := by rw [h]; rfl
theorem ob0 {c : Bool} (h : ¬ c = true) : (0 : Int32) = b2i c := by rw [Bool.not_eq_true] at h; rw [h]; rfl
theorem wf_le4 {w : m_w} (hw : WF w) : nLa w ≤ 100000 := Nat.le_trans hw.2.1.2 (by decide)
theorem wf_le20 {w : m_w} (hw : WF w) : nN w ≤ 100000 := Nat.le_trans hw.1.2 (by decide)
theorem wf_le8 {w : m_w} (hw : WF w) : nAn w ≤ 100000 := Nat.le_trans hw.2.2.1.2 (by decide)
theorem vp_k {k n N : Nat} (h : k < n) (hn : n ≤ N) (hN : N < 2 ^ 31) : vp_in (nI k) N := vp_in_nI (Nat.lt_of_lt_of_le h hn) hN
theorem okP_of {w : m_w} {p : Int32} (h : okP w p) (hp : ¬ p = -1) : vp_in p (nN w) := h.resolve_left hp
theorem lp_c {w : m_w} {k : Int32} (hw : WF w) (hk : vp_in k (nLa w)) (h : 0 ≤ lX w k 1) : vp_in (lX w k 1) 2 := by
  obtain ⟨j, h1, h2, h3⟩ := vp_j hk (Nat.lt_of_le_of_lt hw.2.1.2 (by decide))
  have ho := hw.2.2.2.2.2.2.1 j h1
  unfold lX at h ⊢
  rw [h3] at h ⊢
  rcases ho.2.1 with e | e | e
  · rw [e] at h; exact absurd h (by decide)
  · rw [e]; exact vp_lit (by decide)
  · rw [e]; exact vp_lit (by decide)
set_option maxHeartbeats 4000000 in
set_option maxRecDepth 100000 in
theorem met_X5_thrown (l : Launch) (Γ : g_C) (mo : Nat) (ad : Nat → Nat) (f : Nat → Int32) (a : Nat → Nat → Int32) (rr : Nat → UInt32) (ph : g_H) : g_Met l yX5_thrown (ws_ yX5_thrown cX5_thrown 1 (some .int)) (g_rm 1 0 0) Γ [.ref mo] (mG Γ mo ad f a rr ph) (g_oi (fun v ph' => v = (f 0) ∧ ph' = mG Γ mo ad f a rr ph)) g_no := by
  refine g_start (y := yX5_thrown) (cc := cX5_thrown) (maxL := 1) (ret := (some .int)) (rm := g_rm 1 0 0) (by decide) (Nat.le_of_ble_eq_true rfl) ?_
  intro p e s m A below meth c ls Q hQ S hr hlk hex hnm hK I hl
  have hx := S.1
  have hb := S.2.1
  have hown := S.2.2.2.1
  have hts := S.2.2.2.2
  have S : CallFix p m c cX5_thrown 1 s A lw_all "CrumblingWallModel" := S
  have hl : lv_has ls 1 [(0, .ref mo)] := hl
  refine lv_aload_n hx hb dX5_thrown_0 rfl (lv_at hl 0 rfl) ?_
  refine g_get S hK I k_X5 (v := .int (f 0)) (g_at.of mG_obj) 0 (by decide) q2952 rfl rfl dX5_thrown_1 ?_
  exact g_iret S hr hlk I dX5_thrown_4 (Nat.le_of_ble_eq_true rfl) (Nat.le_of_ble_eq_true rfl) hQ ⟨_, rfl, rfl, rfl⟩

set_option maxHeartbeats 4000000 in
set_option maxRecDepth 100000 in
theorem met_X5_fails (l : Launch) (Γ : g_C) (mo : Nat) (ad : Nat → Nat) (f : Nat → Int32) (a : Nat → Nat → Int32) (rr : Nat → UInt32) (ph : g_H) (p0 : Int32) : g_Met l yX5_fails (ws_ yX5_fails cX5_fails 2 (some .int)) (g_rm 1 0 0) Γ [.ref mo, .int p0] (mG Γ mo ad f a rr ph) (g_oi (fun v ph' => v = 0 ∧ ph' = mG Γ mo ad (upd f 0 p0) a rr ph)) g_no := by
  refine g_start (y := yX5_fails) (cc := cX5_fails) (maxL := 2) (ret := (some .int)) (rm := g_rm 1 0 0) (by decide) (Nat.le_of_ble_eq_true rfl) ?_
  intro p e s m A below meth c ls Q hQ S hr hlk hex hnm hK I hl
  have hx := S.1
  have hb := S.2.1
  have hown := S.2.2.2.1
  have hts := S.2.2.2.2
  have S : CallFix p m c cX5_fails 2 s A lw_all "CrumblingWallModel" := S
  have hl : lv_has ls 2 [(0, .ref mo), (1, .int p0)] := hl
  refine lv_aload_n hx hb dX5_fails_0 rfl (lv_at hl 0 rfl) ?_
  refine lv_iload_n hx hb dX5_fails_1 rfl (lv_at hl 1 rfl) ?_
  refine g_put S hK I k_X5 (v := .int p0) mG_obj 0 (by decide) q2952 rfl rfl rfl rfl (Nat.le_of_ble_eq_true rfl) dX5_fails_2 (fun H locs I => ?_)
  have I := mI_f (f' := (upd f 0 p0)) I rfl
  refine lv_iconst (v := 0) hx hb dX5_fails_5 (by decide) ?_
  exact g_iret S hr hlk I dX5_fails_6 (Nat.le_of_ble_eq_true rfl) (Nat.le_of_ble_eq_true rfl) hQ ⟨_, rfl, rfl, rfl⟩

set_option maxHeartbeats 4000000 in
set_option maxRecDepth 100000 in
theorem met_X5_refuses (l : Launch) (Γ : g_C) (mo : Nat) (ad : Nat → Nat) (f : Nat → Int32) (a : Nat → Nat → Int32) (rr : Nat → UInt32) (ph : g_H) (p0 : Int32) : g_Met l yX5_refuses (ws_ yX5_refuses cX5_refuses 2 (some .int)) (g_rm 2 0 0) Γ [.ref mo, .int p0] (mG Γ mo ad f a rr ph) (g_oi (fun v ph' => v = 0 ∧ ph' = mG Γ mo ad (m_ref f p0) a rr ph)) g_no := by
  refine g_start (y := yX5_refuses) (cc := cX5_refuses) (maxL := 2) (ret := (some .int)) (rm := g_rm 2 0 0) (by decide) (Nat.le_of_ble_eq_true rfl) ?_
  intro p e s m A below meth c ls Q hQ S hr hlk hex hnm hK I hl
  have hx := S.1
  have hb := S.2.1
  have hown := S.2.2.2.1
  have hts := S.2.2.2.2
  have S : CallFix p m c cX5_refuses 2 s A lw_all "CrumblingWallModel" := S
  have hl : lv_has ls 2 [(0, .ref mo), (1, .int p0)] := hl
  refine lv_aload_n hx hb dX5_refuses_0 rfl (lv_at hl 0 rfl) ?_
  refine lv_aload_n hx hb dX5_refuses_1 rfl (lv_at hl 0 rfl) ?_
  refine g_get S hK I k_X5 (v := .int (f 3)) (g_at.of mG_obj) 3 (by decide) q2955 rfl rfl dX5_refuses_2 ?_
  refine g_put S hK I k_X5 (v := .int (f 3)) mG_obj 1 (by decide) q2953 rfl rfl rfl rfl (Nat.le_of_ble_eq_true rfl) dX5_refuses_5 (fun H locs I => ?_)
  have I := mI_f (f' := (upd f 1 (f 3))) I rfl
  refine lv_aload_n hx hb dX5_refuses_8 rfl (lv_at hl 0 rfl) ?_
  refine lv_aload_n hx hb dX5_refuses_9 rfl (lv_at hl 0 rfl) ?_
  refine g_get S hK I k_X5 (v := .int (f 4)) (g_at.of mG_obj) 4 (by decide) q2956 rfl rfl dX5_refuses_10 ?_
  refine g_put S hK I k_X5 (v := .int (f 4)) mG_obj 2 (by decide) q2954 rfl rfl rfl rfl (Nat.le_of_ble_eq_true rfl) dX5_refuses_13 (fun H locs I => ?_)
  have I := mI_f (f' := (upd (upd f 1 (f 3)) 2 (f 4))) I rfl
  refine lv_aload_n hx hb dX5_refuses_16 rfl (lv_at hl 0 rfl) ?_
  refine lv_iload_n hx hb dX5_refuses_17 rfl (lv_at hl 1 rfl) ?_
  refine g_ci (g_runV S hK I (As := [.int p0]) (rest := []) (met_X5_fails l Γ mo ad (upd (upd f 1 (f 3)) 2 (f 4)) a rr ph p0) (cwV 1 hts (lw_V q3056 q3058 qs51 q151 q3059) rfl rfl rfl (by decide +kernel) ⟨Nat.le_of_ble_eq_true rfl, Nat.le_of_ble_eq_true rfl⟩) (g_recv hK I (g_at.of mG_obj) (ci := 4) rfl) rfl hl.1 rfl (Nat.le_of_ble_eq_true rfl) dX5_refuses_18 ⟨Nat.le_of_ble_eq_true rfl, Nat.le_of_ble_eq_true rfl⟩) I (fun r_18 ph1 H locs hp I => ?_)
  obtain ⟨hp, rfl⟩ := hp
  have hp : r_18 = 0 := hp
  subst hp
  have I : g_I Γ (mG Γ mo ad (upd (upd (upd f 1 (f 3)) 2 (f 4)) 0 p0) a rr ph) s H locs := I
  exact g_iret S hr hlk I dX5_refuses_21 (Nat.le_of_ble_eq_true rfl) (Nat.le_of_ble_eq_true rfl) hQ ⟨_, rfl, rfl, rfl⟩

set_option maxHeartbeats 4000000 in
set_option maxRecDepth 100000 in
theorem met_X5_hinders (l : Launch) (Γ : g_C) (mo : Nat) (ad : Nat → Nat) (f : Nat → Int32) (a : Nat → Nat → Int32) (rr : Nat → UInt32) (ph : g_H) (p0 : Int32) (p1 : Int32) : g_Met l yX5_hinders (ws_ yX5_hinders cX5_hinders 3 (some .boolean)) (g_rm 1 0 0) Γ [.ref mo, .int p0, .int p1] (mG Γ mo ad f a rr ph) (g_oi (fun v ph' => v = (b2i true) ∧ ph' = mG Γ mo ad (upd (upd f 3 p0) 4 p1) a rr ph)) g_no := by
  refine g_start (y := yX5_hinders) (cc := cX5_hinders) (maxL := 3) (ret := (some .boolean)) (rm := g_rm 1 0 0) (by decide) (Nat.le_of_ble_eq_true rfl) ?_
  intro p e s m A below meth c ls Q hQ S hr hlk hex hnm hK I hl
  have hx := S.1
  have hb := S.2.1
  have hown := S.2.2.2.1
  have hts := S.2.2.2.2
  have S : CallFix p m c cX5_hinders 3 s A lw_all "CrumblingWallModel" := S
  have hl : lv_has ls 3 [(0, .ref mo), (1, .int p0), (2, .int p1)] := hl
  refine lv_aload_n hx hb dX5_hinders_0 rfl (lv_at hl 0 rfl) ?_
  refine lv_iload_n hx hb dX5_hinders_1 rfl (lv_at hl 1 rfl) ?_
  refine g_put S hK I k_X5 (v := .int p0) mG_obj 3 (by decide) q2955 rfl rfl rfl rfl (Nat.le_of_ble_eq_true rfl) dX5_hinders_2 (fun H locs I => ?_)
  have I := mI_f (f' := (upd f 3 p0)) I rfl
  refine lv_aload_n hx hb dX5_hinders_5 rfl (lv_at hl 0 rfl) ?_
  refine lv_iload_n hx hb dX5_hinders_6 rfl (lv_at hl 2 rfl) ?_
  refine g_put S hK I k_X5 (v := .int p1) mG_obj 4 (by decide) q2956 rfl rfl rfl rfl (Nat.le_of_ble_eq_true rfl) dX5_hinders_7 (fun H locs I => ?_)
  have I := mI_f (f' := (upd (upd f 3 p0) 4 p1)) I rfl
  refine lv_iconst (v := 1) hx hb dX5_hinders_10 (by decide) ?_
  exact g_zret S hr hlk I rfl dX5_hinders_11 (Nat.le_of_ble_eq_true rfl) (Nat.le_of_ble_eq_true rfl) hQ ⟨_, rfl, rfl, rfl⟩

set_option maxHeartbeats 4000000 in
set_option maxRecDepth 100000 in
theorem met_X5_size (l : Launch) (Γ : g_C) (ph : g_H) (p0 : Int32) : g_Met l yX5_size (ws_ yX5_size cX5_size 1 (some .int)) (g_rm 1 0 0) Γ [.int p0] (ph) (g_oi (fun v ph' => v = (sz p0) ∧ ph' = ph)) g_no := by
  refine g_start (y := yX5_size) (cc := cX5_size) (maxL := 1) (ret := (some .int)) (rm := g_rm 1 0 0) (by decide) (Nat.le_of_ble_eq_true rfl) ?_
  intro p e s m A below meth c ls Q hQ S hr hlk hex hnm hK I hl
  have hx := S.1
  have hb := S.2.1
  have hown := S.2.2.2.1
  have hts := S.2.2.2.2
  have S : CallFix p m c cX5_size 1 s A lw_all "CrumblingWallModel" := S
  have hl : lv_has ls 1 [(0, .int p0)] := hl
  refine lv_iload_n hx hb dX5_size_0 rfl (lv_at hl 0 rfl) ?_
  refine lv_if_ge (tgt := 9) hx hb dX5_size_1 (by decide) (fun c_1 => ?_) (fun c_1 => ?_)
  · have n_1 := Int32.not_lt.mpr c_1
    refine lv_iload_n hx hb dX5_size_9 rfl (lv_at hl 0 rfl) ?_
    exact g_iret S hr hlk I dX5_size_10 (Nat.le_of_ble_eq_true rfl) (Nat.le_of_ble_eq_true rfl) hQ ⟨_, rfl, (by (try simp [sz, c_1, n_1])), rfl⟩
  · have n_1 := Int32.not_le.mp c_1
    refine lv_iload_n hx hb dX5_size_4 rfl (lv_at hl 0 rfl) ?_
    refine lv_ineg hx hb dX5_size_5 ?_
    refine lv_goto (tgt := 10) hx hb dX5_size_6 (by decide) ?_
    exact g_iret S hr hlk I dX5_size_10 (Nat.le_of_ble_eq_true rfl) (Nat.le_of_ble_eq_true rfl) hQ ⟨_, rfl, (by (try simp [sz, c_1, n_1])), rfl⟩

set_option maxHeartbeats 4000000 in
set_option maxRecDepth 100000 in
theorem met_X5_isBetween (l : Launch) (Γ : g_C) (ph : g_H) (p0 : Int32) (p1 : Int32) (p2 : Int32) : g_Met l yX5_isBetween (ws_ yX5_isBetween cX5_isBetween 3 (some .boolean)) (g_rm 1 0 0) Γ [.int p0, .int p1, .int p2] (ph) (g_oi (fun v ph' => v = (b2i (btw p0 p1 p2)) ∧ ph' = ph)) g_no := by
  refine g_start (y := yX5_isBetween) (cc := cX5_isBetween) (maxL := 3) (ret := (some .boolean)) (rm := g_rm 1 0 0) (by decide) (Nat.le_of_ble_eq_true rfl) ?_
  intro p e s m A below meth c ls Q hQ S hr hlk hex hnm hK I hl
  have hx := S.1
  have hb := S.2.1
  have hown := S.2.2.2.1
  have hts := S.2.2.2.2
  have S : CallFix p m c cX5_isBetween 3 s A lw_all "CrumblingWallModel" := S
  have hl : lv_has ls 3 [(0, .int p0), (1, .int p1), (2, .int p2)] := hl
  refine lv_iload_n hx hb dX5_isBetween_0 rfl (lv_at hl 1 rfl) ?_
  refine lv_iload_n hx hb dX5_isBetween_1 rfl (lv_at hl 0 rfl) ?_
  refine lv_icmp_gt (tgt := 14) hx hb dX5_isBetween_2 (by decide) (fun c_2 => ?_) (fun c_2 => ?_)
  · have n_2 := Int32.not_le.mpr c_2
    refine lv_iconst (v := 0) hx hb dX5_isBetween_14 (by decide) ?_
    exact g_zret S hr hlk I rfl dX5_isBetween_15 (Nat.le_of_ble_eq_true rfl) (Nat.le_of_ble_eq_true rfl) hQ ⟨_, rfl, (by (try simp [btw, b2i, Int32.not_lt, Int32.not_le, c_2, n_2])), rfl⟩
  · have n_2 := Int32.not_lt.mp c_2
    refine lv_iload_n hx hb dX5_isBetween_5 rfl (lv_at hl 0 rfl) ?_
    refine lv_iload_n hx hb dX5_isBetween_6 rfl (lv_at hl 2 rfl) ?_
    refine lv_icmp_gt (tgt := 14) hx hb dX5_isBetween_7 (by decide) (fun c_7 => ?_) (fun c_7 => ?_)
    · have n_7 := Int32.not_le.mpr c_7
      refine lv_iconst (v := 0) hx hb dX5_isBetween_14 (by decide) ?_
      exact g_zret S hr hlk I rfl dX5_isBetween_15 (Nat.le_of_ble_eq_true rfl) (Nat.le_of_ble_eq_true rfl) hQ ⟨_, rfl, (by (try simp [btw, b2i, Int32.not_lt, Int32.not_le, c_2, n_2, c_7, n_7])), rfl⟩
    · have n_7 := Int32.not_lt.mp c_7
      refine lv_iconst (v := 1) hx hb dX5_isBetween_10 (by decide) ?_
      refine lv_goto (tgt := 15) hx hb dX5_isBetween_11 (by decide) ?_
      exact g_zret S hr hlk I rfl dX5_isBetween_15 (Nat.le_of_ble_eq_true rfl) (Nat.le_of_ble_eq_true rfl) hQ ⟨_, rfl, (by (try simp [btw, b2i, Int32.not_lt, Int32.not_le, c_2, n_2, c_7, n_7])), rfl⟩

set_option maxHeartbeats 4000000 in
set_option maxRecDepth 100000 in
theorem met_X5_atHold (l : Launch) (Γ : g_C) (ph : g_H) (p0 : Int32) (p1 : Int32) : g_Met l yX5_atHold (ws_ yX5_atHold cX5_atHold 2 (some .int)) (g_rm 1 0 0) Γ [.int p0, .int p1] (ph) (g_oi (fun v ph' => v = (1 + 5 * p0 + p1) ∧ ph' = ph)) g_no := by
  refine g_start (y := yX5_atHold) (cc := cX5_atHold) (maxL := 2) (ret := (some .int)) (rm := g_rm 1 0 0) (by decide) (Nat.le_of_ble_eq_true rfl) ?_
  intro p e s m A below meth c ls Q hQ S hr hlk hex hnm hK I hl
  have hx := S.1
  have hb := S.2.1
  have hown := S.2.2.2.1
  have hts := S.2.2.2.2
  have S : CallFix p m c cX5_atHold 2 s A lw_all "CrumblingWallModel" := S
  have hl : lv_has ls 2 [(0, .int p0), (1, .int p1)] := hl
  refine lv_iconst (v := 1) hx hb dX5_atHold_0 (by decide) ?_
  refine lv_iconst (v := 5) hx hb dX5_atHold_1 (by decide) ?_
  refine lv_iload_n hx hb dX5_atHold_2 rfl (lv_at hl 0 rfl) ?_
  refine lv_imul hx hb dX5_atHold_3 ?_
  refine lv_iadd hx hb dX5_atHold_4 ?_
  refine lv_iload_n hx hb dX5_atHold_5 rfl (lv_at hl 1 rfl) ?_
  refine lv_iadd hx hb dX5_atHold_6 ?_
  exact g_iret S hr hlk I dX5_atHold_7 (Nat.le_of_ble_eq_true rfl) (Nat.le_of_ble_eq_true rfl) hQ ⟨_, rfl, rfl, rfl⟩

set_option maxHeartbeats 4000000 in
set_option maxRecDepth 100000 in
theorem met_X5_atLamp (l : Launch) (Γ : g_C) (ph : g_H) (p0 : Int32) (p1 : Int32) : g_Met l yX5_atLamp (ws_ yX5_atLamp cX5_atLamp 2 (some .int)) (g_rm 1 0 0) Γ [.int p0, .int p1] (ph) (g_oi (fun v ph' => v = (105 + 5 * p0 + p1) ∧ ph' = ph)) g_no := by
  refine g_start (y := yX5_atLamp) (cc := cX5_atLamp) (maxL := 2) (ret := (some .int)) (rm := g_rm 1 0 0) (by decide) (Nat.le_of_ble_eq_true rfl) ?_
  intro p e s m A below meth c ls Q hQ S hr hlk hex hnm hK I hl
  have hx := S.1
  have hb := S.2.1
  have hown := S.2.2.2.1
  have hts := S.2.2.2.2
  have S : CallFix p m c cX5_atLamp 2 s A lw_all "CrumblingWallModel" := S
  have hl : lv_has ls 2 [(0, .int p0), (1, .int p1)] := hl
  refine lv_bipush (v := 105) hx hb dX5_atLamp_0 (by decide) ?_
  refine lv_iconst (v := 5) hx hb dX5_atLamp_2 (by decide) ?_
  refine lv_iload_n hx hb dX5_atLamp_3 rfl (lv_at hl 0 rfl) ?_
  refine lv_imul hx hb dX5_atLamp_4 ?_
  refine lv_iadd hx hb dX5_atLamp_5 ?_
  refine lv_iload_n hx hb dX5_atLamp_6 rfl (lv_at hl 1 rfl) ?_
  refine lv_iadd hx hb dX5_atLamp_7 ?_
  exact g_iret S hr hlk I dX5_atLamp_8 (Nat.le_of_ble_eq_true rfl) (Nat.le_of_ble_eq_true rfl) hQ ⟨_, rfl, rfl, rfl⟩

set_option maxHeartbeats 4000000 in
set_option maxRecDepth 100000 in
theorem met_X5_ofHold (l : Launch) (Γ : g_C) (mo : Nat) (ad : Nat → Nat) (f : Nat → Int32) (a : Nat → Nat → Int32) (rr : Nat → UInt32) (ph : g_H) (p0 : Int32) (p1 : Int32) (h0 : vp_in p0 20) (h1 : vp_in p1 5) : g_Met l yX5_ofHold (ws_ yX5_ofHold cX5_ofHold 3 (some .int)) (g_rm 2 0 0) Γ [.ref mo, .int p0, .int p1] (mG Γ mo ad f a rr ph) (g_oi (fun v ph' => v = (hX (a 5) p0 p1.toNatClampNeg) ∧ ph' = mG Γ mo ad f a rr ph)) g_no := by
  refine g_start (y := yX5_ofHold) (cc := cX5_ofHold) (maxL := 3) (ret := (some .int)) (rm := g_rm 2 0 0) (by decide) (Nat.le_of_ble_eq_true rfl) ?_
  intro p e s m A below meth c ls Q hQ S hr hlk hex hnm hK I hl
  have hx := S.1
  have hb := S.2.1
  have hown := S.2.2.2.1
  have hts := S.2.2.2.2
  have S : CallFix p m c cX5_ofHold 3 s A lw_all "CrumblingWallModel" := S
  have hl : lv_has ls 3 [(0, .ref mo), (1, .int p0), (2, .int p1)] := hl
  refine lv_aload_n hx hb dX5_ofHold_0 rfl (lv_at hl 0 rfl) ?_
  refine g_get S hK I k_X5 (v := .ref (ad 5)) (g_at.of mG_obj) 5 (by decide) q2957 rfl rfl dX5_ofHold_1 ?_
  refine lv_iload_n hx hb dX5_ofHold_4 rfl (lv_at hl 1 rfl) ?_
  refine lv_iload_n hx hb dX5_ofHold_5 rfl (lv_at hl 2 rfl) ?_
  refine g_ci (g_runS S hK I (As := [.int p0, .int p1]) (rest := [.ref (ad 5)]) (met_X5_atHold l Γ (mG Γ mo ad f a rr ph) p0 p1) (va_cwS 2 hts (lw_S q3068 q3069 q151 q3070) rfl rfl rfl (by decide +kernel) ⟨Nat.le_of_ble_eq_true rfl, Nat.le_of_ble_eq_true rfl⟩) rfl hl.1 rfl (Nat.le_of_ble_eq_true rfl) dX5_ofHold_6 ⟨Nat.le_of_ble_eq_true rfl, Nat.le_of_ble_eq_true rfl⟩) I (fun r_6 ph1 H locs hp I => ?_)
  obtain ⟨hp, rfl⟩ := hp
  have hp : r_6 = 1 + 5 * p0 + p1 := hp
  subst hp
  refine m_iald S hK I (f := (a 5)) (k := (1 + 5 * p0.toNatClampNeg + p1.toNatClampNeg)) (g_at.of mG_5) (ix_h h0 h1).1 (ix_h h0 h1).2 dX5_ofHold_9 ?_
  exact g_iret S hr hlk I dX5_ofHold_10 (Nat.le_of_ble_eq_true rfl) (Nat.le_of_ble_eq_true rfl) hQ ⟨_, rfl, rfl, rfl⟩

set_option maxHeartbeats 4000000 in
set_option maxRecDepth 100000 in
theorem met_X5_ofLamp (l : Launch) (Γ : g_C) (mo : Nat) (ad : Nat → Nat) (f : Nat → Int32) (a : Nat → Nat → Int32) (rr : Nat → UInt32) (ph : g_H) (p0 : Int32) (p1 : Int32) (h0 : vp_in p0 4) (h1 : vp_in p1 5) : g_Met l yX5_ofLamp (ws_ yX5_ofLamp cX5_ofLamp 3 (some .int)) (g_rm 2 0 0) Γ [.ref mo, .int p0, .int p1] (mG Γ mo ad f a rr ph) (g_oi (fun v ph' => v = (lX (a 5) p0 p1.toNatClampNeg) ∧ ph' = mG Γ mo ad f a rr ph)) g_no := by
  refine g_start (y := yX5_ofLamp) (cc := cX5_ofLamp) (maxL := 3) (ret := (some .int)) (rm := g_rm 2 0 0) (by decide) (Nat.le_of_ble_eq_true rfl) ?_
  intro p e s m A below meth c ls Q hQ S hr hlk hex hnm hK I hl
  have hx := S.1
  have hb := S.2.1
  have hown := S.2.2.2.1
  have hts := S.2.2.2.2
  have S : CallFix p m c cX5_ofLamp 3 s A lw_all "CrumblingWallModel" := S
  have hl : lv_has ls 3 [(0, .ref mo), (1, .int p0), (2, .int p1)] := hl
  refine lv_aload_n hx hb dX5_ofLamp_0 rfl (lv_at hl 0 rfl) ?_
  refine g_get S hK I k_X5 (v := .ref (ad 5)) (g_at.of mG_obj) 5 (by decide) q2957 rfl rfl dX5_ofLamp_1 ?_
  refine lv_iload_n hx hb dX5_ofLamp_4 rfl (lv_at hl 1 rfl) ?_
  refine lv_iload_n hx hb dX5_ofLamp_5 rfl (lv_at hl 2 rfl) ?_
  refine g_ci (g_runS S hK I (As := [.int p0, .int p1]) (rest := [.ref (ad 5)]) (met_X5_atLamp l Γ (mG Γ mo ad f a rr ph) p0 p1) (va_cwS 2 hts (lw_S q3134 q3135 q151 q3136) rfl rfl rfl (by decide +kernel) ⟨Nat.le_of_ble_eq_true rfl, Nat.le_of_ble_eq_true rfl⟩) rfl hl.1 rfl (Nat.le_of_ble_eq_true rfl) dX5_ofLamp_6 ⟨Nat.le_of_ble_eq_true rfl, Nat.le_of_ble_eq_true rfl⟩) I (fun r_6 ph1 H locs hp I => ?_)
  obtain ⟨hp, rfl⟩ := hp
  have hp : r_6 = 105 + 5 * p0 + p1 := hp
  subst hp
  refine m_iald S hK I (f := (a 5)) (k := (105 + 5 * p0.toNatClampNeg + p1.toNatClampNeg)) (g_at.of mG_5) (ix_l h0 h1).1 (ix_l h0 h1).2 dX5_ofLamp_9 ?_
  exact g_iret S hr hlk I dX5_ofLamp_10 (Nat.le_of_ble_eq_true rfl) (Nat.le_of_ble_eq_true rfl) hQ ⟨_, rfl, rfl, rfl⟩

set_option maxHeartbeats 4000000 in
set_option maxRecDepth 100000 in
theorem met_X5_ofClimber (l : Launch) (Γ : g_C) (mo : Nat) (ad : Nat → Nat) (f : Nat → Int32) (a : Nat → Nat → Int32) (rr : Nat → UInt32) (ph : g_H) (p0 : Int32) (p1 : Int32) (h0 : vp_in p0 2) (h1 : vp_in p1 3) : g_Met l yX5_ofClimber (ws_ yX5_ofClimber cX5_ofClimber 3 (some .int)) (g_rm 1 0 0) Γ [.ref mo, .int p0, .int p1] (mG Γ mo ad f a rr ph) (g_oi (fun v ph' => v = (cX (a 5) p0 p1.toNatClampNeg) ∧ ph' = mG Γ mo ad f a rr ph)) g_no := by
  refine g_start (y := yX5_ofClimber) (cc := cX5_ofClimber) (maxL := 3) (ret := (some .int)) (rm := g_rm 1 0 0) (by decide) (Nat.le_of_ble_eq_true rfl) ?_
  intro p e s m A below meth c ls Q hQ S hr hlk hex hnm hK I hl
  have hx := S.1
  have hb := S.2.1
  have hown := S.2.2.2.1
  have hts := S.2.2.2.2
  have S : CallFix p m c cX5_ofClimber 3 s A lw_all "CrumblingWallModel" := S
  have hl : lv_has ls 3 [(0, .ref mo), (1, .int p0), (2, .int p1)] := hl
  refine lv_aload_n hx hb dX5_ofClimber_0 rfl (lv_at hl 0 rfl) ?_
  refine g_get S hK I k_X5 (v := .ref (ad 5)) (g_at.of mG_obj) 5 (by decide) q2957 rfl rfl dX5_ofClimber_1 ?_
  refine lv_bipush (v := 125) hx hb dX5_ofClimber_4 (by decide) ?_
  refine lv_iconst (v := 3) hx hb dX5_ofClimber_6 (by decide) ?_
  refine lv_iload_n hx hb dX5_ofClimber_7 rfl (lv_at hl 1 rfl) ?_
  refine lv_imul hx hb dX5_ofClimber_8 ?_
  refine lv_iadd hx hb dX5_ofClimber_9 ?_
  refine lv_iload_n hx hb dX5_ofClimber_10 rfl (lv_at hl 2 rfl) ?_
  refine lv_iadd hx hb dX5_ofClimber_11 ?_
  refine m_iald S hK I (f := (a 5)) (k := (125 + 3 * p0.toNatClampNeg + p1.toNatClampNeg)) (g_at.of mG_5) (ix_c h0 h1).1 (ix_c h0 h1).2 dX5_ofClimber_12 ?_
  exact g_iret S hr hlk I dX5_ofClimber_13 (Nat.le_of_ble_eq_true rfl) (Nat.le_of_ble_eq_true rfl) hQ ⟨_, rfl, rfl, rfl⟩

set_option maxHeartbeats 4000000 in
set_option maxRecDepth 100000 in
theorem met_X5_setClimber (l : Launch) (Γ : g_C) (mo : Nat) (ad : Nat → Nat) (f : Nat → Int32) (a : Nat → Nat → Int32) (rr : Nat → UInt32) (ph : g_H) (p0 : Int32) (p1 : Int32) (p2 : Int32) (h0 : vp_in p0 2) (h1 : vp_in p1 3) : g_Met l yX5_setClimber (ws_ yX5_setClimber cX5_setClimber 4 none) (g_rm 1 0 0) Γ [.ref mo, .int p0, .int p1, .int p2] (mG Γ mo ad f a rr ph) (g_ov (fun ph' => ph' = mG Γ mo ad f (va_up a 5 (setC (a 5) p0 p1.toNatClampNeg p2)) rr ph)) g_no := by
  refine g_start (y := yX5_setClimber) (cc := cX5_setClimber) (maxL := 4) (ret := none) (rm := g_rm 1 0 0) (by decide) (Nat.le_of_ble_eq_true rfl) ?_
  intro p e s m A below meth c ls Q hQ S hr hlk hex hnm hK I hl
  have hx := S.1
  have hb := S.2.1
  have hown := S.2.2.2.1
  have hts := S.2.2.2.2
  have S : CallFix p m c cX5_setClimber 4 s A lw_all "CrumblingWallModel" := S
  have hl : lv_has ls 4 [(0, .ref mo), (1, .int p0), (2, .int p1), (3, .int p2)] := hl
  refine lv_aload_n hx hb dX5_setClimber_0 rfl (lv_at hl 0 rfl) ?_
  refine g_get S hK I k_X5 (v := .ref (ad 5)) (g_at.of mG_obj) 5 (by decide) q2957 rfl rfl dX5_setClimber_1 ?_
  refine lv_bipush (v := 125) hx hb dX5_setClimber_4 (by decide) ?_
  refine lv_iconst (v := 3) hx hb dX5_setClimber_6 (by decide) ?_
  refine lv_iload_n hx hb dX5_setClimber_7 rfl (lv_at hl 1 rfl) ?_
  refine lv_imul hx hb dX5_setClimber_8 ?_
  refine lv_iadd hx hb dX5_setClimber_9 ?_
  refine lv_iload_n hx hb dX5_setClimber_10 rfl (lv_at hl 2 rfl) ?_
  refine lv_iadd hx hb dX5_setClimber_11 ?_
  refine lv_iload_n hx hb dX5_setClimber_12 rfl (lv_at hl 3 rfl) ?_
  refine m_iast S hK I (f := (a 5)) (k := (125 + 3 * p0.toNatClampNeg + p1.toNatClampNeg)) mG_5 (ix_c h0 h1).1 (ix_c h0 h1).2 dX5_setClimber_13 (fun H locs I => ?_)
  have I := mI_5 I
  exact g_vret S hr hlk I dX5_setClimber_14 (Nat.le_of_ble_eq_true rfl) (Nat.le_of_ble_eq_true rfl) hQ ⟨rfl, rfl⟩

set_option maxHeartbeats 4000000 in
set_option maxRecDepth 100000 in
theorem met_X5_isHold (l : Launch) (Γ : g_C) (mo : Nat) (ad : Nat → Nat) (f : Nat → Int32) (a : Nat → Nat → Int32) (rr : Nat → UInt32) (ph : g_H) (p0 : Int32) : g_Met l yX5_isHold (ws_ yX5_isHold cX5_isHold 2 (some .boolean)) (g_rm 2 0 0) Γ [.ref mo, .int p0] (mG Γ mo ad f a rr ph) (g_oi (fun v ph' => v = (b2i (isHo (a 5) p0)) ∧ ph' = mG Γ mo ad f a rr ph)) g_no := by
  refine g_start (y := yX5_isHold) (cc := cX5_isHold) (maxL := 2) (ret := (some .boolean)) (rm := g_rm 2 0 0) (by decide) (Nat.le_of_ble_eq_true rfl) ?_
  intro p e s m A below meth c ls Q hQ S hr hlk hex hnm hK I hl
  have hx := S.1
  have hb := S.2.1
  have hown := S.2.2.2.1
  have hts := S.2.2.2.2
  have S : CallFix p m c cX5_isHold 2 s A lw_all "CrumblingWallModel" := S
  have hl : lv_has ls 2 [(0, .ref mo), (1, .int p0)] := hl
  refine lv_iload_n hx hb dX5_isHold_0 rfl (lv_at hl 1 rfl) ?_
  refine lv_iconst (v := 0) hx hb dX5_isHold_1 (by decide) ?_
  refine lv_aload_n hx hb dX5_isHold_2 rfl (lv_at hl 0 rfl) ?_
  refine g_get S hK I k_X5 (v := .ref (ad 5)) (g_at.of mG_obj) 5 (by decide) q2957 rfl rfl dX5_isHold_3 ?_
  refine lv_iconst (v := 0) hx hb dX5_isHold_6 (by decide) ?_
  refine m_iald S hK I (f := (a 5)) (k := 0) (g_at.of mG_5) (vp_lit (by decide)) (by decide) dX5_isHold_7 ?_
  refine lv_iconst (v := 1) hx hb dX5_isHold_8 (by decide) ?_
  refine lv_isub hx hb dX5_isHold_9 ?_
  refine g_ci (g_runS S hK I (As := [.int p0, .int 0, .int (((a 5) 0) - 1)]) (rest := []) (met_X5_isBetween l Γ (mG Γ mo ad f a rr ph) p0 0 (((a 5) 0) - 1)) (va_cwS 3 hts (lw_S q3053 q3054 q151 q3055) rfl rfl rfl (by decide +kernel) ⟨Nat.le_of_ble_eq_true rfl, Nat.le_of_ble_eq_true rfl⟩) rfl hl.1 rfl (Nat.le_of_ble_eq_true rfl) dX5_isHold_10 ⟨Nat.le_of_ble_eq_true rfl, Nat.le_of_ble_eq_true rfl⟩) I (fun r_10 ph1 H locs hp I => ?_)
  obtain ⟨hp, rfl⟩ := hp
  have hp : r_10 = b2i (btw p0 0 (((a 5) 0) - 1)) := hp
  subst hp
  exact g_zret S hr hlk I (b2i_nar _) dX5_isHold_13 (Nat.le_of_ble_eq_true rfl) (Nat.le_of_ble_eq_true rfl) hQ ⟨_, rfl, rfl, rfl⟩

set_option maxHeartbeats 4000000 in
set_option maxRecDepth 100000 in
theorem met_X5_isPlace (l : Launch) (Γ : g_C) (mo : Nat) (ad : Nat → Nat) (f : Nat → Int32) (a : Nat → Nat → Int32) (rr : Nat → UInt32) (ph : g_H) (p0 : Int32) : g_Met l yX5_isPlace (ws_ yX5_isPlace cX5_isPlace 2 (some .boolean)) (g_rm 2 0 0) Γ [.ref mo, .int p0] (mG Γ mo ad f a rr ph) (g_oi (fun v ph' => v = (b2i (isPl (a 5) p0)) ∧ ph' = mG Γ mo ad f a rr ph)) g_no := by
  refine g_start (y := yX5_isPlace) (cc := cX5_isPlace) (maxL := 2) (ret := (some .boolean)) (rm := g_rm 2 0 0) (by decide) (Nat.le_of_ble_eq_true rfl) ?_
  intro p e s m A below meth c ls Q hQ S hr hlk hex hnm hK I hl
  have hx := S.1
  have hb := S.2.1
  have hown := S.2.2.2.1
  have hts := S.2.2.2.2
  have S : CallFix p m c cX5_isPlace 2 s A lw_all "CrumblingWallModel" := S
  have hl : lv_has ls 2 [(0, .ref mo), (1, .int p0)] := hl
  refine lv_iload_n hx hb dX5_isPlace_0 rfl (lv_at hl 1 rfl) ?_
  refine lv_iconst (v := (-1)) hx hb dX5_isPlace_1 (by decide) ?_
  refine lv_aload_n hx hb dX5_isPlace_2 rfl (lv_at hl 0 rfl) ?_
  refine g_get S hK I k_X5 (v := .ref (ad 5)) (g_at.of mG_obj) 5 (by decide) q2957 rfl rfl dX5_isPlace_3 ?_
  refine lv_iconst (v := 0) hx hb dX5_isPlace_6 (by decide) ?_
  refine m_iald S hK I (f := (a 5)) (k := 0) (g_at.of mG_5) (vp_lit (by decide)) (by decide) dX5_isPlace_7 ?_
  refine lv_iconst (v := 1) hx hb dX5_isPlace_8 (by decide) ?_
  refine lv_isub hx hb dX5_isPlace_9 ?_
  refine g_ci (g_runS S hK I (As := [.int p0, .int (-1), .int (((a 5) 0) - 1)]) (rest := []) (met_X5_isBetween l Γ (mG Γ mo ad f a rr ph) p0 (-1) (((a 5) 0) - 1)) (va_cwS 3 hts (lw_S q3053 q3054 q151 q3055) rfl rfl rfl (by decide +kernel) ⟨Nat.le_of_ble_eq_true rfl, Nat.le_of_ble_eq_true rfl⟩) rfl hl.1 rfl (Nat.le_of_ble_eq_true rfl) dX5_isPlace_10 ⟨Nat.le_of_ble_eq_true rfl, Nat.le_of_ble_eq_true rfl⟩) I (fun r_10 ph1 H locs hp I => ?_)
  obtain ⟨hp, rfl⟩ := hp
  have hp : r_10 = b2i (btw p0 (-1) (((a 5) 0) - 1)) := hp
  subst hp
  exact g_zret S hr hlk I (b2i_nar _) dX5_isPlace_13 (Nat.le_of_ble_eq_true rfl) (Nat.le_of_ble_eq_true rfl) hQ ⟨_, rfl, rfl, rfl⟩

set_option maxHeartbeats 4000000 in
set_option maxRecDepth 100000 in
theorem met_X5_isLamp (l : Launch) (Γ : g_C) (mo : Nat) (ad : Nat → Nat) (f : Nat → Int32) (a : Nat → Nat → Int32) (rr : Nat → UInt32) (ph : g_H) (p0 : Int32) : g_Met l yX5_isLamp (ws_ yX5_isLamp cX5_isLamp 2 (some .boolean)) (g_rm 2 0 0) Γ [.ref mo, .int p0] (mG Γ mo ad f a rr ph) (g_oi (fun v ph' => v = (b2i (isLa (a 5) p0)) ∧ ph' = mG Γ mo ad f a rr ph)) g_no := by
  refine g_start (y := yX5_isLamp) (cc := cX5_isLamp) (maxL := 2) (ret := (some .boolean)) (rm := g_rm 2 0 0) (by decide) (Nat.le_of_ble_eq_true rfl) ?_
  intro p e s m A below meth c ls Q hQ S hr hlk hex hnm hK I hl
  have hx := S.1
  have hb := S.2.1
  have hown := S.2.2.2.1
  have hts := S.2.2.2.2
  have S : CallFix p m c cX5_isLamp 2 s A lw_all "CrumblingWallModel" := S
  have hl : lv_has ls 2 [(0, .ref mo), (1, .int p0)] := hl
  refine lv_iload_n hx hb dX5_isLamp_0 rfl (lv_at hl 1 rfl) ?_
  refine lv_iconst (v := 0) hx hb dX5_isLamp_1 (by decide) ?_
  refine lv_aload_n hx hb dX5_isLamp_2 rfl (lv_at hl 0 rfl) ?_
  refine g_get S hK I k_X5 (v := .ref (ad 5)) (g_at.of mG_obj) 5 (by decide) q2957 rfl rfl dX5_isLamp_3 ?_
  refine lv_bipush (v := 104) hx hb dX5_isLamp_6 (by decide) ?_
  refine m_iald S hK I (f := (a 5)) (k := 104) (g_at.of mG_5) (vp_lit (by decide)) (by decide) dX5_isLamp_8 ?_
  refine lv_iconst (v := 1) hx hb dX5_isLamp_9 (by decide) ?_
  refine lv_isub hx hb dX5_isLamp_10 ?_
  refine g_ci (g_runS S hK I (As := [.int p0, .int 0, .int (((a 5) 104) - 1)]) (rest := []) (met_X5_isBetween l Γ (mG Γ mo ad f a rr ph) p0 0 (((a 5) 104) - 1)) (va_cwS 3 hts (lw_S q3053 q3054 q151 q3055) rfl rfl rfl (by decide +kernel) ⟨Nat.le_of_ble_eq_true rfl, Nat.le_of_ble_eq_true rfl⟩) rfl hl.1 rfl (Nat.le_of_ble_eq_true rfl) dX5_isLamp_11 ⟨Nat.le_of_ble_eq_true rfl, Nat.le_of_ble_eq_true rfl⟩) I (fun r_11 ph1 H locs hp I => ?_)
  obtain ⟨hp, rfl⟩ := hp
  have hp : r_11 = b2i (btw p0 0 (((a 5) 104) - 1)) := hp
  subst hp
  exact g_zret S hr hlk I (b2i_nar _) dX5_isLamp_14 (Nat.le_of_ble_eq_true rfl) (Nat.le_of_ble_eq_true rfl) hQ ⟨_, rfl, rfl, rfl⟩

set_option maxHeartbeats 4000000 in
set_option maxRecDepth 100000 in
theorem met_X5_isClimber (l : Launch) (Γ : g_C) (ph : g_H) (p0 : Int32) : g_Met l yX5_isClimber (ws_ yX5_isClimber cX5_isClimber 1 (some .boolean)) (g_rm 1 0 0) Γ [.int p0] (ph) (g_oi (fun v ph' => v = (b2i (isCl p0)) ∧ ph' = ph)) g_no := by
  refine g_start (y := yX5_isClimber) (cc := cX5_isClimber) (maxL := 1) (ret := (some .boolean)) (rm := g_rm 1 0 0) (by decide) (Nat.le_of_ble_eq_true rfl) ?_
  intro p e s m A below meth c ls Q hQ S hr hlk hex hnm hK I hl
  have hx := S.1
  have hb := S.2.1
  have hown := S.2.2.2.1
  have hts := S.2.2.2.2
  have S : CallFix p m c cX5_isClimber 1 s A lw_all "CrumblingWallModel" := S
  have hl : lv_has ls 1 [(0, .int p0)] := hl
  refine lv_iload_n hx hb dX5_isClimber_0 rfl (lv_at hl 0 rfl) ?_
  refine lv_if_eq (tgt := 9) hx hb dX5_isClimber_1 (by decide) (fun c_1 => ?_) (fun c_1 => ?_)
  · refine lv_iconst (v := 1) hx hb dX5_isClimber_9 (by decide) ?_
    refine lv_goto (tgt := 14) hx hb dX5_isClimber_10 (by decide) ?_
    exact g_zret S hr hlk I rfl dX5_isClimber_14 (Nat.le_of_ble_eq_true rfl) (Nat.le_of_ble_eq_true rfl) hQ ⟨_, rfl, (by (try simp [isCl, b2i, c_1])), rfl⟩
  · refine lv_iload_n hx hb dX5_isClimber_4 rfl (lv_at hl 0 rfl) ?_
    refine lv_iconst (v := 1) hx hb dX5_isClimber_5 (by decide) ?_
    refine lv_icmp_ne (tgt := 13) hx hb dX5_isClimber_6 (by decide) (fun c_6 => ?_) (fun c_6 => ?_)
    · refine lv_iconst (v := 0) hx hb dX5_isClimber_13 (by decide) ?_
      exact g_zret S hr hlk I rfl dX5_isClimber_14 (Nat.le_of_ble_eq_true rfl) (Nat.le_of_ble_eq_true rfl) hQ ⟨_, rfl, (by (try simp [isCl, b2i, c_1, c_6])), rfl⟩
    · refine lv_iconst (v := 1) hx hb dX5_isClimber_9 (by decide) ?_
      refine lv_goto (tgt := 14) hx hb dX5_isClimber_10 (by decide) ?_
      exact g_zret S hr hlk I rfl dX5_isClimber_14 (Nat.le_of_ble_eq_true rfl) (Nat.le_of_ble_eq_true rfl) hQ ⟨_, rfl, (by (try simp [isCl, b2i, c_1, c_6])), rfl⟩

set_option maxHeartbeats 4000000 in
set_option maxRecDepth 100000 in
theorem met_X5_hasCrumbled (l : Launch) (Γ : g_C) (mo : Nat) (ad : Nat → Nat) (f : Nat → Int32) (a : Nat → Nat → Int32) (rr : Nat → UInt32) (ph : g_H) (p0 : Int32) (h0 : vp_in p0 20) : g_Met l yX5_hasCrumbled (ws_ yX5_hasCrumbled cX5_hasCrumbled 2 (some .boolean)) (g_rm 3 0 0) Γ [.ref mo, .int p0] (mG Γ mo ad f a rr ph) (g_oi (fun v ph' => v = (b2i (hasCr (a 5) p0)) ∧ ph' = mG Γ mo ad f a rr ph)) g_no := by
  refine g_start (y := yX5_hasCrumbled) (cc := cX5_hasCrumbled) (maxL := 2) (ret := (some .boolean)) (rm := g_rm 3 0 0) (by decide) (Nat.le_of_ble_eq_true rfl) ?_
  intro p e s m A below meth c ls Q hQ S hr hlk hex hnm hK I hl
  have hx := S.1
  have hb := S.2.1
  have hown := S.2.2.2.1
  have hts := S.2.2.2.2
  have S : CallFix p m c cX5_hasCrumbled 2 s A lw_all "CrumblingWallModel" := S
  have hl : lv_has ls 2 [(0, .ref mo), (1, .int p0)] := hl
  refine lv_aload_n hx hb dX5_hasCrumbled_0 rfl (lv_at hl 0 rfl) ?_
  refine lv_iload_n hx hb dX5_hasCrumbled_1 rfl (lv_at hl 1 rfl) ?_
  refine lv_iconst (v := 4) hx hb dX5_hasCrumbled_2 (by decide) ?_
  refine g_ci (g_runV S hK I (As := [.int p0, .int 4]) (rest := []) (met_X5_ofHold l Γ mo ad f a rr ph p0 4 h0 (vp_lit (by decide))) (cwV 2 hts (lw_V q3064 q3066 qs53 q151 q3067) rfl rfl rfl (by decide +kernel) ⟨Nat.le_of_ble_eq_true rfl, Nat.le_of_ble_eq_true rfl⟩) (g_recv hK I (g_at.of mG_obj) (ci := 4) rfl) rfl hl.1 rfl (Nat.le_of_ble_eq_true rfl) dX5_hasCrumbled_3 ⟨Nat.le_of_ble_eq_true rfl, Nat.le_of_ble_eq_true rfl⟩) I (fun r_3 ph1 H locs hp I => ?_)
  obtain ⟨hp, rfl⟩ := hp
  have hp : r_3 = hX (a 5) p0 4 := hp
  subst hp
  refine lv_aload_n hx hb dX5_hasCrumbled_6 rfl (lv_at hl 0 rfl) ?_
  refine lv_iload_n hx hb dX5_hasCrumbled_7 rfl (lv_at hl 1 rfl) ?_
  refine lv_iconst (v := 3) hx hb dX5_hasCrumbled_8 (by decide) ?_
  refine g_ci (g_runV S hK I (As := [.int p0, .int 3]) (rest := [.int (hX (a 5) p0 4)]) (met_X5_ofHold l Γ mo ad f a rr ph p0 3 h0 (vp_lit (by decide))) (cwV 2 hts (lw_V q3064 q3066 qs53 q151 q3067) rfl rfl rfl (by decide +kernel) ⟨Nat.le_of_ble_eq_true rfl, Nat.le_of_ble_eq_true rfl⟩) (g_recv hK I (g_at.of mG_obj) (ci := 4) rfl) rfl hl.1 rfl (Nat.le_of_ble_eq_true rfl) dX5_hasCrumbled_9 ⟨Nat.le_of_ble_eq_true rfl, Nat.le_of_ble_eq_true rfl⟩) I (fun r_9 ph1 H locs hp I => ?_)
  obtain ⟨hp, rfl⟩ := hp
  have hp : r_9 = hX (a 5) p0 3 := hp
  subst hp
  refine lv_icmp_lt (tgt := 19) hx hb dX5_hasCrumbled_12 (by decide) (fun c_12 => ?_) (fun c_12 => ?_)
  · have n_12 := Int32.not_le.mpr c_12
    refine lv_iconst (v := 0) hx hb dX5_hasCrumbled_19 (by decide) ?_
    exact g_zret S hr hlk I rfl dX5_hasCrumbled_20 (Nat.le_of_ble_eq_true rfl) (Nat.le_of_ble_eq_true rfl) hQ ⟨_, rfl, (ob0 (fun q => absurd c_12 (Int32.not_lt.mpr (of_decide_eq_true q)))), rfl⟩
  · have n_12 := Int32.not_lt.mp c_12
    refine lv_iconst (v := 1) hx hb dX5_hasCrumbled_15 (by decide) ?_
    refine lv_goto (tgt := 20) hx hb dX5_hasCrumbled_16 (by decide) ?_
    exact g_zret S hr hlk I rfl dX5_hasCrumbled_20 (Nat.le_of_ble_eq_true rfl) (Nat.le_of_ble_eq_true rfl) hQ ⟨_, rfl, (ob1 (decide_eq_true (Int32.not_lt.mp c_12))), rfl⟩

set_option maxHeartbeats 4000000 in
set_option maxRecDepth 100000 in
theorem met_X5_place (l : Launch) (Γ : g_C) (mo : Nat) (ad : Nat → Nat) (f : Nat → Int32) (a : Nat → Nat → Int32) (rr : Nat → UInt32) (ph : g_H) (p0 : Int32) (h0 : vp_in p0 2) : g_Met l yX5_place (ws_ yX5_place cX5_place 2 (some .int)) (g_rm 2 0 0) Γ [.ref mo, .int p0] (mG Γ mo ad f a rr ph) (g_oi (fun v ph' => v = (plc (a 5) p0) ∧ ph' = mG Γ mo ad f a rr ph)) g_no := by
  refine g_start (y := yX5_place) (cc := cX5_place) (maxL := 2) (ret := (some .int)) (rm := g_rm 2 0 0) (by decide) (Nat.le_of_ble_eq_true rfl) ?_
  intro p e s m A below meth c ls Q hQ S hr hlk hex hnm hK I hl
  have hx := S.1
  have hb := S.2.1
  have hown := S.2.2.2.1
  have hts := S.2.2.2.2
  have S : CallFix p m c cX5_place 2 s A lw_all "CrumblingWallModel" := S
  have hl : lv_has ls 2 [(0, .ref mo), (1, .int p0)] := hl
  refine lv_aload_n hx hb dX5_place_0 rfl (lv_at hl 0 rfl) ?_
  refine lv_iload_n hx hb dX5_place_1 rfl (lv_at hl 1 rfl) ?_
  refine lv_iconst (v := 0) hx hb dX5_place_2 (by decide) ?_
  refine g_ci (g_runV S hK I (As := [.int p0, .int 0]) (rest := []) (met_X5_ofClimber l Γ mo ad f a rr ph p0 0 (by assumption) (vp_lit (by decide))) (cwV 2 hts (lw_V q3099 q3101 qs60 q151 q3102) rfl rfl rfl (by decide +kernel) ⟨Nat.le_of_ble_eq_true rfl, Nat.le_of_ble_eq_true rfl⟩) (g_recv hK I (g_at.of mG_obj) (ci := 4) rfl) rfl hl.1 rfl (Nat.le_of_ble_eq_true rfl) dX5_place_3 ⟨Nat.le_of_ble_eq_true rfl, Nat.le_of_ble_eq_true rfl⟩) I (fun r_3 ph1 H locs hp I => ?_)
  obtain ⟨hp, rfl⟩ := hp
  have hp : r_3 = cX (a 5) p0 0 := hp
  subst hp
  exact g_iret S hr hlk I dX5_place_6 (Nat.le_of_ble_eq_true rfl) (Nat.le_of_ble_eq_true rfl) hQ ⟨_, rfl, rfl, rfl⟩

set_option maxHeartbeats 4000000 in
set_option maxRecDepth 100000 in
theorem met_X5_distance (l : Launch) (Γ : g_C) (mo : Nat) (ad : Nat → Nat) (f : Nat → Int32) (a : Nat → Nat → Int32) (rr : Nat → UInt32) (ph : g_H) (p0 : Int32) (p1 : Int32) (h0 : p0 = -1 ∨ vp_in p0 20) (h1 : p1 = -1 ∨ vp_in p1 20) : g_Met l yX5_distance (ws_ yX5_distance cX5_distance 3 (some .int)) (g_rm 3 0 0) Γ [.ref mo, .int p0, .int p1] (mG Γ mo ad f a rr ph) (g_oi (fun v ph' => v = (dst (a 5) p0 p1) ∧ ph' = mG Γ mo ad f a rr ph)) g_no := by
  refine g_start (y := yX5_distance) (cc := cX5_distance) (maxL := 3) (ret := (some .int)) (rm := g_rm 3 0 0) (by decide) (Nat.le_of_ble_eq_true rfl) ?_
  intro p e s m A below meth c ls Q hQ S hr hlk hex hnm hK I hl
  have hx := S.1
  have hb := S.2.1
  have hown := S.2.2.2.1
  have hts := S.2.2.2.2
  have S : CallFix p m c cX5_distance 3 s A lw_all "CrumblingWallModel" := S
  have hl : lv_has ls 3 [(0, .ref mo), (1, .int p0), (2, .int p1)] := hl
  refine lv_iload_n hx hb dX5_distance_0 rfl (lv_at hl 1 rfl) ?_
  refine lv_iconst (v := (-1)) hx hb dX5_distance_1 (by decide) ?_
  have J_12_0 : ∀ (H : Heap) (locs : List Loc) (ls : Array Slot), (hn : ¬ (p0 = -1 ∧ p1 = -1)) → g_I Γ (mG Γ mo ad f a rr ph) s H locs → lv_has ls 3 [(0, .ref mo), (1, .int p0), (2, .int p1)] → W p l e (g_rm 3 0 0) s m A below meth c H locs 0 0 Q (F0 m 12 ls []) := by
    intro  H locs ls hn I hl
    refine lv_iload_n hx hb dX5_distance_12 rfl (lv_at hl 1 rfl) ?_
    refine lv_iconst (v := (-1)) hx hb dX5_distance_13 (by decide) ?_
    refine lv_icmp_ne (tgt := 24) hx hb dX5_distance_14 (by decide) (fun c_14 => ?_) (fun c_14 => ?_)
    · refine lv_iload_n hx hb dX5_distance_24 rfl (lv_at hl 2 rfl) ?_
      refine lv_iconst (v := (-1)) hx hb dX5_distance_25 (by decide) ?_
      refine lv_icmp_ne (tgt := 36) hx hb dX5_distance_26 (by decide) (fun c_26 => ?_) (fun c_26 => ?_)
      · refine lv_aload_n hx hb dX5_distance_36 rfl (lv_at hl 0 rfl) ?_
        refine lv_iload_n hx hb dX5_distance_37 rfl (lv_at hl 1 rfl) ?_
        refine lv_iconst (v := 0) hx hb dX5_distance_38 (by decide) ?_
        refine g_ci (g_runV S hK I (As := [.int p0, .int 0]) (rest := []) (met_X5_ofHold l Γ mo ad f a rr ph p0 0 (h0.resolve_left c_14) (vp_lit (by decide))) (cwV 2 hts (lw_V q3064 q3066 qs53 q151 q3067) rfl rfl rfl (by decide +kernel) ⟨Nat.le_of_ble_eq_true rfl, Nat.le_of_ble_eq_true rfl⟩) (g_recv hK I (g_at.of mG_obj) (ci := 4) rfl) rfl hl.1 rfl (Nat.le_of_ble_eq_true rfl) dX5_distance_39 ⟨Nat.le_of_ble_eq_true rfl, Nat.le_of_ble_eq_true rfl⟩) I (fun r_39 ph1 H locs hp I => ?_)
        obtain ⟨hp, rfl⟩ := hp
        have hp : r_39 = hX (a 5) p0 0 := hp
        subst hp
        refine lv_aload_n hx hb dX5_distance_42 rfl (lv_at hl 0 rfl) ?_
        refine lv_iload_n hx hb dX5_distance_43 rfl (lv_at hl 2 rfl) ?_
        refine lv_iconst (v := 0) hx hb dX5_distance_44 (by decide) ?_
        refine g_ci (g_runV S hK I (As := [.int p1, .int 0]) (rest := [.int (hX (a 5) p0 0)]) (met_X5_ofHold l Γ mo ad f a rr ph p1 0 (h1.resolve_left c_26) (vp_lit (by decide))) (cwV 2 hts (lw_V q3064 q3066 qs53 q151 q3067) rfl rfl rfl (by decide +kernel) ⟨Nat.le_of_ble_eq_true rfl, Nat.le_of_ble_eq_true rfl⟩) (g_recv hK I (g_at.of mG_obj) (ci := 4) rfl) rfl hl.1 rfl (Nat.le_of_ble_eq_true rfl) dX5_distance_45 ⟨Nat.le_of_ble_eq_true rfl, Nat.le_of_ble_eq_true rfl⟩) I (fun r_45 ph1 H locs hp I => ?_)
        obtain ⟨hp, rfl⟩ := hp
        have hp : r_45 = hX (a 5) p1 0 := hp
        subst hp
        refine lv_isub hx hb dX5_distance_48 ?_
        refine g_ci (g_runS S hK I (As := [.int ((hX (a 5) p0 0) - (hX (a 5) p1 0))]) (rest := []) (met_X5_size l Γ (mG Γ mo ad f a rr ph) ((hX (a 5) p0 0) - (hX (a 5) p1 0))) (va_cwS 1 hts (lw_S q3111 q3112 q151 q3113) rfl rfl rfl (by decide +kernel) ⟨Nat.le_of_ble_eq_true rfl, Nat.le_of_ble_eq_true rfl⟩) rfl hl.1 rfl (Nat.le_of_ble_eq_true rfl) dX5_distance_49 ⟨Nat.le_of_ble_eq_true rfl, Nat.le_of_ble_eq_true rfl⟩) I (fun r_49 ph1 H locs hp I => ?_)
        obtain ⟨hp, rfl⟩ := hp
        have hp : r_49 = sz ((hX (a 5) p0 0) - (hX (a 5) p1 0)) := hp
        subst hp
        refine lv_aload_n hx hb dX5_distance_52 rfl (lv_at hl 0 rfl) ?_
        refine lv_iload_n hx hb dX5_distance_53 rfl (lv_at hl 1 rfl) ?_
        refine lv_iconst (v := 1) hx hb dX5_distance_54 (by decide) ?_
        refine g_ci (g_runV S hK I (As := [.int p0, .int 1]) (rest := [.int (sz ((hX (a 5) p0 0) - (hX (a 5) p1 0)))]) (met_X5_ofHold l Γ mo ad f a rr ph p0 1 (h0.resolve_left c_14) (vp_lit (by decide))) (cwV 2 hts (lw_V q3064 q3066 qs53 q151 q3067) rfl rfl rfl (by decide +kernel) ⟨Nat.le_of_ble_eq_true rfl, Nat.le_of_ble_eq_true rfl⟩) (g_recv hK I (g_at.of mG_obj) (ci := 4) rfl) rfl hl.1 rfl (Nat.le_of_ble_eq_true rfl) dX5_distance_55 ⟨Nat.le_of_ble_eq_true rfl, Nat.le_of_ble_eq_true rfl⟩) I (fun r_55 ph1 H locs hp I => ?_)
        obtain ⟨hp, rfl⟩ := hp
        have hp : r_55 = hX (a 5) p0 1 := hp
        subst hp
        refine lv_aload_n hx hb dX5_distance_58 rfl (lv_at hl 0 rfl) ?_
        refine lv_iload_n hx hb dX5_distance_59 rfl (lv_at hl 2 rfl) ?_
        refine lv_iconst (v := 1) hx hb dX5_distance_60 (by decide) ?_
        refine g_ci (g_runV S hK I (As := [.int p1, .int 1]) (rest := [.int (hX (a 5) p0 1), .int (sz ((hX (a 5) p0 0) - (hX (a 5) p1 0)))]) (met_X5_ofHold l Γ mo ad f a rr ph p1 1 (h1.resolve_left c_26) (vp_lit (by decide))) (cwV 2 hts (lw_V q3064 q3066 qs53 q151 q3067) rfl rfl rfl (by decide +kernel) ⟨Nat.le_of_ble_eq_true rfl, Nat.le_of_ble_eq_true rfl⟩) (g_recv hK I (g_at.of mG_obj) (ci := 4) rfl) rfl hl.1 rfl (Nat.le_of_ble_eq_true rfl) dX5_distance_61 ⟨Nat.le_of_ble_eq_true rfl, Nat.le_of_ble_eq_true rfl⟩) I (fun r_61 ph1 H locs hp I => ?_)
        obtain ⟨hp, rfl⟩ := hp
        have hp : r_61 = hX (a 5) p1 1 := hp
        subst hp
        refine lv_isub hx hb dX5_distance_64 ?_
        refine g_ci (g_runS S hK I (As := [.int ((hX (a 5) p0 1) - (hX (a 5) p1 1))]) (rest := [.int (sz ((hX (a 5) p0 0) - (hX (a 5) p1 0)))]) (met_X5_size l Γ (mG Γ mo ad f a rr ph) ((hX (a 5) p0 1) - (hX (a 5) p1 1))) (va_cwS 1 hts (lw_S q3111 q3112 q151 q3113) rfl rfl rfl (by decide +kernel) ⟨Nat.le_of_ble_eq_true rfl, Nat.le_of_ble_eq_true rfl⟩) rfl hl.1 rfl (Nat.le_of_ble_eq_true rfl) dX5_distance_65 ⟨Nat.le_of_ble_eq_true rfl, Nat.le_of_ble_eq_true rfl⟩) I (fun r_65 ph1 H locs hp I => ?_)
        obtain ⟨hp, rfl⟩ := hp
        have hp : r_65 = sz ((hX (a 5) p0 1) - (hX (a 5) p1 1)) := hp
        subst hp
        refine lv_iadd hx hb dX5_distance_68 ?_
        exact g_iret S hr hlk I dX5_distance_69 (Nat.le_of_ble_eq_true rfl) (Nat.le_of_ble_eq_true rfl) hQ ⟨_, rfl, (by (try simp [dst, hX, hn, c_14, c_26])), rfl⟩
      · refine lv_aload_n hx hb dX5_distance_29 rfl (lv_at hl 0 rfl) ?_
        refine lv_iload_n hx hb dX5_distance_30 rfl (lv_at hl 1 rfl) ?_
        refine lv_iconst (v := 1) hx hb dX5_distance_31 (by decide) ?_
        refine g_ci (g_runV S hK I (As := [.int p0, .int 1]) (rest := []) (met_X5_ofHold l Γ mo ad f a rr ph p0 1 (h0.resolve_left c_14) (vp_lit (by decide))) (cwV 2 hts (lw_V q3064 q3066 qs53 q151 q3067) rfl rfl rfl (by decide +kernel) ⟨Nat.le_of_ble_eq_true rfl, Nat.le_of_ble_eq_true rfl⟩) (g_recv hK I (g_at.of mG_obj) (ci := 4) rfl) rfl hl.1 rfl (Nat.le_of_ble_eq_true rfl) dX5_distance_32 ⟨Nat.le_of_ble_eq_true rfl, Nat.le_of_ble_eq_true rfl⟩) I (fun r_32 ph1 H locs hp I => ?_)
        obtain ⟨hp, rfl⟩ := hp
        have hp : r_32 = hX (a 5) p0 1 := hp
        subst hp
        exact g_iret S hr hlk I dX5_distance_35 (Nat.le_of_ble_eq_true rfl) (Nat.le_of_ble_eq_true rfl) hQ ⟨_, rfl, (by (try simp [dst, hX, hn, c_14, c_26])), rfl⟩
    · refine lv_aload_n hx hb dX5_distance_17 rfl (lv_at hl 0 rfl) ?_
      refine lv_iload_n hx hb dX5_distance_18 rfl (lv_at hl 2 rfl) ?_
      refine lv_iconst (v := 1) hx hb dX5_distance_19 (by decide) ?_
      refine g_ci (g_runV S hK I (As := [.int p1, .int 1]) (rest := []) (met_X5_ofHold l Γ mo ad f a rr ph p1 1 (h1.resolve_left (fun q => hn ⟨c_14, q⟩)) (vp_lit (by decide))) (cwV 2 hts (lw_V q3064 q3066 qs53 q151 q3067) rfl rfl rfl (by decide +kernel) ⟨Nat.le_of_ble_eq_true rfl, Nat.le_of_ble_eq_true rfl⟩) (g_recv hK I (g_at.of mG_obj) (ci := 4) rfl) rfl hl.1 rfl (Nat.le_of_ble_eq_true rfl) dX5_distance_20 ⟨Nat.le_of_ble_eq_true rfl, Nat.le_of_ble_eq_true rfl⟩) I (fun r_20 ph1 H locs hp I => ?_)
      obtain ⟨hp, rfl⟩ := hp
      have hp : r_20 = hX (a 5) p1 1 := hp
      subst hp
      exact g_iret S hr hlk I dX5_distance_23 (Nat.le_of_ble_eq_true rfl) (Nat.le_of_ble_eq_true rfl) hQ ⟨_, rfl, (by simp [dst, c_14, show ¬ p1 = -1 from fun q => hn ⟨c_14, q⟩]), rfl⟩
  refine lv_icmp_ne (tgt := 12) hx hb dX5_distance_2 (by decide) (fun c_2 => ?_) (fun c_2 => ?_)
  · exact J_12_0  _ _ _ (fun q => absurd q.1 c_2) I (lv_sub hl [0, 1, 2] rfl)
  · refine lv_iload_n hx hb dX5_distance_5 rfl (lv_at hl 2 rfl) ?_
    refine lv_iconst (v := (-1)) hx hb dX5_distance_6 (by decide) ?_
    refine lv_icmp_ne (tgt := 12) hx hb dX5_distance_7 (by decide) (fun c_7 => ?_) (fun c_7 => ?_)
    · exact J_12_0  _ _ _ (fun q => absurd q.2 c_7) I (lv_sub hl [0, 1, 2] rfl)
    · refine lv_iconst (v := 0) hx hb dX5_distance_10 (by decide) ?_
      exact g_iret S hr hlk I dX5_distance_11 (Nat.le_of_ble_eq_true rfl) (Nat.le_of_ble_eq_true rfl) hQ ⟨_, rfl, (by (try simp [dst, hX, c_2, c_7])), rfl⟩

set_option maxHeartbeats 4000000 in
set_option maxRecDepth 100000 in
theorem met_X5_lampPlace (l : Launch) (Γ : g_C) (mo : Nat) (ad : Nat → Nat) (f : Nat → Int32) (a : Nat → Nat → Int32) (rr : Nat → UInt32) (ph : g_H) (p0 : Int32) (hw : WF (a 5)) (h0 : vp_in p0 (nLa (a 5))) : g_Met l yX5_lampPlace (ws_ yX5_lampPlace cX5_lampPlace 2 (some .int)) (g_rm 3 0 0) Γ [.ref mo, .int p0] (mG Γ mo ad f a rr ph) (g_oi (fun v ph' => v = (lPl (a 5) p0) ∧ ph' = mG Γ mo ad f a rr ph)) g_no := by
  refine g_start (y := yX5_lampPlace) (cc := cX5_lampPlace) (maxL := 2) (ret := (some .int)) (rm := g_rm 3 0 0) (by decide) (Nat.le_of_ble_eq_true rfl) ?_
  intro p e s m A below meth c ls Q hQ S hr hlk hex hnm hK I hl
  have hx := S.1
  have hb := S.2.1
  have hown := S.2.2.2.1
  have hts := S.2.2.2.2
  have S : CallFix p m c cX5_lampPlace 2 s A lw_all "CrumblingWallModel" := S
  have hl : lv_has ls 2 [(0, .ref mo), (1, .int p0)] := hl
  refine lv_aload_n hx hb dX5_lampPlace_0 rfl (lv_at hl 0 rfl) ?_
  refine lv_iload_n hx hb dX5_lampPlace_1 rfl (lv_at hl 1 rfl) ?_
  refine lv_iconst (v := 1) hx hb dX5_lampPlace_2 (by decide) ?_
  refine g_ci (g_runV S hK I (As := [.int p0, .int 1]) (rest := []) (met_X5_ofLamp l Γ mo ad f a rr ph p0 1 (hw.l4 (by assumption)) (vp_lit (by decide))) (cwV 2 hts (lw_V q3130 q3132 qs66 q151 q3133) rfl rfl rfl (by decide +kernel) ⟨Nat.le_of_ble_eq_true rfl, Nat.le_of_ble_eq_true rfl⟩) (g_recv hK I (g_at.of mG_obj) (ci := 4) rfl) rfl hl.1 rfl (Nat.le_of_ble_eq_true rfl) dX5_lampPlace_3 ⟨Nat.le_of_ble_eq_true rfl, Nat.le_of_ble_eq_true rfl⟩) I (fun r_3 ph1 H locs hp I => ?_)
  obtain ⟨hp, rfl⟩ := hp
  have hp : r_3 = lX (a 5) p0 1 := hp
  subst hp
  refine lv_if_lt (tgt := 22) hx hb dX5_lampPlace_6 (by decide) (fun c_6 => ?_) (fun c_6 => ?_)
  · have n_6 := Int32.not_le.mpr c_6
    refine lv_aload_n hx hb dX5_lampPlace_22 rfl (lv_at hl 0 rfl) ?_
    refine lv_iload_n hx hb dX5_lampPlace_23 rfl (lv_at hl 1 rfl) ?_
    refine lv_iconst (v := 0) hx hb dX5_lampPlace_24 (by decide) ?_
    refine g_ci (g_runV S hK I (As := [.int p0, .int 0]) (rest := []) (met_X5_ofLamp l Γ mo ad f a rr ph p0 0 (hw.l4 (by assumption)) (vp_lit (by decide))) (cwV 2 hts (lw_V q3130 q3132 qs66 q151 q3133) rfl rfl rfl (by decide +kernel) ⟨Nat.le_of_ble_eq_true rfl, Nat.le_of_ble_eq_true rfl⟩) (g_recv hK I (g_at.of mG_obj) (ci := 4) rfl) rfl hl.1 rfl (Nat.le_of_ble_eq_true rfl) dX5_lampPlace_25 ⟨Nat.le_of_ble_eq_true rfl, Nat.le_of_ble_eq_true rfl⟩) I (fun r_25 ph1 H locs hp I => ?_)
    obtain ⟨hp, rfl⟩ := hp
    have hp : r_25 = lX (a 5) p0 0 := hp
    subst hp
    exact g_iret S hr hlk I dX5_lampPlace_28 (Nat.le_of_ble_eq_true rfl) (Nat.le_of_ble_eq_true rfl) hQ ⟨_, rfl, (by unfold lPl; first | exact (if_pos (Int32.not_lt.mp c_6)).symm | exact (if_neg (Int32.not_le.mpr c_6)).symm), rfl⟩
  · have n_6 := Int32.not_lt.mp c_6
    refine lv_aload_n hx hb dX5_lampPlace_9 rfl (lv_at hl 0 rfl) ?_
    refine lv_aload_n hx hb dX5_lampPlace_10 rfl (lv_at hl 0 rfl) ?_
    refine lv_iload_n hx hb dX5_lampPlace_11 rfl (lv_at hl 1 rfl) ?_
    refine lv_iconst (v := 1) hx hb dX5_lampPlace_12 (by decide) ?_
    refine g_ci (g_runV S hK I (As := [.int p0, .int 1]) (rest := [.ref mo]) (met_X5_ofLamp l Γ mo ad f a rr ph p0 1 (hw.l4 (by assumption)) (vp_lit (by decide))) (cwV 2 hts (lw_V q3130 q3132 qs66 q151 q3133) rfl rfl rfl (by decide +kernel) ⟨Nat.le_of_ble_eq_true rfl, Nat.le_of_ble_eq_true rfl⟩) (g_recv hK I (g_at.of mG_obj) (ci := 4) rfl) rfl hl.1 rfl (Nat.le_of_ble_eq_true rfl) dX5_lampPlace_13 ⟨Nat.le_of_ble_eq_true rfl, Nat.le_of_ble_eq_true rfl⟩) I (fun r_13 ph1 H locs hp I => ?_)
    obtain ⟨hp, rfl⟩ := hp
    have hp : r_13 = lX (a 5) p0 1 := hp
    subst hp
    refine g_ci (g_runV S hK I (As := [.int (lX (a 5) p0 1)]) (rest := []) (met_X5_place l Γ mo ad f a rr ph (lX (a 5) p0 1) (lp_c hw h0 (Int32.not_lt.mp c_6))) (cwV 1 hts (lw_V q3095 q3097 qs59 q151 q3098) rfl rfl rfl (by decide +kernel) ⟨Nat.le_of_ble_eq_true rfl, Nat.le_of_ble_eq_true rfl⟩) (g_recv hK I (g_at.of mG_obj) (ci := 4) rfl) rfl hl.1 rfl (Nat.le_of_ble_eq_true rfl) dX5_lampPlace_16 ⟨Nat.le_of_ble_eq_true rfl, Nat.le_of_ble_eq_true rfl⟩) I (fun r_16 ph1 H locs hp I => ?_)
    obtain ⟨hp, rfl⟩ := hp
    have hp : r_16 = plc (a 5) (lX (a 5) p0 1) := hp
    subst hp
    refine lv_goto (tgt := 28) hx hb dX5_lampPlace_19 (by decide) ?_
    exact g_iret S hr hlk I dX5_lampPlace_28 (Nat.le_of_ble_eq_true rfl) (Nat.le_of_ble_eq_true rfl) hQ ⟨_, rfl, (by unfold lPl; first | exact (if_pos (Int32.not_lt.mp c_6)).symm | exact (if_neg (Int32.not_le.mpr c_6)).symm), rfl⟩

set_option maxHeartbeats 4000000 in
set_option maxRecDepth 100000 in
theorem met_X5_isBright (l : Launch) (Γ : g_C) (mo : Nat) (ad : Nat → Nat) (f : Nat → Int32) (a : Nat → Nat → Int32) (rr : Nat → UInt32) (ph : g_H) (p0 : Int32) (hw : WF (a 5)) (h0 : vp_in p0 20) : g_Met l yX5_isBright (ws_ yX5_isBright cX5_isBright 4 (some .boolean)) (g_rm 4 0 0) Γ [.ref mo, .int p0] (mG Γ mo ad f a rr ph) (g_oi (fun v ph' => v = (b2i (isBr (a 5) p0)) ∧ ph' = mG Γ mo ad f a rr ph)) g_no := by
  refine g_start (y := yX5_isBright) (cc := cX5_isBright) (maxL := 4) (ret := (some .boolean)) (rm := g_rm 4 0 0) (by decide) (Nat.le_of_ble_eq_true rfl) ?_
  intro p e s m A below meth c ls Q hQ S hr hlk hex hnm hK I hl
  have hx := S.1
  have hb := S.2.1
  have hown := S.2.2.2.1
  have hts := S.2.2.2.2
  have S : CallFix p m c cX5_isBright 4 s A lw_all "CrumblingWallModel" := S
  have hl : lv_has ls 4 [(0, .ref mo), (1, .int p0)] := hl
  refine lv_aload_n hx hb dX5_isBright_0 rfl (lv_at hl 0 rfl) ?_
  refine lv_iload_n hx hb dX5_isBright_1 rfl (lv_at hl 1 rfl) ?_
  refine lv_iconst (v := 1) hx hb dX5_isBright_2 (by decide) ?_
  refine g_ci (g_runV S hK I (As := [.int p0, .int 1]) (rest := []) (met_X5_ofHold l Γ mo ad f a rr ph p0 1 h0 (vp_lit (by decide))) (cwV 2 hts (lw_V q3064 q3066 qs53 q151 q3067) rfl rfl rfl (by decide +kernel) ⟨Nat.le_of_ble_eq_true rfl, Nat.le_of_ble_eq_true rfl⟩) (g_recv hK I (g_at.of mG_obj) (ci := 4) rfl) rfl hl.1 rfl (Nat.le_of_ble_eq_true rfl) dX5_isBright_3 ⟨Nat.le_of_ble_eq_true rfl, Nat.le_of_ble_eq_true rfl⟩) I (fun r_3 ph1 H locs hp I => ?_)
  obtain ⟨hp, rfl⟩ := hp
  have hp : r_3 = hX (a 5) p0 1 := hp
  subst hp
  refine lv_aload_n hx hb dX5_isBright_6 rfl (lv_at hl 0 rfl) ?_
  refine g_get S hK I k_X5 (v := .ref (ad 5)) (g_at.of mG_obj) 5 (by decide) q2957 rfl rfl dX5_isBright_7 ?_
  refine lv_bipush (v := 102) hx hb dX5_isBright_10 (by decide) ?_
  refine m_iald S hK I (f := (a 5)) (k := 102) (g_at.of mG_5) (vp_lit (by decide)) (by decide) dX5_isBright_12 ?_
  have J_21_0 : ∀ (x1 : Int32) (H : Heap) (locs : List Loc) (ls : Array Slot), (hx1 : x1 = b2i (decide (hX (a 5) p0 1 < (a 5) 102))) → g_I Γ (mG Γ mo ad f a rr ph) s H locs → lv_has ls 4 [(0, .ref mo), (1, .int p0)] → W p l e (g_rm 4 0 0) s m A below meth c H locs 0 0 Q (F0 m 21 ls [.int x1]) := by
    intro x1 H locs ls hx1 I hl
    subst hx1
    refine lv_istore_n (lv' := [(2, .int (b2i (decide (hX (a 5) p0 1 < (a 5) 102)))), (0, .ref mo), (1, .int p0)]) hx hb dX5_isBright_21 rfl hl (by decide) rfl (fun ls hl => ?_)
    refine lv_iconst (v := 0) hx hb dX5_isBright_22 (by decide) ?_
    refine lv_istore_n (lv' := [(3, .int 0), (2, .int (b2i (decide (hX (a 5) p0 1 < (a 5) 102)))), (0, .ref mo), (1, .int p0)]) hx hb dX5_isBright_23 rfl hl (by decide) rfl (fun ls hl => ?_)
    have L_24 : ∀ (d : Nat) (k : Nat), (hk : k ≤ nLa (a 5)) → nLa (a 5) - k < d → ∀ (H : Heap) (locs : List Loc) (ls : Array Slot), g_I Γ (mG Γ mo ad f a rr ph) s H locs → lv_has ls 4 [(0, .ref mo), (1, .int p0), (2, .int (b2i (anyN k (litK (a 5) p0) || decide (hX (a 5) p0 1 < (a 5) 102)))), (3, .int (nI k))] → W p l e (g_rm 4 0 0) s m A below meth c H locs 0 0 Q (F0 m 24 ls []) := by
      intro d
      induction d with
      | zero => intro k hk hd; exact absurd hd (Nat.not_lt_zero _)
      | succ d ih =>
        intro k hk hd H locs ls I hl
        refine lv_iload_n hx hb dX5_isBright_24 rfl (lv_at hl 3 rfl) ?_
        refine lv_aload_n hx hb dX5_isBright_25 rfl (lv_at hl 0 rfl) ?_
        refine g_get S hK I k_X5 (v := .ref (ad 5)) (g_at.of mG_obj) 5 (by decide) q2957 rfl rfl dX5_isBright_26 ?_
        refine lv_bipush (v := 104) hx hb dX5_isBright_29 (by decide) ?_
        refine m_iald S hK I (f := (a 5)) (k := 104) (g_at.of mG_5) (vp_lit (by decide)) (by decide) dX5_isBright_31 ?_
        refine lv_icmp_ge (tgt := 78) hx hb dX5_isBright_32 (by decide) (fun c_32 => ?_) (fun c_32 => ?_)
        · have n_32 := Int32.not_lt.mpr c_32
          obtain rfl : k = nLa (a 5) := k_ge hw.2.1.1 (wf_le4 hw) hk c_32
          refine lv_iload_n hx hb dX5_isBright_78 rfl (lv_at hl 2 rfl) ?_
          exact g_zret S hr hlk I (b2i_nar _) dX5_isBright_79 (Nat.le_of_ble_eq_true rfl) (Nat.le_of_ble_eq_true rfl) hQ ⟨_, rfl, rfl, rfl⟩
        · have n_32 := Int32.not_le.mp c_32
          have hkl : k < nLa (a 5) := k_lt hw.2.1.1 (wf_le4 hw) hk c_32
          have hkv : vp_in (nI k) (nLa (a 5)) := vp_k hkl (Nat.le_refl _) (Nat.lt_of_le_of_lt hw.2.1.2 (by decide))
          refine lv_iload_n hx hb dX5_isBright_35 rfl (lv_at hl 2 rfl) ?_
          refine lv_aload_n hx hb dX5_isBright_36 rfl (lv_at hl 0 rfl) ?_
          refine lv_iload_n hx hb dX5_isBright_37 rfl (lv_at hl 3 rfl) ?_
          refine lv_iconst (v := 4) hx hb dX5_isBright_38 (by decide) ?_
          refine g_ci (g_runV S hK I (As := [.int (nI k), .int 4]) (rest := [.int (b2i (anyN k (litK (a 5) p0) || decide (hX (a 5) p0 1 < (a 5) 102)))]) (met_X5_ofLamp l Γ mo ad f a rr ph (nI k) 4 (hw.l4 hkv) (vp_lit (by decide))) (cwV 2 hts (lw_V q3130 q3132 qs66 q151 q3133) rfl rfl rfl (by decide +kernel) ⟨Nat.le_of_ble_eq_true rfl, Nat.le_of_ble_eq_true rfl⟩) (g_recv hK I (g_at.of mG_obj) (ci := 4) rfl) rfl hl.1 rfl (Nat.le_of_ble_eq_true rfl) dX5_isBright_39 ⟨Nat.le_of_ble_eq_true rfl, Nat.le_of_ble_eq_true rfl⟩) I (fun r_39 ph1 H locs hp I => ?_)
          obtain ⟨hp, rfl⟩ := hp
          have hp : r_39 = lX (a 5) (nI k) 4 := hp
          subst hp
          refine lv_iconst (v := 1) hx hb dX5_isBright_42 (by decide) ?_
          have J_70_1 : ∀ (x2 : Int32) (H : Heap) (locs : List Loc) (ls : Array Slot), (hx2 : x2 = b2i (litK (a 5) p0 k)) → g_I Γ (mG Γ mo ad f a rr ph) s H locs → lv_has ls 4 [(0, .ref mo), (1, .int p0), (2, .int (b2i (anyN k (litK (a 5) p0) || decide (hX (a 5) p0 1 < (a 5) 102)))), (3, .int (nI k))] → W p l e (g_rm 4 0 0) s m A below meth c H locs 0 0 Q (F0 m 70 ls [.int x2, .int (b2i (anyN k (litK (a 5) p0) || decide (hX (a 5) p0 1 < (a 5) 102)))]) := by
            intro x2 H locs ls hx2 I hl
            subst hx2
            refine lv_ior hx hb dX5_isBright_70 ?_
            rw [b2i_or, Bool.or_right_comm]
            refine lv_istore_n (lv' := [(2, .int (b2i ((anyN k (litK (a 5) p0) || litK (a 5) p0 k) || decide (hX (a 5) p0 1 < (a 5) 102)))), (0, .ref mo), (1, .int p0), (3, .int (nI k))]) hx hb dX5_isBright_71 rfl hl (by decide) rfl (fun ls hl => ?_)
            refine lv_iinc (v := nI (k + 1)) (lv' := [(3, .int (nI (k + 1))), (2, .int (b2i ((anyN k (litK (a 5) p0) || litK (a 5) p0 k) || decide (hX (a 5) p0 1 < (a 5) 102)))), (0, .ref mo), (1, .int p0)]) hx hb dX5_isBright_72 hl (k := 3) rfl (nI_1 k) (by decide) rfl (fun ls hl => ?_)
            refine lv_goto (tgt := 24) hx hb dX5_isBright_75 (by decide) ?_
            exact ih (k + 1) hkl (by omega) _ _ _ I (lv_sub hl [2, 3, 1, 0] rfl)
          refine lv_icmp_ne (tgt := 69) hx hb dX5_isBright_43 (by decide) (fun c_43 => ?_) (fun c_43 => ?_)
          · refine lv_iconst (v := 0) hx hb dX5_isBright_69 (by decide) ?_
            exact J_70_1 0 _ _ _ (by simp [b2i, litK, nI_clamp, c_43]) I (lv_sub hl [0, 1, 2, 3] rfl)
          · refine lv_aload_n hx hb dX5_isBright_46 rfl (lv_at hl 0 rfl) ?_
            refine lv_aload_n hx hb dX5_isBright_47 rfl (lv_at hl 0 rfl) ?_
            refine lv_iload_n hx hb dX5_isBright_48 rfl (lv_at hl 3 rfl) ?_
            refine g_ci (g_runV S hK I (As := [.int (nI k)]) (rest := [.ref mo, .int (b2i (anyN k (litK (a 5) p0) || decide (hX (a 5) p0 1 < (a 5) 102)))]) (met_X5_lampPlace l Γ mo ad f a rr ph (nI k) hw hkv) (cwV 1 hts (lw_V q3137 q3139 qs67 q151 q3140) rfl rfl rfl (by decide +kernel) ⟨Nat.le_of_ble_eq_true rfl, Nat.le_of_ble_eq_true rfl⟩) (g_recv hK I (g_at.of mG_obj) (ci := 4) rfl) rfl hl.1 rfl (Nat.le_of_ble_eq_true rfl) dX5_isBright_49 ⟨Nat.le_of_ble_eq_true rfl, Nat.le_of_ble_eq_true rfl⟩) I (fun r_49 ph1 H locs hp I => ?_)
            obtain ⟨hp, rfl⟩ := hp
            have hp : r_49 = lPl (a 5) (nI k) := hp
            subst hp
            refine lv_iload_n hx hb dX5_isBright_52 rfl (lv_at hl 1 rfl) ?_
            refine g_ci (g_runV S hK I (As := [.int (lPl (a 5) (nI k)), .int p0]) (rest := [.int (b2i (anyN k (litK (a 5) p0) || decide (hX (a 5) p0 1 < (a 5) 102)))]) (met_X5_distance l Γ mo ad f a rr ph (lPl (a 5) (nI k)) p0 (br_isPl hw (hw.lpl hkv)) (Or.inr h0)) (cwV 2 hts (lw_V q3107 q3109 qs62 q151 q3110) rfl rfl rfl (by decide +kernel) ⟨Nat.le_of_ble_eq_true rfl, Nat.le_of_ble_eq_true rfl⟩) (g_recv hK I (g_at.of mG_obj) (ci := 4) rfl) rfl hl.1 rfl (Nat.le_of_ble_eq_true rfl) dX5_isBright_53 ⟨Nat.le_of_ble_eq_true rfl, Nat.le_of_ble_eq_true rfl⟩) I (fun r_53 ph1 H locs hp I => ?_)
            obtain ⟨hp, rfl⟩ := hp
            have hp : r_53 = dst (a 5) (lPl (a 5) (nI k)) p0 := hp
            subst hp
            refine lv_aload_n hx hb dX5_isBright_56 rfl (lv_at hl 0 rfl) ?_
            refine lv_iload_n hx hb dX5_isBright_57 rfl (lv_at hl 3 rfl) ?_
            refine lv_iconst (v := 2) hx hb dX5_isBright_58 (by decide) ?_
            refine g_ci (g_runV S hK I (As := [.int (nI k), .int 2]) (rest := [.int (dst (a 5) (lPl (a 5) (nI k)) p0), .int (b2i (anyN k (litK (a 5) p0) || decide (hX (a 5) p0 1 < (a 5) 102)))]) (met_X5_ofLamp l Γ mo ad f a rr ph (nI k) 2 (hw.l4 hkv) (vp_lit (by decide))) (cwV 2 hts (lw_V q3130 q3132 qs66 q151 q3133) rfl rfl rfl (by decide +kernel) ⟨Nat.le_of_ble_eq_true rfl, Nat.le_of_ble_eq_true rfl⟩) (g_recv hK I (g_at.of mG_obj) (ci := 4) rfl) rfl hl.1 rfl (Nat.le_of_ble_eq_true rfl) dX5_isBright_59 ⟨Nat.le_of_ble_eq_true rfl, Nat.le_of_ble_eq_true rfl⟩) I (fun r_59 ph1 H locs hp I => ?_)
            obtain ⟨hp, rfl⟩ := hp
            have hp : r_59 = lX (a 5) (nI k) 2 := hp
            subst hp
            refine lv_icmp_gt (tgt := 69) hx hb dX5_isBright_62 (by decide) (fun c_62 => ?_) (fun c_62 => ?_)
            · have n_62 := Int32.not_le.mpr c_62
              refine lv_iconst (v := 0) hx hb dX5_isBright_69 (by decide) ?_
              exact J_70_1 0 _ _ _ (by simp [b2i, litK, nI_clamp, c_43, c_62]) I (lv_sub hl [0, 1, 2, 3] rfl)
            · have n_62 := Int32.not_lt.mp c_62
              refine lv_iconst (v := 1) hx hb dX5_isBright_65 (by decide) ?_
              refine lv_goto (tgt := 70) hx hb dX5_isBright_66 (by decide) ?_
              exact J_70_1 1 _ _ _ (by simp [b2i, litK, nI_clamp, c_43, c_62]) I (lv_sub hl [0, 1, 2, 3] rfl)
    exact L_24 _ 0 (Nat.zero_le _) (Nat.lt_succ_self _) _ _ _ I (lv_sub hl [2, 3, 1, 0] rfl)
  refine lv_icmp_ge (tgt := 20) hx hb dX5_isBright_13 (by decide) (fun c_13 => ?_) (fun c_13 => ?_)
  · have n_13 := Int32.not_lt.mpr c_13
    refine lv_iconst (v := 0) hx hb dX5_isBright_20 (by decide) ?_
    exact J_21_0 0 _ _ _ (by simp [b2i, c_13]) I (lv_sub hl [0, 1] rfl)
  · have n_13 := Int32.not_le.mp c_13
    refine lv_iconst (v := 1) hx hb dX5_isBright_16 (by decide) ?_
    refine lv_goto (tgt := 21) hx hb dX5_isBright_17 (by decide) ?_
    exact J_21_0 1 _ _ _ (by simp [b2i, c_13]) I (lv_sub hl [0, 1] rfl)


/-! THE WALL: lists, readers -/
set_option maxRecDepth 100000
theorem met_w_get1 (l : Launch) (Γ : g_C) (ph : g_H) (i : Nat) (ad na : Nat → Nat) (mc : Nat → Int32) (w : m_w) (hW : g_Wl Γ ph i ad na mc w) (hw : WF w) (k : Nat) (hk : k < nN w) : g_Met l yJ7_get (ws_ yJ7_get cJ7_get 2 (some (.object "java/lang/Object"))) (g_rm 3 0 0) Γ [.ref (ad 1), .int (nI k)] ph (g_or (fun rv_ ph' => rv_ = ad (30 + k) ∧ ph' = ph)) g_no := by
  have h20 := hw.1.2
  exact met_J7_get l Γ ph 101 i (ad 1) 102 i (ad 2) (mc 1) (nI k) (w 0) 20 (rfs (nN w) (fun k => ad (30 + k))) (ad (30 + k)) hW.o1 hW.o2 (Int32.not_lt.mpr (nI_nn (by omega))) (by rw [hw.1.1]; exact (nI_ltI (by omega) (by omega)).mpr hk) (vp_in_nI (by omega) (by decide)) (by rw [nI_clamp (by omega)]; exact if_pos hk)
theorem met_w_get3 (l : Launch) (Γ : g_C) (ph : g_H) (i : Nat) (ad na : Nat → Nat) (mc : Nat → Int32) (w : m_w) (hW : g_Wl Γ ph i ad na mc w) (hw : WF w) (k : Nat) (hk : k < nLa w) : g_Met l yJ7_get (ws_ yJ7_get cJ7_get 2 (some (.object "java/lang/Object"))) (g_rm 3 0 0) Γ [.ref (ad 3), .int (nI k)] ph (g_or (fun rv_ ph' => rv_ = ad (20 + k) ∧ ph' = ph)) g_no := by
  have h20 := hw.2.1.2
  exact met_J7_get l Γ ph 103 i (ad 3) 104 i (ad 4) (mc 2) (nI k) (w 104) 4 (rfs (nLa w) (fun k => ad (20 + k))) (ad (20 + k)) hW.o3 hW.o4 (Int32.not_lt.mpr (nI_nn (by omega))) (by rw [hw.2.1.1]; exact (nI_ltI (by omega) (by omega)).mpr hk) (vp_in_nI (by omega) (by decide)) (by rw [nI_clamp (by omega)]; exact if_pos hk)
theorem okC {c : Int32} (hc : vp_in c 2) : c.toNatClampNeg < 2 ∧ nI c.toNatClampNeg = c := by
  obtain ⟨j, h1, h2, h3⟩ := vp_j hc (by decide)
  rw [h3]; exact ⟨h1, h2.symm⟩
theorem okHx {w : m_w} {p : Int32} (hw : WF w) (h : vp_in p (nN w)) : p.toNatClampNeg < nN w ∧ nI p.toNatClampNeg = p := by
  obtain ⟨j, h1, h2, h3⟩ := vp_j h (Nat.lt_of_le_of_lt hw.1.2 (by decide))
  rw [h3]; exact ⟨h1, h2.symm⟩
theorem okLx {w : m_w} {p : Int32} (hw : WF w) (h : vp_in p (nLa w)) : p.toNatClampNeg < nLa w ∧ nI p.toNatClampNeg = p := by
  obtain ⟨j, h1, h2, h3⟩ := vp_j h (Nat.lt_of_le_of_lt hw.2.1.2 (by decide))
  rw [h3]; exact ⟨h1, h2.symm⟩
theorem laCar {w : m_w} (hw : WF w) {k : Nat} (hk : k < nLa w) : w (105 + 5 * k + 1) = -1 ∨ w (105 + 5 * k + 1) = 0 ∨ w (105 + 5 * k + 1) = 1 := (hw.2.2.2.2.2.2.1 k hk).2.1
theorem laNC {x : Int32} (h : x = -1 ∨ x = 0 ∨ x = 1) : x < 0 ↔ x = -1 := by
  rcases h with rfl | rfl | rfl <;> decide
theorem laNC' {x : Int32} (h : x = -1 ∨ x = 0 ∨ x = 1) : 0 ≤ x ↔ ¬ x = -1 := by
  rcases h with rfl | rfl | rfl <;> decide
theorem lX_kk {w : m_w} {k t : Nat} (hk : k < 2 ^ 31) : lX w (nI k) t = w (105 + 5 * k + t) := by unfold lX; rw [nI_clamp hk]
theorem hX_k {w : m_w} {k t : Nat} (hk : k < 2 ^ 31) : hX w (nI k) t = w (1 + 5 * k + t) := by unfold hX; rw [nI_clamp hk]
theorem bt1 {c : Bool} (h : c = true) : (1 : Int32) = b2i c := by rw [h]; rfl
theorem bt0 {c : Bool} (h : c = false) : (0 : Int32) = b2i c := by rw [h]; rfl
set_option maxHeartbeats 4000000 in
set_option maxRecDepth 100000 in
theorem met_X2_climber (l : Launch) (Γ : g_C) (htr : l.stackTraces = false) (ph : g_H) (i : Nat) (ad na : Nat → Nat) (mc : Nat → Int32) (w : m_w) (c : Int32)  (hW : g_Wl Γ ph i ad na mc w) (hw : WF w) (hc : vp_in c 2) : g_Met l yX2_climber (ws_ yX2_climber cX2_climber 2 (some (.object "CrumblingWall$Climber"))) (g_rm 2 0 0) Γ [.ref (ad 0), .int c] ph (g_or (fun rv_ ph' => rv_ = (ad (10 + c.toNatClampNeg)) ∧ ph' = ph)) g_no := by
  refine g_start (y := yX2_climber) (cc := cX2_climber) (maxL := 2) (ret := (some (.object "CrumblingWall$Climber"))) (rm := g_rm 2 0 0) (by decide) (Nat.le_of_ble_eq_true rfl) ?_
  intro pg e s m A below meth cd ls Q hQ S hr hlk hex hnm hK I hl
  have hx := S.1
  have hb := S.2.1
  have hown := S.2.2.2.1
  have hts := S.2.2.2.2
  have S : CallFix pg m cd cX2_climber 2 s A lw_all "CrumblingWall$Wall" := S
  have hl : lv_has ls 2 [(0, .ref (ad 0)), (1, .int c)] := hl
  have hwc := hw.1; have hwl := hw.2.1; have hwa := hw.2.2.1
  have hc2 := (okC hc).1
  have hcc : c = 0 ∨ c = 1 := by obtain ⟨j, h1, h2, -⟩ := vp_j hc (by decide); rcases (show j = 0 ∨ j = 1 by omega) with rfl | rfl; exact Or.inl h2; exact Or.inr h2
  refine lv_aload_n hx hb dX2_climber_0 rfl (lv_at hl 0 rfl) ?_
  refine g_get S hK I k_X2 (v := .ref (ad 6)) (g_at.of hW.o0) 3 (by decide) q650 rfl rfl dX2_climber_1 ?_
  refine lv_iload_n hx hb dX2_climber_4 rfl (lv_at hl 1 rfl) ?_
  have hne : ad 11 ≠ g_c Γ 257 := fun z => by have h1 := I.1.ge (hW.cl (c := 1) (by decide)); have h2 := hK.2.2.2.2.2.2.2 257 (Nat.le_refl _); rw [show ad (10 + 1) = ad 11 from rfl, z] at h1; omega
  refine g_cFr (g_runF S hK I (As := [.int c]) (rest := []) (met_J4_get l Γ ph 106 i (ad 6) (ad 10) (ad 11) c hW.o6 hcc hne) (ci := 20) rfl (va_cwF 1 hts (lw_F q787 q807 q809 q127 q811) rfl rfl rfl (hK.F 2 rfl) (by decide +kernel) ⟨Nat.le_of_ble_eq_true rfl, Nat.le_of_ble_eq_true rfl⟩) (g_recv hK I (g_at.of hW.o6) (ci := 20) rfl) rfl hl.1 rfl (Nat.le_of_ble_eq_true rfl) dX2_climber_5 ⟨Nat.le_of_ble_eq_true rfl, Nat.le_of_ble_eq_true rfl⟩) I (fun r_5 ph1 H locs hp I => ?_)
  obtain ⟨hp, hph⟩ := hp
  rw [hph] at I
  have hp : r_5 = ad (10 + c.toNatClampNeg) := by rw [hp]; rcases hcc with rfl | rfl <;> rfl
  rw [hp]
  refine g_castS S hK (ci := 2) rfl q204 (g_recv hK I (g_at.of (hW.cl (c := c.toNatClampNeg) (by omega))) (ci := 2) rfl) dX2_climber_10 ?_
  exact g_aret S hr (Or.inl ⟨_, rfl⟩) hlk I dX2_climber_13 (Nat.le_of_ble_eq_true rfl) (Nat.le_of_ble_eq_true rfl) hQ ⟨_, rfl, rfl, rfl⟩

set_option maxHeartbeats 4000000 in
set_option maxRecDepth 100000 in
theorem met_J17_min (l : Launch) (Γ : g_C) (ph : g_H) (x y : Int32)    : g_Met l yJ17_min (ws_ yJ17_min cJ17_min 2 (some .int)) (g_rm 1 0 0) Γ [.int x, .int y] (ph) (g_oi (fun rv_ ph' => rv_ = (if x ≤ y then x else y) ∧ ph' = ph)) g_no := by
  refine g_startF (y := yJ17_min) (cc := cJ17_min) (maxL := 2) (ret := (some .int)) (rm := g_rm 1 0 0) (by decide +kernel) (Nat.le_of_ble_eq_true rfl) ?_
  intro p e s m A below meth c ls Q hQ S hr hlk hex hnm hK I hl
  have hx := S.1
  have hb := S.2.1
  have hown := S.2.2.2.1
  have hts := S.2.2.2.2
  have S : CallFix p m c cJ17_min 2 s A lw_all "java/lang/Math" := S
  have hl : lv_has ls 2 [(0, .int x), (1, .int y)] := hl
  refine lv_iload_n hx hb dJ17_min_0 rfl (lv_at hl 0 rfl) ?_
  refine lv_iload_n hx hb dJ17_min_1 rfl (lv_at hl 1 rfl) ?_
  refine lv_icmp_gt (tgt := 9) hx hb dJ17_min_2 (by decide) (fun c_2 => ?_) (fun c_2 => ?_)
  · have n_2 := Int32.not_le.mpr c_2
    refine lv_iload_n hx hb dJ17_min_9 rfl (lv_at hl 1 rfl) ?_
    exact g_iret S hr hlk I dJ17_min_10 (Nat.le_of_ble_eq_true rfl) (Nat.le_of_ble_eq_true rfl) hQ ⟨_, rfl, (by first | exact (if_pos n_2).symm | exact (if_neg (Int32.not_le.mpr c_2)).symm | exact (if_pos (Int32.not_lt.mp c_2)).symm), rfl⟩
  · have n_2 := Int32.not_lt.mp c_2
    refine lv_iload_n hx hb dJ17_min_5 rfl (lv_at hl 0 rfl) ?_
    refine lv_goto (tgt := 10) hx hb dJ17_min_6 (by decide) ?_
    exact g_iret S hr hlk I dJ17_min_10 (Nat.le_of_ble_eq_true rfl) (Nat.le_of_ble_eq_true rfl) hQ ⟨_, rfl, (by first | exact (if_pos n_2).symm | exact (if_neg (Int32.not_le.mpr c_2)).symm | exact (if_pos (Int32.not_lt.mp c_2)).symm), rfl⟩

set_option maxHeartbeats 4000000 in
set_option maxRecDepth 100000 in
theorem met_X3_isHurt (l : Launch) (Γ : g_C) (htr : l.stackTraces = false) (ph : g_H) (i : Nat) (ad na : Nat → Nat) (mc : Nat → Int32) (w : m_w) (k : Nat)  (hW : g_Wl Γ ph i ad na mc w) (hw : WF w) (hk : k < 2) : g_Met l yX3_isHurt (ws_ yX3_isHurt cX3_isHurt 1 (some .boolean)) (g_rm 1 0 0) Γ [.ref (ad (10 + k))] ph (g_oi (fun rv_ ph' => rv_ = (b2i (decide ((w (125 + 3 * k + 1)) = 2))) ∧ ph' = ph)) g_no := by
  refine g_start (y := yX3_isHurt) (cc := cX3_isHurt) (maxL := 1) (ret := (some .boolean)) (rm := g_rm 1 0 0) (by decide) (Nat.le_of_ble_eq_true rfl) ?_
  intro pg e s m A below meth cd ls Q hQ S hr hlk hex hnm hK I hl
  have hx := S.1
  have hb := S.2.1
  have hown := S.2.2.2.1
  have hts := S.2.2.2.2
  have S : CallFix pg m cd cX3_isHurt 1 s A lw_all "CrumblingWall$Climber" := S
  have hl : lv_has ls 1 [(0, .ref (ad (10 + k)))] := hl
  have hwc := hw.1; have hwl := hw.2.1; have hwa := hw.2.2.1
  refine lv_aload_n hx hb dX3_isHurt_0 rfl (lv_at hl 0 rfl) ?_
  refine g_get S hK I k_X3 (v := .int (w (125 + 3 * k + 1))) (g_at.of (hW.cl (c := k) (by omega))) 2 (by decide) q214 rfl rfl dX3_isHurt_1 ?_
  refine lv_iconst (v := 2) hx hb dX3_isHurt_4 (by decide) ?_
  refine lv_icmp_ne (tgt := 12) hx hb dX3_isHurt_5 (by decide) (fun c_5 => ?_) (fun c_5 => ?_)
  · refine lv_iconst (v := 0) hx hb dX3_isHurt_12 (by decide) ?_
    exact g_zret S hr hlk I rfl dX3_isHurt_13 (Nat.le_of_ble_eq_true rfl) (Nat.le_of_ble_eq_true rfl) hQ ⟨_, rfl, (by simp [b2i, c_5]), rfl⟩
  · refine lv_iconst (v := 1) hx hb dX3_isHurt_8 (by decide) ?_
    refine lv_goto (tgt := 13) hx hb dX3_isHurt_9 (by decide) ?_
    exact g_zret S hr hlk I rfl dX3_isHurt_13 (Nat.le_of_ble_eq_true rfl) (Nat.le_of_ble_eq_true rfl) hQ ⟨_, rfl, (by simp [b2i, c_5]), rfl⟩

set_option maxHeartbeats 4000000 in
set_option maxRecDepth 100000 in
theorem met_X3_isHanging (l : Launch) (Γ : g_C) (htr : l.stackTraces = false) (ph : g_H) (i : Nat) (ad na : Nat → Nat) (mc : Nat → Int32) (w : m_w) (k : Nat)  (hW : g_Wl Γ ph i ad na mc w) (hw : WF w) (hk : k < 2) : g_Met l yX3_isHanging (ws_ yX3_isHanging cX3_isHanging 1 (some .boolean)) (g_rm 1 0 0) Γ [.ref (ad (10 + k))] ph (g_oi (fun rv_ ph' => rv_ = (b2i (decide ((w (125 + 3 * k + 1)) = 1))) ∧ ph' = ph)) g_no := by
  refine g_start (y := yX3_isHanging) (cc := cX3_isHanging) (maxL := 1) (ret := (some .boolean)) (rm := g_rm 1 0 0) (by decide) (Nat.le_of_ble_eq_true rfl) ?_
  intro pg e s m A below meth cd ls Q hQ S hr hlk hex hnm hK I hl
  have hx := S.1
  have hb := S.2.1
  have hown := S.2.2.2.1
  have hts := S.2.2.2.2
  have S : CallFix pg m cd cX3_isHanging 1 s A lw_all "CrumblingWall$Climber" := S
  have hl : lv_has ls 1 [(0, .ref (ad (10 + k)))] := hl
  have hwc := hw.1; have hwl := hw.2.1; have hwa := hw.2.2.1
  refine lv_aload_n hx hb dX3_isHanging_0 rfl (lv_at hl 0 rfl) ?_
  refine g_get S hK I k_X3 (v := .int (w (125 + 3 * k + 1))) (g_at.of (hW.cl (c := k) (by omega))) 2 (by decide) q214 rfl rfl dX3_isHanging_1 ?_
  refine lv_iconst (v := 1) hx hb dX3_isHanging_4 (by decide) ?_
  refine lv_icmp_ne (tgt := 12) hx hb dX3_isHanging_5 (by decide) (fun c_5 => ?_) (fun c_5 => ?_)
  · refine lv_iconst (v := 0) hx hb dX3_isHanging_12 (by decide) ?_
    exact g_zret S hr hlk I rfl dX3_isHanging_13 (Nat.le_of_ble_eq_true rfl) (Nat.le_of_ble_eq_true rfl) hQ ⟨_, rfl, (by simp [b2i, c_5]), rfl⟩
  · refine lv_iconst (v := 1) hx hb dX3_isHanging_8 (by decide) ?_
    refine lv_goto (tgt := 13) hx hb dX3_isHanging_9 (by decide) ?_
    exact g_zret S hr hlk I rfl dX3_isHanging_13 (Nat.le_of_ble_eq_true rfl) (Nat.le_of_ble_eq_true rfl) hQ ⟨_, rfl, (by simp [b2i, c_5]), rfl⟩

set_option maxHeartbeats 4000000 in
set_option maxRecDepth 100000 in
theorem met_X12_isCarried (l : Launch) (Γ : g_C) (htr : l.stackTraces = false) (ph : g_H) (i : Nat) (ad na : Nat → Nat) (mc : Nat → Int32) (w : m_w) (k : Nat)  (hW : g_Wl Γ ph i ad na mc w) (hw : WF w) (hk : k < nLa w) : g_Met l yX12_isCarried (ws_ yX12_isCarried cX12_isCarried 1 (some .boolean)) (g_rm 1 0 0) Γ [.ref (ad (20 + k))] ph (g_oi (fun rv_ ph' => rv_ = (b2i (decide (¬ (w (105 + 5 * k + 1)) = -1))) ∧ ph' = ph)) g_no := by
  refine g_start (y := yX12_isCarried) (cc := cX12_isCarried) (maxL := 1) (ret := (some .boolean)) (rm := g_rm 1 0 0) (by decide) (Nat.le_of_ble_eq_true rfl) ?_
  intro pg e s m A below meth cd ls Q hQ S hr hlk hex hnm hK I hl
  have hx := S.1
  have hb := S.2.1
  have hown := S.2.2.2.1
  have hts := S.2.2.2.2
  have S : CallFix pg m cd cX12_isCarried 1 s A lw_all "CrumblingWall$Lamp" := S
  have hl : lv_has ls 1 [(0, .ref (ad (20 + k)))] := hl
  have hwc := hw.1; have hwl := hw.2.1; have hwa := hw.2.2.1
  refine lv_aload_n hx hb dX12_isCarried_0 rfl (lv_at hl 0 rfl) ?_
  refine g_get S hK I k_X12 (v := .int (w (105 + 5 * k + 1))) (g_at.of (hW.la (k := k) (by omega))) 2 (by decide) q1575 rfl rfl dX12_isCarried_1 ?_
  refine lv_iconst (v := (-1)) hx hb dX12_isCarried_4 (by decide) ?_
  refine lv_icmp_eq (tgt := 12) hx hb dX12_isCarried_5 (by decide) (fun c_5 => ?_) (fun c_5 => ?_)
  · refine lv_iconst (v := 0) hx hb dX12_isCarried_12 (by decide) ?_
    exact g_zret S hr hlk I rfl dX12_isCarried_13 (Nat.le_of_ble_eq_true rfl) (Nat.le_of_ble_eq_true rfl) hQ ⟨_, rfl, (by simp [b2i, c_5]), rfl⟩
  · refine lv_iconst (v := 1) hx hb dX12_isCarried_8 (by decide) ?_
    refine lv_goto (tgt := 13) hx hb dX12_isCarried_9 (by decide) ?_
    exact g_zret S hr hlk I rfl dX12_isCarried_13 (Nat.le_of_ble_eq_true rfl) (Nat.le_of_ble_eq_true rfl) hQ ⟨_, rfl, (by simp [b2i, c_5]), rfl⟩

set_option maxHeartbeats 4000000 in
set_option maxRecDepth 100000 in
theorem met_X2_place (l : Launch) (Γ : g_C) (htr : l.stackTraces = false) (ph : g_H) (i : Nat) (ad na : Nat → Nat) (mc : Nat → Int32) (w : m_w) (p : Int32)  (hW : g_Wl Γ ph i ad na mc w) (hw : WF w) (hp0 : okP w p) : g_Met l yX2_place (ws_ yX2_place cX2_place 2 (some (.object "CrumblingWall$Place"))) (g_rm 4 0 0) Γ [.ref (ad 0), .int p] ph (g_or (fun rv_ ph' => rv_ = (plA ad p) ∧ ph' = ph)) g_no := by
  refine g_start (y := yX2_place) (cc := cX2_place) (maxL := 2) (ret := (some (.object "CrumblingWall$Place"))) (rm := g_rm 4 0 0) (by decide) (Nat.le_of_ble_eq_true rfl) ?_
  intro pg e s m A below meth cd ls Q hQ S hr hlk hex hnm hK I hl
  have hx := S.1
  have hb := S.2.1
  have hown := S.2.2.2.1
  have hts := S.2.2.2.2
  have S : CallFix pg m cd cX2_place 2 s A lw_all "CrumblingWall$Wall" := S
  have hl : lv_has ls 2 [(0, .ref (ad 0)), (1, .int p)] := hl
  have hwc := hw.1; have hwl := hw.2.1; have hwa := hw.2.2.1
  refine lv_iload_n hx hb dX2_place_0 rfl (lv_at hl 1 rfl) ?_
  refine lv_iconst (v := (-1)) hx hb dX2_place_1 (by decide) ?_
  refine lv_icmp_ne (tgt := 12) hx hb dX2_place_2 (by decide) (fun c_2 => ?_) (fun c_2 => ?_)
  · have hp1 := okHx hw (hp0.resolve_left c_2)
    have hp2 := hp1.1
    refine lv_aload_n hx hb dX2_place_12 rfl (lv_at hl 0 rfl) ?_
    refine g_get S hK I k_X2 (v := .ref (ad 1)) (g_at.of hW.o0) 0 (by decide) q643 rfl rfl dX2_place_13 ?_
    refine lv_iload_n hx hb dX2_place_16 rfl (lv_at hl 1 rfl) ?_
    refine g_cr (g_runV S hK I (As := [.int p]) (rest := []) (by have z := (met_w_get1 l Γ ph i ad na mc w hW hw p.toNatClampNeg hp1.1); rw [hp1.2] at z; exact z) (cwV 1 hts (lw_V q883 q793 q3509 q130 q795) rfl rfl rfl (by decide +kernel) ⟨Nat.le_of_ble_eq_true rfl, Nat.le_of_ble_eq_true rfl⟩) (g_recv hK I (g_at.of hW.o1) (ci := 21) rfl) rfl hl.1 rfl (Nat.le_of_ble_eq_true rfl) dX2_place_17 ⟨Nat.le_of_ble_eq_true rfl, Nat.le_of_ble_eq_true rfl⟩) I (fun r_17 ph1 H locs hp I => ?_)
    obtain ⟨hp, hph⟩ := hp
    rw [hph] at I
    have hp : r_17 = (ad (30 + p.toNatClampNeg)) := hp
    rw [hp]
    refine h_cast S hK I (ho_or hW hw (k := p.toNatClampNeg) (by omega)) q884 hca_Place dX2_place_20 ?_
    exact g_aret S hr (Or.inl ⟨_, rfl⟩) hlk I dX2_place_23 (Nat.le_of_ble_eq_true rfl) (Nat.le_of_ble_eq_true rfl) hQ ⟨_, rfl, (if_neg c_2).symm, rfl⟩
  · refine lv_aload_n hx hb dX2_place_5 rfl (lv_at hl 0 rfl) ?_
    refine g_get S hK I k_X2 (v := .ref (ad 7)) (g_at.of hW.o0) 4 (by decide) q651 rfl rfl dX2_place_6 ?_
    refine lv_goto (tgt := 23) hx hb dX2_place_9 (by decide) ?_
    exact g_aret S hr (Or.inl ⟨_, rfl⟩) hlk I dX2_place_23 (Nat.le_of_ble_eq_true rfl) (Nat.le_of_ble_eq_true rfl) hQ ⟨_, rfl, (if_pos c_2).symm, rfl⟩

set_option maxHeartbeats 4000000 in
set_option maxRecDepth 100000 in
theorem met_X2_at (l : Launch) (Γ : g_C) (htr : l.stackTraces = false) (ph : g_H) (i : Nat) (ad na : Nat → Nat) (mc : Nat → Int32) (w : m_w) (c : Int32)  (hW : g_Wl Γ ph i ad na mc w) (hw : WF w) (hc : vp_in c 2) : g_Met l yX2_at (ws_ yX2_at cX2_at 2 (some (.object "CrumblingWall$Place"))) (g_rm 5 0 0) Γ [.ref (ad 0), .int c] ph (g_or (fun rv_ ph' => rv_ = (plA ad (plc w c)) ∧ ph' = ph)) g_no := by
  refine g_start (y := yX2_at) (cc := cX2_at) (maxL := 2) (ret := (some (.object "CrumblingWall$Place"))) (rm := g_rm 5 0 0) (by decide) (Nat.le_of_ble_eq_true rfl) ?_
  intro pg e s m A below meth cd ls Q hQ S hr hlk hex hnm hK I hl
  have hx := S.1
  have hb := S.2.1
  have hown := S.2.2.2.1
  have hts := S.2.2.2.2
  have S : CallFix pg m cd cX2_at 2 s A lw_all "CrumblingWall$Wall" := S
  have hl : lv_has ls 2 [(0, .ref (ad 0)), (1, .int c)] := hl
  have hwc := hw.1; have hwl := hw.2.1; have hwa := hw.2.2.1
  have hc2 := (okC hc).1
  refine lv_aload_n hx hb dX2_at_0 rfl (lv_at hl 0 rfl) ?_
  refine lv_aload_n hx hb dX2_at_1 rfl (lv_at hl 0 rfl) ?_
  refine lv_iload_n hx hb dX2_at_2 rfl (lv_at hl 1 rfl) ?_
  refine g_cr (g_runV S hK I (As := [.int c]) (rest := [.ref (ad 0)]) (met_X2_climber l Γ htr ph i ad na mc w c hW hw  hc) (cwV 1 hts (lw_V q782 q783 q784 q121 q785) rfl rfl rfl (by decide +kernel) ⟨Nat.le_of_ble_eq_true rfl, Nat.le_of_ble_eq_true rfl⟩) (g_recv hK I (g_at.of hW.o0) (ci := 1) rfl) rfl hl.1 rfl (Nat.le_of_ble_eq_true rfl) dX2_at_3 ⟨Nat.le_of_ble_eq_true rfl, Nat.le_of_ble_eq_true rfl⟩) I (fun r_3 ph1 H locs hp I => ?_)
  obtain ⟨hp, hph⟩ := hp
  rw [hph] at I
  have hp : r_3 = (ad (10 + c.toNatClampNeg)) := hp
  rw [hp]
  refine g_getN S hK I k_X3 (v := .int (w (125 + 3 * c.toNatClampNeg))) (g_at.of (hW.cl (c := c.toNatClampNeg) (by omega))) 1 (by decide) q212 rfl rfl dX2_at_6 ?_
  refine g_cr (g_runV S hK I (As := [.int (w (125 + 3 * c.toNatClampNeg))]) (rest := []) (met_X2_place l Γ htr ph i ad na mc w (w (125 + 3 * c.toNatClampNeg)) hW hw  (hw.pl hc)) (cwV 1 hts (lw_V q879 q880 q881 q121 q882) rfl rfl rfl (by decide +kernel) ⟨Nat.le_of_ble_eq_true rfl, Nat.le_of_ble_eq_true rfl⟩) (g_recv hK I (g_at.of hW.o0) (ci := 1) rfl) rfl hl.1 rfl (Nat.le_of_ble_eq_true rfl) dX2_at_9 ⟨Nat.le_of_ble_eq_true rfl, Nat.le_of_ble_eq_true rfl⟩) I (fun r_9 ph1 H locs hp I => ?_)
  obtain ⟨hp, hph⟩ := hp
  rw [hph] at I
  have hp : r_9 = (plA ad (w (125 + 3 * c.toNatClampNeg))) := hp
  rw [hp]
  exact g_aret S hr (Or.inl ⟨_, rfl⟩) hlk I dX2_at_12 (Nat.le_of_ble_eq_true rfl) (Nat.le_of_ble_eq_true rfl) hQ ⟨_, rfl, rfl, rfl⟩

set_option maxHeartbeats 4000000 in
set_option maxRecDepth 100000 in
theorem met_X1_isIn (l : Launch) (Γ : g_C) (ph : g_H) (v lo hi : Int32)    : g_Met l yX1_isIn (ws_ yX1_isIn cX1_isIn 3 (some .boolean)) (g_rm 1 0 0) Γ [.int v, .int lo, .int hi] (ph) (g_oi (fun rv_ ph' => rv_ = (b2i (btw v lo hi)) ∧ ph' = ph)) g_no := by
  refine g_start (y := yX1_isIn) (cc := cX1_isIn) (maxL := 3) (ret := (some .boolean)) (rm := g_rm 1 0 0) (by decide) (Nat.le_of_ble_eq_true rfl) ?_
  intro p e s m A below meth c ls Q hQ S hr hlk hex hnm hK I hl
  have hx := S.1
  have hb := S.2.1
  have hown := S.2.2.2.1
  have hts := S.2.2.2.2
  have S : CallFix p m c cX1_isIn 3 s A lw_all "CrumblingWall" := S
  have hl : lv_has ls 3 [(0, .int v), (1, .int lo), (2, .int hi)] := hl
  refine lv_iload_n hx hb dX1_isIn_0 rfl (lv_at hl 0 rfl) ?_
  refine lv_iload_n hx hb dX1_isIn_1 rfl (lv_at hl 1 rfl) ?_
  refine lv_icmp_lt (tgt := 14) hx hb dX1_isIn_2 (by decide) (fun c_2 => ?_) (fun c_2 => ?_)
  · have n_2 := Int32.not_le.mpr c_2
    refine lv_iconst (v := 0) hx hb dX1_isIn_14 (by decide) ?_
    exact g_zret S hr hlk I rfl dX1_isIn_15 (Nat.le_of_ble_eq_true rfl) (Nat.le_of_ble_eq_true rfl) hQ ⟨_, rfl, (by simp [btw, b2i, Int32.not_lt, Int32.not_le, c_2, n_2]), rfl⟩
  · have n_2 := Int32.not_lt.mp c_2
    refine lv_iload_n hx hb dX1_isIn_5 rfl (lv_at hl 0 rfl) ?_
    refine lv_iload_n hx hb dX1_isIn_6 rfl (lv_at hl 2 rfl) ?_
    refine lv_icmp_gt (tgt := 14) hx hb dX1_isIn_7 (by decide) (fun c_7 => ?_) (fun c_7 => ?_)
    · have n_7 := Int32.not_le.mpr c_7
      refine lv_iconst (v := 0) hx hb dX1_isIn_14 (by decide) ?_
      exact g_zret S hr hlk I rfl dX1_isIn_15 (Nat.le_of_ble_eq_true rfl) (Nat.le_of_ble_eq_true rfl) hQ ⟨_, rfl, (by simp [btw, b2i, Int32.not_lt, Int32.not_le, c_2, n_2, c_7, n_7]), rfl⟩
    · have n_7 := Int32.not_lt.mp c_7
      refine lv_iconst (v := 1) hx hb dX1_isIn_10 (by decide) ?_
      refine lv_goto (tgt := 15) hx hb dX1_isIn_11 (by decide) ?_
      exact g_zret S hr hlk I rfl dX1_isIn_15 (Nat.le_of_ble_eq_true rfl) (Nat.le_of_ble_eq_true rfl) hQ ⟨_, rfl, (by simp [btw, b2i, Int32.not_lt, Int32.not_le, c_2, n_2, c_7, n_7]), rfl⟩

set_option maxHeartbeats 4000000 in
set_option maxRecDepth 100000 in
theorem met_X2_isHold (l : Launch) (Γ : g_C) (htr : l.stackTraces = false) (ph : g_H) (i : Nat) (ad na : Nat → Nat) (mc : Nat → Int32) (w : m_w) (p : Int32)  (hW : g_Wl Γ ph i ad na mc w) (hw : WF w) : g_Met l yX2_isHold (ws_ yX2_isHold cX2_isHold 2 (some .boolean)) (g_rm 2 0 0) Γ [.ref (ad 0), .int p] ph (g_oi (fun rv_ ph' => rv_ = (b2i (isHo w p)) ∧ ph' = ph)) g_no := by
  refine g_start (y := yX2_isHold) (cc := cX2_isHold) (maxL := 2) (ret := (some .boolean)) (rm := g_rm 2 0 0) (by decide) (Nat.le_of_ble_eq_true rfl) ?_
  intro pg e s m A below meth cd ls Q hQ S hr hlk hex hnm hK I hl
  have hx := S.1
  have hb := S.2.1
  have hown := S.2.2.2.1
  have hts := S.2.2.2.2
  have S : CallFix pg m cd cX2_isHold 2 s A lw_all "CrumblingWall$Wall" := S
  have hl : lv_has ls 2 [(0, .ref (ad 0)), (1, .int p)] := hl
  have hwc := hw.1; have hwl := hw.2.1; have hwa := hw.2.2.1
  refine lv_iload_n hx hb dX2_isHold_0 rfl (lv_at hl 1 rfl) ?_
  refine lv_iconst (v := 0) hx hb dX2_isHold_1 (by decide) ?_
  refine lv_aload_n hx hb dX2_isHold_2 rfl (lv_at hl 0 rfl) ?_
  refine g_get S hK I k_X2 (v := .ref (ad 1)) (g_at.of hW.o0) 0 (by decide) q643 rfl rfl dX2_isHold_3 ?_
  refine g_ci (g_runV S hK I (As := []) (rest := [.int 0, .int p]) (met_J7_size l Γ ph 101 i (ad 1) (ad 2) (mc 1) (w 0) hW.o1) (cwV 0 hts (lw_V q1353 q994 q3516 q130 q995) rfl rfl rfl (by decide +kernel) ⟨Nat.le_of_ble_eq_true rfl, Nat.le_of_ble_eq_true rfl⟩) (g_recv hK I (g_at.of hW.o1) (ci := 21) rfl) rfl hl.1 rfl (Nat.le_of_ble_eq_true rfl) dX2_isHold_6 ⟨Nat.le_of_ble_eq_true rfl, Nat.le_of_ble_eq_true rfl⟩) I (fun r_6 ph1 H locs hp I => ?_)
  obtain ⟨hp, hph⟩ := hp
  rw [hph] at I
  have hp : r_6 = (w 0) := hp
  rw [hp]
  refine lv_iconst (v := 1) hx hb dX2_isHold_9 (by decide) ?_
  refine lv_isub hx hb dX2_isHold_10 ?_
  refine g_ci (g_runSN S hK I (As := [.int p, .int 0, .int ((w 0) - 1)]) (rest := []) (met_X1_isIn l Γ ph p 0 ((w 0) - 1)) ⟨va_cnB 3 hts (lw_meth q1356) rfl rfl rfl (hK.N q1354 rfl) (hts _ q120) (by decide +kernel) ⟨Nat.le_of_ble_eq_true rfl, Nat.le_of_ble_eq_true rfl⟩, hts _ q1355, trivial⟩ rfl hl.1 rfl (Nat.le_of_ble_eq_true rfl) dX2_isHold_11 ⟨Nat.le_of_ble_eq_true rfl, Nat.le_of_ble_eq_true rfl⟩) I (fun r_11 ph1 H locs hp I => ?_)
  obtain ⟨hp, hph⟩ := hp
  rw [hph] at I
  have hp : r_11 = (b2i (btw p 0 ((w 0) - 1))) := hp
  rw [hp]
  exact g_zret S hr hlk I (b2i_nar _) dX2_isHold_14 (Nat.le_of_ble_eq_true rfl) (Nat.le_of_ble_eq_true rfl) hQ ⟨_, rfl, rfl, rfl⟩

set_option maxHeartbeats 4000000 in
set_option maxRecDepth 100000 in
theorem met_X2_isLamp (l : Launch) (Γ : g_C) (htr : l.stackTraces = false) (ph : g_H) (i : Nat) (ad na : Nat → Nat) (mc : Nat → Int32) (w : m_w) (p : Int32)  (hW : g_Wl Γ ph i ad na mc w) (hw : WF w) : g_Met l yX2_isLamp (ws_ yX2_isLamp cX2_isLamp 2 (some .boolean)) (g_rm 2 0 0) Γ [.ref (ad 0), .int p] ph (g_oi (fun rv_ ph' => rv_ = (b2i (isLa w p)) ∧ ph' = ph)) g_no := by
  refine g_start (y := yX2_isLamp) (cc := cX2_isLamp) (maxL := 2) (ret := (some .boolean)) (rm := g_rm 2 0 0) (by decide) (Nat.le_of_ble_eq_true rfl) ?_
  intro pg e s m A below meth cd ls Q hQ S hr hlk hex hnm hK I hl
  have hx := S.1
  have hb := S.2.1
  have hown := S.2.2.2.1
  have hts := S.2.2.2.2
  have S : CallFix pg m cd cX2_isLamp 2 s A lw_all "CrumblingWall$Wall" := S
  have hl : lv_has ls 2 [(0, .ref (ad 0)), (1, .int p)] := hl
  have hwc := hw.1; have hwl := hw.2.1; have hwa := hw.2.2.1
  refine lv_iload_n hx hb dX2_isLamp_0 rfl (lv_at hl 1 rfl) ?_
  refine lv_iconst (v := 0) hx hb dX2_isLamp_1 (by decide) ?_
  refine lv_aload_n hx hb dX2_isLamp_2 rfl (lv_at hl 0 rfl) ?_
  refine g_get S hK I k_X2 (v := .ref (ad 3)) (g_at.of hW.o0) 1 (by decide) q646 rfl rfl dX2_isLamp_3 ?_
  refine g_ci (g_runV S hK I (As := []) (rest := [.int 0, .int p]) (met_J7_size l Γ ph 103 i (ad 3) (ad 4) (mc 2) (w 104) hW.o3) (cwV 0 hts (lw_V q1353 q994 q3516 q130 q995) rfl rfl rfl (by decide +kernel) ⟨Nat.le_of_ble_eq_true rfl, Nat.le_of_ble_eq_true rfl⟩) (g_recv hK I (g_at.of hW.o3) (ci := 21) rfl) rfl hl.1 rfl (Nat.le_of_ble_eq_true rfl) dX2_isLamp_6 ⟨Nat.le_of_ble_eq_true rfl, Nat.le_of_ble_eq_true rfl⟩) I (fun r_6 ph1 H locs hp I => ?_)
  obtain ⟨hp, hph⟩ := hp
  rw [hph] at I
  have hp : r_6 = (w 104) := hp
  rw [hp]
  refine lv_iconst (v := 1) hx hb dX2_isLamp_9 (by decide) ?_
  refine lv_isub hx hb dX2_isLamp_10 ?_
  refine g_ci (g_runSN S hK I (As := [.int p, .int 0, .int ((w 104) - 1)]) (rest := []) (met_X1_isIn l Γ ph p 0 ((w 104) - 1)) ⟨va_cnB 3 hts (lw_meth q1356) rfl rfl rfl (hK.N q1354 rfl) (hts _ q120) (by decide +kernel) ⟨Nat.le_of_ble_eq_true rfl, Nat.le_of_ble_eq_true rfl⟩, hts _ q1355, trivial⟩ rfl hl.1 rfl (Nat.le_of_ble_eq_true rfl) dX2_isLamp_11 ⟨Nat.le_of_ble_eq_true rfl, Nat.le_of_ble_eq_true rfl⟩) I (fun r_11 ph1 H locs hp I => ?_)
  obtain ⟨hp, hph⟩ := hp
  rw [hph] at I
  have hp : r_11 = (b2i (btw p 0 ((w 104) - 1))) := hp
  rw [hp]
  exact g_zret S hr hlk I (b2i_nar _) dX2_isLamp_14 (Nat.le_of_ble_eq_true rfl) (Nat.le_of_ble_eq_true rfl) hQ ⟨_, rfl, rfl, rfl⟩

theorem isPl_o {w : m_w} {p : Int32} (hw : WF w) : isPl w p = (decide (p = -1) || isHo w p) := by
  rw [Bool.eq_iff_iff, isPl_iff hw, Bool.or_eq_true, decide_eq_true_eq, isHo_iff hw]
  rfl
set_option maxHeartbeats 4000000 in
set_option maxRecDepth 100000 in
theorem met_X2_isPlace (l : Launch) (Γ : g_C) (htr : l.stackTraces = false) (ph : g_H) (i : Nat) (ad na : Nat → Nat) (mc : Nat → Int32) (w : m_w) (p : Int32)  (hW : g_Wl Γ ph i ad na mc w) (hw : WF w) : g_Met l yX2_isPlace (ws_ yX2_isPlace cX2_isPlace 2 (some .boolean)) (g_rm 3 0 0) Γ [.ref (ad 0), .int p] ph (g_oi (fun rv_ ph' => rv_ = (b2i (isPl w p)) ∧ ph' = ph)) g_no := by
  refine g_start (y := yX2_isPlace) (cc := cX2_isPlace) (maxL := 2) (ret := (some .boolean)) (rm := g_rm 3 0 0) (by decide) (Nat.le_of_ble_eq_true rfl) ?_
  intro pg e s m A below meth cd ls Q hQ S hr hlk hex hnm hK I hl
  have hx := S.1
  have hb := S.2.1
  have hown := S.2.2.2.1
  have hts := S.2.2.2.2
  have S : CallFix pg m cd cX2_isPlace 2 s A lw_all "CrumblingWall$Wall" := S
  have hl : lv_has ls 2 [(0, .ref (ad 0)), (1, .int p)] := hl
  have hwc := hw.1; have hwl := hw.2.1; have hwa := hw.2.2.1
  refine lv_iload_n hx hb dX2_isPlace_0 rfl (lv_at hl 1 rfl) ?_
  refine lv_iconst (v := (-1)) hx hb dX2_isPlace_1 (by decide) ?_
  refine lv_icmp_eq (tgt := 13) hx hb dX2_isPlace_2 (by decide) (fun c_2 => ?_) (fun c_2 => ?_)
  · refine lv_iconst (v := 1) hx hb dX2_isPlace_13 (by decide) ?_
    refine lv_goto (tgt := 18) hx hb dX2_isPlace_14 (by decide) ?_
    exact g_zret S hr hlk I rfl dX2_isPlace_18 (Nat.le_of_ble_eq_true rfl) (Nat.le_of_ble_eq_true rfl) hQ ⟨_, rfl, (by rw [isPl_o hw]; simp [b2i, c_2]), rfl⟩
  · refine lv_aload_n hx hb dX2_isPlace_5 rfl (lv_at hl 0 rfl) ?_
    refine lv_iload_n hx hb dX2_isPlace_6 rfl (lv_at hl 1 rfl) ?_
    refine g_ci (g_runV S hK I (As := [.int p]) (rest := []) (met_X2_isHold l Γ htr ph i ad na mc w p hW hw  ) (cwV 1 hts (lw_V q1886 q1350 q1351 q121 q1352) rfl rfl rfl (by decide +kernel) ⟨Nat.le_of_ble_eq_true rfl, Nat.le_of_ble_eq_true rfl⟩) (g_recv hK I (g_at.of hW.o0) (ci := 1) rfl) rfl hl.1 rfl (Nat.le_of_ble_eq_true rfl) dX2_isPlace_7 ⟨Nat.le_of_ble_eq_true rfl, Nat.le_of_ble_eq_true rfl⟩) I (fun r_7 ph1 H locs hp I => ?_)
    obtain ⟨hp, hph⟩ := hp
    rw [hph] at I
    have hp : r_7 = (b2i (isHo w p)) := hp
    rw [hp]
    refine lv_if_eq (tgt := 17) hx hb dX2_isPlace_10 (by decide) (fun c_10 => ?_) (fun c_10 => ?_)
    · have p_10 := (b2i_eq0 _).mp c_10
      refine lv_iconst (v := 0) hx hb dX2_isPlace_17 (by decide) ?_
      exact g_zret S hr hlk I rfl dX2_isPlace_18 (Nat.le_of_ble_eq_true rfl) (Nat.le_of_ble_eq_true rfl) hQ ⟨_, rfl, (by rw [isPl_o hw]; simp [b2i, c_2, p_10]), rfl⟩
    · have p_10 := (b2i_ne0 _).mp c_10
      refine lv_iconst (v := 1) hx hb dX2_isPlace_13 (by decide) ?_
      refine lv_goto (tgt := 18) hx hb dX2_isPlace_14 (by decide) ?_
      exact g_zret S hr hlk I rfl dX2_isPlace_18 (Nat.le_of_ble_eq_true rfl) (Nat.le_of_ble_eq_true rfl) hQ ⟨_, rfl, (by rw [isPl_o hw]; simp [b2i, c_2, p_10]), rfl⟩

theorem lPl_k {w : m_w} (hw : WF w) {k : Nat} (hk : k < nLa w) (h : k < 2 ^ 31) : lPl w (nI k) = if w (105 + 5 * k + 1) = -1 then w (105 + 5 * k) else plc w (w (105 + 5 * k + 1)) := by
  unfold lPl
  rw [lX_kk h, lX_kk h]
  by_cases e : w (105 + 5 * k + 1) = -1
  · rw [if_neg (fun z => (laNC' (laCar hw hk)).mp z e), if_pos e]; rfl
  · rw [if_pos ((laNC' (laCar hw hk)).mpr e), if_neg e]
theorem laC2 {w : m_w} (hw : WF w) {k : Nat} (hk : k < nLa w) (h : ¬ w (105 + 5 * k + 1) = -1) : vp_in (w (105 + 5 * k + 1)) 2 := by
  rcases laCar hw hk with e | e | e
  · exact absurd e h
  · rw [e]; exact vp_lit (by decide)
  · rw [e]; exact vp_lit (by decide)
set_option maxHeartbeats 4000000 in
set_option maxRecDepth 100000 in
theorem met_X2_placeOf (l : Launch) (Γ : g_C) (htr : l.stackTraces = false) (ph : g_H) (i : Nat) (ad na : Nat → Nat) (mc : Nat → Int32) (w : m_w) (k : Nat)  (hW : g_Wl Γ ph i ad na mc w) (hw : WF w) (hk : k < nLa w) : g_Met l yX2_placeOf (ws_ yX2_placeOf cX2_placeOf 2 (some .int)) (g_rm 3 0 0) Γ [.ref (ad 0), .ref (ad (20 + k))] ph (g_oi (fun rv_ ph' => rv_ = (lPl w (nI k)) ∧ ph' = ph)) g_no := by
  refine g_start (y := yX2_placeOf) (cc := cX2_placeOf) (maxL := 2) (ret := (some .int)) (rm := g_rm 3 0 0) (by decide) (Nat.le_of_ble_eq_true rfl) ?_
  intro pg e s m A below meth cd ls Q hQ S hr hlk hex hnm hK I hl
  have hx := S.1
  have hb := S.2.1
  have hown := S.2.2.2.1
  have hts := S.2.2.2.2
  have S : CallFix pg m cd cX2_placeOf 2 s A lw_all "CrumblingWall$Wall" := S
  have hl : lv_has ls 2 [(0, .ref (ad 0)), (1, .ref (ad (20 + k)))] := hl
  have hwc := hw.1; have hwl := hw.2.1; have hwa := hw.2.2.1
  refine lv_aload_n hx hb dX2_placeOf_0 rfl (lv_at hl 1 rfl) ?_
  refine g_ci (g_runV S hK I (As := []) (rest := []) (met_X12_isCarried l Γ htr ph i ad na mc w k hW hw  (by omega)) (cwV 0 hts (lw_V q1858 q1859 q1860 q162 q1861) rfl rfl rfl (by decide +kernel) ⟨Nat.le_of_ble_eq_true rfl, Nat.le_of_ble_eq_true rfl⟩) (g_recv hK I (g_at.of (hW.la (k := k) (by omega))) (ci := 10) rfl) rfl hl.1 rfl (Nat.le_of_ble_eq_true rfl) dX2_placeOf_1 ⟨Nat.le_of_ble_eq_true rfl, Nat.le_of_ble_eq_true rfl⟩) I (fun r_1 ph1 H locs hp I => ?_)
  obtain ⟨hp, hph⟩ := hp
  rw [hph] at I
  have hp : r_1 = (b2i (decide (¬ (w (105 + 5 * k + 1)) = -1))) := hp
  rw [hp]
  refine lv_if_eq (tgt := 21) hx hb dX2_placeOf_4 (by decide) (fun c_4 => ?_) (fun c_4 => ?_)
  · have p_4 := of_decide_eq_false ((b2i_eq0 _).mp c_4)
    have c_4 := p_4
    refine lv_aload_n hx hb dX2_placeOf_21 rfl (lv_at hl 1 rfl) ?_
    refine g_getN S hK I k_X12 (v := .int (w (105 + 5 * k))) (g_at.of (hW.la (k := k) (by omega))) 1 (by decide) q1574 rfl rfl dX2_placeOf_22 ?_
    exact g_iret S hr hlk I dX2_placeOf_25 (Nat.le_of_ble_eq_true rfl) (Nat.le_of_ble_eq_true rfl) hQ ⟨_, rfl, (by rw [lPl_k hw hk (by omega), if_pos (Classical.not_not.mp c_4)]), rfl⟩
  · have p_4 := of_decide_eq_true ((b2i_ne0 _).mp c_4)
    have c_4 := p_4
    have hc3 := (okC (laC2 hw hk c_4)).1
    refine lv_aload_n hx hb dX2_placeOf_7 rfl (lv_at hl 0 rfl) ?_
    refine lv_aload_n hx hb dX2_placeOf_8 rfl (lv_at hl 1 rfl) ?_
    refine g_getN S hK I k_X12 (v := .int (w (105 + 5 * k + 1))) (g_at.of (hW.la (k := k) (by omega))) 2 (by decide) q1576 rfl rfl dX2_placeOf_9 ?_
    refine g_cr (g_runV S hK I (As := [.int (w (105 + 5 * k + 1))]) (rest := []) (met_X2_climber l Γ htr ph i ad na mc w (w (105 + 5 * k + 1)) hW hw  (laC2 hw hk c_4)) (cwV 1 hts (lw_V q782 q783 q784 q121 q785) rfl rfl rfl (by decide +kernel) ⟨Nat.le_of_ble_eq_true rfl, Nat.le_of_ble_eq_true rfl⟩) (g_recv hK I (g_at.of hW.o0) (ci := 1) rfl) rfl hl.1 rfl (Nat.le_of_ble_eq_true rfl) dX2_placeOf_12 ⟨Nat.le_of_ble_eq_true rfl, Nat.le_of_ble_eq_true rfl⟩) I (fun r_12 ph1 H locs hp I => ?_)
    obtain ⟨hp, hph⟩ := hp
    rw [hph] at I
    have hp : r_12 = (ad (10 + (w (105 + 5 * k + 1)).toNatClampNeg)) := hp
    rw [hp]
    refine g_getN S hK I k_X3 (v := .int (w (125 + 3 * ((w (105 + 5 * k + 1)).toNatClampNeg)))) (g_at.of (hW.cl (c := ((w (105 + 5 * k + 1)).toNatClampNeg)) (by omega))) 1 (by decide) q212 rfl rfl dX2_placeOf_15 ?_
    refine lv_goto (tgt := 25) hx hb dX2_placeOf_18 (by decide) ?_
    exact g_iret S hr hlk I dX2_placeOf_25 (Nat.le_of_ble_eq_true rfl) (Nat.le_of_ble_eq_true rfl) hQ ⟨_, rfl, ((lPl_k hw hk (by omega)).trans (if_neg c_4)).symm, rfl⟩

set_option maxHeartbeats 4000000 in
set_option maxRecDepth 100000 in
theorem met_X2_thereAt (l : Launch) (Γ : g_C) (htr : l.stackTraces = false) (ph : g_H) (i : Nat) (ad na : Nat → Nat) (mc : Nat → Int32) (w : m_w) (p : Int32)  (hW : g_Wl Γ ph i ad na mc w) (hw : WF w) : g_Met l yX2_thereAt (ws_ yX2_thereAt cX2_thereAt 2 (some .int)) (g_rm 3 0 0) Γ [.ref (ad 0), .int p] ph (g_oi (fun rv_ ph' => rv_ = (cAt w p) ∧ ph' = ph)) g_no := by
  refine g_start (y := yX2_thereAt) (cc := cX2_thereAt) (maxL := 2) (ret := (some .int)) (rm := g_rm 3 0 0) (by decide) (Nat.le_of_ble_eq_true rfl) ?_
  intro pg e s m A below meth cd ls Q hQ S hr hlk hex hnm hK I hl
  have hx := S.1
  have hb := S.2.1
  have hown := S.2.2.2.1
  have hts := S.2.2.2.2
  have S : CallFix pg m cd cX2_thereAt 2 s A lw_all "CrumblingWall$Wall" := S
  have hl : lv_has ls 2 [(0, .ref (ad 0)), (1, .int p)] := hl
  have hwc := hw.1; have hwl := hw.2.1; have hwa := hw.2.2.1
  refine lv_aload_n hx hb dX2_thereAt_0 rfl (lv_at hl 0 rfl) ?_
  refine lv_iconst (v := 0) hx hb dX2_thereAt_1 (by decide) ?_
  refine g_cr (g_runV S hK I (As := [.int 0]) (rest := []) (met_X2_climber l Γ htr ph i ad na mc w 0 hW hw  (vp_lit (by decide))) (cwV 1 hts (lw_V q782 q783 q784 q121 q785) rfl rfl rfl (by decide +kernel) ⟨Nat.le_of_ble_eq_true rfl, Nat.le_of_ble_eq_true rfl⟩) (g_recv hK I (g_at.of hW.o0) (ci := 1) rfl) rfl hl.1 rfl (Nat.le_of_ble_eq_true rfl) dX2_thereAt_2 ⟨Nat.le_of_ble_eq_true rfl, Nat.le_of_ble_eq_true rfl⟩) I (fun r_2 ph1 H locs hp I => ?_)
  obtain ⟨hp, hph⟩ := hp
  rw [hph] at I
  have hp : r_2 = (ad (10 + 0)) := hp
  rw [hp]
  refine g_getN S hK I k_X3 (v := .int (w (125 + 3 * 0))) (g_at.of (hW.cl (c := 0) (by decide))) 1 (by decide) q212 rfl rfl dX2_thereAt_5 ?_
  refine lv_iload_n hx hb dX2_thereAt_8 rfl (lv_at hl 1 rfl) ?_
  have J_17_0 : ∀ (x1 : Int32) (H : Heap) (locs : List Loc) (ls : Array Slot), (hx1 : x1 = (if plc w 0 = p then 1 else 0)) → g_I Γ ph s H locs → lv_has ls 2 [(0, .ref (ad 0)), (1, .int p)] → W pg l e (g_rm 3 0 0) s m A below meth cd H locs 0 0 Q (F0 m 17 ls [.int x1]) := by
    intro x1 H locs ls hx1 I hl
    subst hx1
    refine lv_aload_n hx hb dX2_thereAt_17 rfl (lv_at hl 0 rfl) ?_
    refine lv_iconst (v := 1) hx hb dX2_thereAt_18 (by decide) ?_
    refine g_cr (g_runV S hK I (As := [.int 1]) (rest := [.int (if plc w 0 = p then 1 else 0)]) (met_X2_climber l Γ htr ph i ad na mc w 1 hW hw  (vp_lit (by decide))) (cwV 1 hts (lw_V q782 q783 q784 q121 q785) rfl rfl rfl (by decide +kernel) ⟨Nat.le_of_ble_eq_true rfl, Nat.le_of_ble_eq_true rfl⟩) (g_recv hK I (g_at.of hW.o0) (ci := 1) rfl) rfl hl.1 rfl (Nat.le_of_ble_eq_true rfl) dX2_thereAt_19 ⟨Nat.le_of_ble_eq_true rfl, Nat.le_of_ble_eq_true rfl⟩) I (fun r_19 ph1 H locs hp I => ?_)
    obtain ⟨hp, hph⟩ := hp
    rw [hph] at I
    have hp : r_19 = (ad (10 + 1)) := hp
    rw [hp]
    refine g_getN S hK I k_X3 (v := .int (w (125 + 3 * 1))) (g_at.of (hW.cl (c := 1) (by decide))) 1 (by decide) q212 rfl rfl dX2_thereAt_22 ?_
    refine lv_iload_n hx hb dX2_thereAt_25 rfl (lv_at hl 1 rfl) ?_
    have J_34_1 : ∀ (x2 : Int32) (H : Heap) (locs : List Loc) (ls : Array Slot), (hx2 : x2 = (if plc w 1 = p then 2 else 0)) → g_I Γ ph s H locs → lv_has ls 2 [(0, .ref (ad 0)), (1, .int p)] → W pg l e (g_rm 3 0 0) s m A below meth cd H locs 0 0 Q (F0 m 34 ls [.int x2, .int (if plc w 0 = p then 1 else 0)]) := by
      intro x2 H locs ls hx2 I hl
      subst hx2
      refine lv_iadd hx hb dX2_thereAt_34 ?_
      exact g_iret S hr hlk I dX2_thereAt_35 (Nat.le_of_ble_eq_true rfl) (Nat.le_of_ble_eq_true rfl) hQ ⟨_, rfl, rfl, rfl⟩
    refine lv_icmp_ne (tgt := 33) hx hb dX2_thereAt_26 (by decide) (fun c_26 => ?_) (fun c_26 => ?_)
    · refine lv_iconst (v := 0) hx hb dX2_thereAt_33 (by decide) ?_
      exact J_34_1 0 _ _ _ (by simp [plc, cX, c_26]) I (lv_sub hl [0, 1] rfl)
    · refine lv_iconst (v := 2) hx hb dX2_thereAt_29 (by decide) ?_
      refine lv_goto (tgt := 34) hx hb dX2_thereAt_30 (by decide) ?_
      exact J_34_1 2 _ _ _ (by simp [plc, cX, c_26]) I (lv_sub hl [0, 1] rfl)
  refine lv_icmp_ne (tgt := 16) hx hb dX2_thereAt_9 (by decide) (fun c_9 => ?_) (fun c_9 => ?_)
  · refine lv_iconst (v := 0) hx hb dX2_thereAt_16 (by decide) ?_
    exact J_17_0 0 _ _ _ (by simp [plc, cX, c_9]) I (lv_sub hl [0, 1] rfl)
  · refine lv_iconst (v := 1) hx hb dX2_thereAt_12 (by decide) ?_
    refine lv_goto (tgt := 17) hx hb dX2_thereAt_13 (by decide) ?_
    exact J_17_0 1 _ _ _ (by simp [plc, cX, c_9]) I (lv_sub hl [0, 1] rfl)

set_option maxHeartbeats 4000000 in
set_option maxRecDepth 100000 in
theorem met_X2_carriedBy (l : Launch) (Γ : g_C) (htr : l.stackTraces = false) (ph : g_H) (i : Nat) (ad na : Nat → Nat) (mc : Nat → Int32) (w : m_w) (c : Int32)  (hW : g_Wl Γ ph i ad na mc w) (hw : WF w) : g_Met l yX2_carriedBy (ws_ yX2_carriedBy cX2_carriedBy 4 (some .int)) (g_rm 4 0 0) Γ [.ref (ad 0), .int c] ph (g_oi (fun rv_ ph' => rv_ = (carr w c) ∧ ph' = ph)) g_no := by
  refine g_start (y := yX2_carriedBy) (cc := cX2_carriedBy) (maxL := 4) (ret := (some .int)) (rm := g_rm 4 0 0) (by decide) (Nat.le_of_ble_eq_true rfl) ?_
  intro pg e s m A below meth cd ls Q hQ S hr hlk hex hnm hK I hl
  have hx := S.1
  have hb := S.2.1
  have hown := S.2.2.2.1
  have hts := S.2.2.2.2
  have S : CallFix pg m cd cX2_carriedBy 4 s A lw_all "CrumblingWall$Wall" := S
  have hl : lv_has ls 4 [(0, .ref (ad 0)), (1, .int c)] := hl
  have hwc := hw.1; have hwl := hw.2.1; have hwa := hw.2.2.1
  refine lv_iconst (v := 0) hx hb dX2_carriedBy_0 (by decide) ?_
  refine lv_istore_n (lv' := [(2, .int 0), (0, .ref (ad 0)), (1, .int c)]) hx hb dX2_carriedBy_1 rfl hl (by decide) rfl (fun ls hl => ?_)
  refine lv_iconst (v := 0) hx hb dX2_carriedBy_2 (by decide) ?_
  refine lv_istore_n (lv' := [(3, .int 0), (2, .int 0), (0, .ref (ad 0)), (1, .int c)]) hx hb dX2_carriedBy_3 rfl hl (by decide) rfl (fun ls hl => ?_)
  have L_4 : ∀ (d : Nat) (k : Nat), (hk : k ≤ nLa w) → nLa w - k < d → ∀ (H : Heap) (locs : List Loc) (ls : Array Slot), g_I Γ ph s H locs → lv_has ls 4 [(0, .ref (ad 0)), (1, .int c), (2, .int (orN k (fun k => if lX w (nI k) 1 = c then bitK k else 0))), (3, .int (nI k))] → W pg l e (g_rm 4 0 0) s m A below meth cd H locs 0 0 Q (F0 m 4 ls []) := by
    intro d
    induction d with
    | zero => intro k hk hd; exact absurd hd (Nat.not_lt_zero _)
    | succ d ih =>
      intro k hk hd H locs ls I hl
      refine lv_iload_n hx hb dX2_carriedBy_4 rfl (lv_at hl 3 rfl) ?_
      refine lv_aload_n hx hb dX2_carriedBy_5 rfl (lv_at hl 0 rfl) ?_
      refine g_get S hK I k_X2 (v := .ref (ad 3)) (g_at.of hW.o0) 1 (by decide) q646 rfl rfl dX2_carriedBy_6 ?_
      refine g_ci (g_runV S hK I (As := []) (rest := [.int (nI k)]) (met_J7_size l Γ ph 103 i (ad 3) (ad 4) (mc 2) (w 104) hW.o3) (cwV 0 hts (lw_V q1353 q994 q3516 q130 q995) rfl rfl rfl (by decide +kernel) ⟨Nat.le_of_ble_eq_true rfl, Nat.le_of_ble_eq_true rfl⟩) (g_recv hK I (g_at.of hW.o3) (ci := 21) rfl) rfl hl.1 rfl (Nat.le_of_ble_eq_true rfl) dX2_carriedBy_9 ⟨Nat.le_of_ble_eq_true rfl, Nat.le_of_ble_eq_true rfl⟩) I (fun r_9 ph1 H locs hp I => ?_)
      obtain ⟨hp, hph⟩ := hp
      rw [hph] at I
      have hp : r_9 = (w 104) := hp
      rw [hp, show (w 104) = (nI (nLa w)) from hw.2.1.1]
      refine lv_icmp_ge (tgt := 49) hx hb dX2_carriedBy_12 (by decide) (fun c_12 => ?_) (fun c_12 => ?_)
      · have n_12 := Int32.not_lt.mpr c_12
        obtain rfl : k = nLa w := by rw [nI_leI (by omega) (by omega)] at c_12; omega
        refine lv_iload_n hx hb dX2_carriedBy_49 rfl (lv_at hl 2 rfl) ?_
        exact g_iret S hr hlk I dX2_carriedBy_50 (Nat.le_of_ble_eq_true rfl) (Nat.le_of_ble_eq_true rfl) hQ ⟨_, rfl, rfl, rfl⟩
      · have n_12 := Int32.not_le.mp c_12
        have hkl : k < nLa w := by rw [nI_leI (by omega) (by omega)] at c_12; omega
        refine lv_iload_n hx hb dX2_carriedBy_15 rfl (lv_at hl 2 rfl) ?_
        refine lv_aload_n hx hb dX2_carriedBy_16 rfl (lv_at hl 0 rfl) ?_
        refine g_get S hK I k_X2 (v := .ref (ad 3)) (g_at.of hW.o0) 1 (by decide) q646 rfl rfl dX2_carriedBy_17 ?_
        refine lv_iload_n hx hb dX2_carriedBy_20 rfl (lv_at hl 3 rfl) ?_
        refine g_cr (g_runV S hK I (As := [.int (nI k)]) (rest := [.int (orN k (fun k => if lX w (nI k) 1 = c then bitK k else 0))]) (met_w_get3 l Γ ph i ad na mc w hW hw k (by omega)) (cwV 1 hts (lw_V q883 q793 q3509 q130 q795) rfl rfl rfl (by decide +kernel) ⟨Nat.le_of_ble_eq_true rfl, Nat.le_of_ble_eq_true rfl⟩) (g_recv hK I (g_at.of hW.o3) (ci := 21) rfl) rfl hl.1 rfl (Nat.le_of_ble_eq_true rfl) dX2_carriedBy_21 ⟨Nat.le_of_ble_eq_true rfl, Nat.le_of_ble_eq_true rfl⟩) I (fun r_21 ph1 H locs hp I => ?_)
        obtain ⟨hp, hph⟩ := hp
        rw [hph] at I
        have hp : r_21 = (ad (20 + k)) := hp
        rw [hp]
        refine g_castS S hK (ci := 10) rfl q1559 (g_recv hK I (g_at.of (hW.la (k := k) (by omega))) (ci := 10) rfl) dX2_carriedBy_24 ?_
        refine g_getN S hK I k_X12 (v := .int (w (105 + 5 * k + 1))) (g_at.of (hW.la (k := k) (by omega))) 2 (by decide) q1576 rfl rfl dX2_carriedBy_27 ?_
        refine lv_iload_n hx hb dX2_carriedBy_30 rfl (lv_at hl 1 rfl) ?_
        have J_41_0 : ∀ (x1 : Int32) (H : Heap) (locs : List Loc) (ls : Array Slot), (hx1 : x1 = (if lX w (nI k) 1 = c then bitK k else 0)) → g_I Γ ph s H locs → lv_has ls 4 [(0, .ref (ad 0)), (1, .int c), (2, .int (orN k (fun k => if lX w (nI k) 1 = c then bitK k else 0))), (3, .int (nI k))] → W pg l e (g_rm 4 0 0) s m A below meth cd H locs 0 0 Q (F0 m 41 ls [.int x1, .int (orN k (fun k => if lX w (nI k) 1 = c then bitK k else 0))]) := by
          intro x1 H locs ls hx1 I hl
          subst hx1
          refine lv_ior hx hb dX2_carriedBy_41 ?_
          refine lv_istore_n (lv' := [(2, .int (orN (k + 1) (fun k => if lX w (nI k) 1 = c then bitK k else 0))), (0, .ref (ad 0)), (1, .int c), (3, .int (nI k))]) hx hb dX2_carriedBy_42 rfl hl (by decide) rfl (fun ls hl => ?_)
          refine lv_iinc (v := nI (k + 1)) (lv' := [(3, .int (nI (k + 1))), (2, .int (orN (k + 1) (fun k => if lX w (nI k) 1 = c then bitK k else 0))), (0, .ref (ad 0)), (1, .int c)]) hx hb dX2_carriedBy_43 hl (k := 3) rfl (nI_1 k) (by decide) rfl (fun ls hl => ?_)
          refine lv_goto (tgt := 4) hx hb dX2_carriedBy_46 (by decide) ?_
          exact ih (k + 1) hkl (by omega) _ _ _ I (lv_sub hl [2, 3, 1, 0] rfl)
        refine lv_icmp_ne (tgt := 40) hx hb dX2_carriedBy_31 (by decide) (fun c_31 => ?_) (fun c_31 => ?_)
        · refine lv_iconst (v := 0) hx hb dX2_carriedBy_40 (by decide) ?_
          exact J_41_0 0 _ _ _ (by rw [lX_kk (by omega)]; simp [bitK, c_31]) I (lv_sub hl [0, 1, 2, 3] rfl)
        · refine lv_iconst (v := 1) hx hb dX2_carriedBy_34 (by decide) ?_
          refine lv_iload_n hx hb dX2_carriedBy_35 rfl (lv_at hl 3 rfl) ?_
          refine lv_ishl hx hb dX2_carriedBy_36 ?_
          refine lv_goto (tgt := 41) hx hb dX2_carriedBy_37 (by decide) ?_
          exact J_41_0 (1 <<< ((nI k) &&& 31)) _ _ _ (by rw [lX_kk (by omega)]; simp [bitK, c_31]) I (lv_sub hl [0, 1, 2, 3] rfl)
  exact L_4 _ 0 (Nat.zero_le _) (Nat.lt_succ_self _) _ _ _ I (lv_sub hl [2, 3, 1, 0] rfl)

set_option maxHeartbeats 4000000 in
set_option maxRecDepth 100000 in
theorem met_X2_lyingAt (l : Launch) (Γ : g_C) (htr : l.stackTraces = false) (ph : g_H) (i : Nat) (ad na : Nat → Nat) (mc : Nat → Int32) (w : m_w) (p : Int32)  (hW : g_Wl Γ ph i ad na mc w) (hw : WF w) : g_Met l yX2_lyingAt (ws_ yX2_lyingAt cX2_lyingAt 4 (some .int)) (g_rm 4 0 0) Γ [.ref (ad 0), .int p] ph (g_oi (fun rv_ ph' => rv_ = (lAt w p) ∧ ph' = ph)) g_no := by
  refine g_start (y := yX2_lyingAt) (cc := cX2_lyingAt) (maxL := 4) (ret := (some .int)) (rm := g_rm 4 0 0) (by decide) (Nat.le_of_ble_eq_true rfl) ?_
  intro pg e s m A below meth cd ls Q hQ S hr hlk hex hnm hK I hl
  have hx := S.1
  have hb := S.2.1
  have hown := S.2.2.2.1
  have hts := S.2.2.2.2
  have S : CallFix pg m cd cX2_lyingAt 4 s A lw_all "CrumblingWall$Wall" := S
  have hl : lv_has ls 4 [(0, .ref (ad 0)), (1, .int p)] := hl
  have hwc := hw.1; have hwl := hw.2.1; have hwa := hw.2.2.1
  refine lv_iconst (v := 0) hx hb dX2_lyingAt_0 (by decide) ?_
  refine lv_istore_n (lv' := [(2, .int 0), (0, .ref (ad 0)), (1, .int p)]) hx hb dX2_lyingAt_1 rfl hl (by decide) rfl (fun ls hl => ?_)
  refine lv_iconst (v := 0) hx hb dX2_lyingAt_2 (by decide) ?_
  refine lv_istore_n (lv' := [(3, .int 0), (2, .int 0), (0, .ref (ad 0)), (1, .int p)]) hx hb dX2_lyingAt_3 rfl hl (by decide) rfl (fun ls hl => ?_)
  have L_4 : ∀ (d : Nat) (k : Nat), (hk : k ≤ nLa w) → nLa w - k < d → ∀ (H : Heap) (locs : List Loc) (ls : Array Slot), g_I Γ ph s H locs → lv_has ls 4 [(0, .ref (ad 0)), (1, .int p), (2, .int (orN k (fun k => if lX w (nI k) 1 < 0 ∧ lX w (nI k) 0 = p then bitK k else 0))), (3, .int (nI k))] → W pg l e (g_rm 4 0 0) s m A below meth cd H locs 0 0 Q (F0 m 4 ls []) := by
    intro d
    induction d with
    | zero => intro k hk hd; exact absurd hd (Nat.not_lt_zero _)
    | succ d ih =>
      intro k hk hd H locs ls I hl
      refine lv_iload_n hx hb dX2_lyingAt_4 rfl (lv_at hl 3 rfl) ?_
      refine lv_aload_n hx hb dX2_lyingAt_5 rfl (lv_at hl 0 rfl) ?_
      refine g_get S hK I k_X2 (v := .ref (ad 3)) (g_at.of hW.o0) 1 (by decide) q646 rfl rfl dX2_lyingAt_6 ?_
      refine g_ci (g_runV S hK I (As := []) (rest := [.int (nI k)]) (met_J7_size l Γ ph 103 i (ad 3) (ad 4) (mc 2) (w 104) hW.o3) (cwV 0 hts (lw_V q1353 q994 q3516 q130 q995) rfl rfl rfl (by decide +kernel) ⟨Nat.le_of_ble_eq_true rfl, Nat.le_of_ble_eq_true rfl⟩) (g_recv hK I (g_at.of hW.o3) (ci := 21) rfl) rfl hl.1 rfl (Nat.le_of_ble_eq_true rfl) dX2_lyingAt_9 ⟨Nat.le_of_ble_eq_true rfl, Nat.le_of_ble_eq_true rfl⟩) I (fun r_9 ph1 H locs hp I => ?_)
      obtain ⟨hp, hph⟩ := hp
      rw [hph] at I
      have hp : r_9 = (w 104) := hp
      rw [hp, show (w 104) = (nI (nLa w)) from hw.2.1.1]
      refine lv_icmp_ge (tgt := 66) hx hb dX2_lyingAt_12 (by decide) (fun c_12 => ?_) (fun c_12 => ?_)
      · have n_12 := Int32.not_lt.mpr c_12
        obtain rfl : k = nLa w := by rw [nI_leI (by omega) (by omega)] at c_12; omega
        refine lv_iload_n hx hb dX2_lyingAt_66 rfl (lv_at hl 2 rfl) ?_
        exact g_iret S hr hlk I dX2_lyingAt_67 (Nat.le_of_ble_eq_true rfl) (Nat.le_of_ble_eq_true rfl) hQ ⟨_, rfl, rfl, rfl⟩
      · have n_12 := Int32.not_le.mp c_12
        have hkl : k < nLa w := by rw [nI_leI (by omega) (by omega)] at c_12; omega
        refine lv_iload_n hx hb dX2_lyingAt_15 rfl (lv_at hl 2 rfl) ?_
        refine lv_aload_n hx hb dX2_lyingAt_16 rfl (lv_at hl 0 rfl) ?_
        refine g_get S hK I k_X2 (v := .ref (ad 3)) (g_at.of hW.o0) 1 (by decide) q646 rfl rfl dX2_lyingAt_17 ?_
        refine lv_iload_n hx hb dX2_lyingAt_20 rfl (lv_at hl 3 rfl) ?_
        refine g_cr (g_runV S hK I (As := [.int (nI k)]) (rest := [.int (orN k (fun k => if lX w (nI k) 1 < 0 ∧ lX w (nI k) 0 = p then bitK k else 0))]) (met_w_get3 l Γ ph i ad na mc w hW hw k (by omega)) (cwV 1 hts (lw_V q883 q793 q3509 q130 q795) rfl rfl rfl (by decide +kernel) ⟨Nat.le_of_ble_eq_true rfl, Nat.le_of_ble_eq_true rfl⟩) (g_recv hK I (g_at.of hW.o3) (ci := 21) rfl) rfl hl.1 rfl (Nat.le_of_ble_eq_true rfl) dX2_lyingAt_21 ⟨Nat.le_of_ble_eq_true rfl, Nat.le_of_ble_eq_true rfl⟩) I (fun r_21 ph1 H locs hp I => ?_)
        obtain ⟨hp, hph⟩ := hp
        rw [hph] at I
        have hp : r_21 = (ad (20 + k)) := hp
        rw [hp]
        refine g_castS S hK (ci := 10) rfl q1559 (g_recv hK I (g_at.of (hW.la (k := k) (by omega))) (ci := 10) rfl) dX2_lyingAt_24 ?_
        refine g_ci (g_runV S hK I (As := []) (rest := [.int (orN k (fun k => if lX w (nI k) 1 < 0 ∧ lX w (nI k) 0 = p then bitK k else 0))]) (met_X12_isCarried l Γ htr ph i ad na mc w k hW hw  (by omega)) (cwV 0 hts (lw_V q1858 q1859 q1860 q162 q1861) rfl rfl rfl (by decide +kernel) ⟨Nat.le_of_ble_eq_true rfl, Nat.le_of_ble_eq_true rfl⟩) (g_recv hK I (g_at.of (hW.la (k := k) (by omega))) (ci := 10) rfl) rfl hl.1 rfl (Nat.le_of_ble_eq_true rfl) dX2_lyingAt_27 ⟨Nat.le_of_ble_eq_true rfl, Nat.le_of_ble_eq_true rfl⟩) I (fun r_27 ph1 H locs hp I => ?_)
        obtain ⟨hp, hph⟩ := hp
        rw [hph] at I
        have hp : r_27 = (b2i (decide (¬ (w (105 + 5 * k + 1)) = -1))) := hp
        rw [hp]
        have J_58_0 : ∀ (x1 : Int32) (H : Heap) (locs : List Loc) (ls : Array Slot), (hx1 : x1 = (if lX w (nI k) 1 < 0 ∧ lX w (nI k) 0 = p then bitK k else 0)) → g_I Γ ph s H locs → lv_has ls 4 [(0, .ref (ad 0)), (1, .int p), (2, .int (orN k (fun k => if lX w (nI k) 1 < 0 ∧ lX w (nI k) 0 = p then bitK k else 0))), (3, .int (nI k))] → W pg l e (g_rm 4 0 0) s m A below meth cd H locs 0 0 Q (F0 m 58 ls [.int x1, .int (orN k (fun k => if lX w (nI k) 1 < 0 ∧ lX w (nI k) 0 = p then bitK k else 0))]) := by
          intro x1 H locs ls hx1 I hl
          subst hx1
          refine lv_ior hx hb dX2_lyingAt_58 ?_
          refine lv_istore_n (lv' := [(2, .int (orN (k + 1) (fun k => if lX w (nI k) 1 < 0 ∧ lX w (nI k) 0 = p then bitK k else 0))), (0, .ref (ad 0)), (1, .int p), (3, .int (nI k))]) hx hb dX2_lyingAt_59 rfl hl (by decide) rfl (fun ls hl => ?_)
          refine lv_iinc (v := nI (k + 1)) (lv' := [(3, .int (nI (k + 1))), (2, .int (orN (k + 1) (fun k => if lX w (nI k) 1 < 0 ∧ lX w (nI k) 0 = p then bitK k else 0))), (0, .ref (ad 0)), (1, .int p)]) hx hb dX2_lyingAt_60 hl (k := 3) rfl (nI_1 k) (by decide) rfl (fun ls hl => ?_)
          refine lv_goto (tgt := 4) hx hb dX2_lyingAt_63 (by decide) ?_
          exact ih (k + 1) hkl (by omega) _ _ _ I (lv_sub hl [2, 3, 1, 0] rfl)
        refine lv_if_ne (tgt := 57) hx hb dX2_lyingAt_30 (by decide) (fun c_30 => ?_) (fun c_30 => ?_)
        · have p_30 := of_decide_eq_true ((b2i_ne0 _).mp c_30)
          have c_30 := p_30
          refine lv_iconst (v := 0) hx hb dX2_lyingAt_57 (by decide) ?_
          exact J_58_0 0 _ _ _ (by rw [lX_kk (by omega), lX_kk (by omega), Nat.add_zero]; simp [laNC (laCar hw hkl), bitK, c_30]) I (lv_sub hl [0, 1, 2, 3] rfl)
        · have p_30 := of_decide_eq_false ((b2i_eq0 _).mp c_30)
          have c_30 := p_30
          refine lv_aload_n hx hb dX2_lyingAt_33 rfl (lv_at hl 0 rfl) ?_
          refine g_get S hK I k_X2 (v := .ref (ad 3)) (g_at.of hW.o0) 1 (by decide) q646 rfl rfl dX2_lyingAt_34 ?_
          refine lv_iload_n hx hb dX2_lyingAt_37 rfl (lv_at hl 3 rfl) ?_
          refine g_cr (g_runV S hK I (As := [.int (nI k)]) (rest := [.int (orN k (fun k => if lX w (nI k) 1 < 0 ∧ lX w (nI k) 0 = p then bitK k else 0))]) (met_w_get3 l Γ ph i ad na mc w hW hw k (by omega)) (cwV 1 hts (lw_V q883 q793 q3509 q130 q795) rfl rfl rfl (by decide +kernel) ⟨Nat.le_of_ble_eq_true rfl, Nat.le_of_ble_eq_true rfl⟩) (g_recv hK I (g_at.of hW.o3) (ci := 21) rfl) rfl hl.1 rfl (Nat.le_of_ble_eq_true rfl) dX2_lyingAt_38 ⟨Nat.le_of_ble_eq_true rfl, Nat.le_of_ble_eq_true rfl⟩) I (fun r_38 ph1 H locs hp I => ?_)
          obtain ⟨hp, hph⟩ := hp
          rw [hph] at I
          have hp : r_38 = (ad (20 + k)) := hp
          rw [hp]
          refine g_castS S hK (ci := 10) rfl q1559 (g_recv hK I (g_at.of (hW.la (k := k) (by omega))) (ci := 10) rfl) dX2_lyingAt_41 ?_
          refine g_getN S hK I k_X12 (v := .int (w (105 + 5 * k))) (g_at.of (hW.la (k := k) (by omega))) 1 (by decide) q1574 rfl rfl dX2_lyingAt_44 ?_
          refine lv_iload_n hx hb dX2_lyingAt_47 rfl (lv_at hl 1 rfl) ?_
          refine lv_icmp_ne (tgt := 57) hx hb dX2_lyingAt_48 (by decide) (fun c_48 => ?_) (fun c_48 => ?_)
          · refine lv_iconst (v := 0) hx hb dX2_lyingAt_57 (by decide) ?_
            exact J_58_0 0 _ _ _ (by rw [lX_kk (by omega), lX_kk (by omega), Nat.add_zero]; simp [laNC (laCar hw hkl), bitK, c_30, c_48]) I (lv_sub hl [0, 1, 2, 3] rfl)
          · refine lv_iconst (v := 1) hx hb dX2_lyingAt_51 (by decide) ?_
            refine lv_iload_n hx hb dX2_lyingAt_52 rfl (lv_at hl 3 rfl) ?_
            refine lv_ishl hx hb dX2_lyingAt_53 ?_
            refine lv_goto (tgt := 58) hx hb dX2_lyingAt_54 (by decide) ?_
            exact J_58_0 (1 <<< ((nI k) &&& 31)) _ _ _ (by rw [lX_kk (by omega), lX_kk (by omega), Nat.add_zero]; simp [laNC (laCar hw hkl), bitK, c_30, c_48]) I (lv_sub hl [0, 1, 2, 3] rfl)
  exact L_4 _ 0 (Nat.zero_le _) (Nat.lt_succ_self _) _ _ _ I (lv_sub hl [2, 3, 1, 0] rfl)

set_option maxHeartbeats 4000000 in
set_option maxRecDepth 100000 in
theorem met_X2_isSecure (l : Launch) (Γ : g_C) (htr : l.stackTraces = false) (ph : g_H) (i : Nat) (ad na : Nat → Nat) (mc : Nat → Int32) (w : m_w) (c : Int32)  (hW : g_Wl Γ ph i ad na mc w) (hw : WF w) (hc : vp_in c 2) : g_Met l yX2_isSecure (ws_ yX2_isSecure cX2_isSecure 3 (some .boolean)) (g_rm 4 0 0) Γ [.ref (ad 0), .int c] ph (g_oi (fun rv_ ph' => rv_ = (b2i (isSe w c)) ∧ ph' = ph)) g_no := by
  refine g_start (y := yX2_isSecure) (cc := cX2_isSecure) (maxL := 3) (ret := (some .boolean)) (rm := g_rm 4 0 0) (by decide) (Nat.le_of_ble_eq_true rfl) ?_
  intro pg e s m A below meth cd ls Q hQ S hr hlk hex hnm hK I hl
  have hx := S.1
  have hb := S.2.1
  have hown := S.2.2.2.1
  have hts := S.2.2.2.2
  have S : CallFix pg m cd cX2_isSecure 3 s A lw_all "CrumblingWall$Wall" := S
  have hl : lv_has ls 3 [(0, .ref (ad 0)), (1, .int c)] := hl
  have hwc := hw.1; have hwl := hw.2.1; have hwa := hw.2.2.1
  have hc2 := (okC hc).1
  have hpl := hw.pl hc
  refine lv_aload_n hx hb dX2_isSecure_0 rfl (lv_at hl 0 rfl) ?_
  refine lv_iload_n hx hb dX2_isSecure_1 rfl (lv_at hl 1 rfl) ?_
  refine g_cr (g_runV S hK I (As := [.int c]) (rest := []) (met_X2_climber l Γ htr ph i ad na mc w c hW hw  hc) (cwV 1 hts (lw_V q782 q783 q784 q121 q785) rfl rfl rfl (by decide +kernel) ⟨Nat.le_of_ble_eq_true rfl, Nat.le_of_ble_eq_true rfl⟩) (g_recv hK I (g_at.of hW.o0) (ci := 1) rfl) rfl hl.1 rfl (Nat.le_of_ble_eq_true rfl) dX2_isSecure_2 ⟨Nat.le_of_ble_eq_true rfl, Nat.le_of_ble_eq_true rfl⟩) I (fun r_2 ph1 H locs hp I => ?_)
  obtain ⟨hp, hph⟩ := hp
  rw [hph] at I
  have hp : r_2 = (ad (10 + c.toNatClampNeg)) := hp
  rw [hp]
  refine lv_astore_n (lv' := [(2, .ref (ad (10 + c.toNatClampNeg))), (0, .ref (ad 0)), (1, .int c)]) hx hb dX2_isSecure_5 rfl hl (by decide) rfl (fun ls hl => ?_)
  refine lv_aload_n hx hb dX2_isSecure_6 rfl (lv_at hl 0 rfl) ?_
  refine g_getN S hK I k_X3 (v := .int (w (125 + 3 * c.toNatClampNeg + 1))) (g_at.of (hW.cl (c := c.toNatClampNeg) (by omega))) 2 (by decide) q215 rfl rfl dX2_isSecure_7 ?_
  refine lv_if_ne (tgt := 45) hx hb dX2_isSecure_10 (by decide) (fun c_10 => ?_) (fun c_10 => ?_)
  · refine lv_iconst (v := 0) hx hb dX2_isSecure_45 (by decide) ?_
    exact g_zret S hr hlk I rfl dX2_isSecure_46 (Nat.le_of_ble_eq_true rfl) (Nat.le_of_ble_eq_true rfl) hQ ⟨_, rfl, (by unfold isSe; rw [show cX w c 1 = w (125 + 3 * c.toNatClampNeg + 1) from rfl]; have e9 : plc w c = w (125 + 3 * c.toNatClampNeg) := rfl; simp [b2i, e9, c_10]), rfl⟩
  · refine lv_aload_n hx hb dX2_isSecure_13 rfl (lv_at hl 0 rfl) ?_
    refine g_getN S hK I k_X3 (v := .int (w (125 + 3 * c.toNatClampNeg))) (g_at.of (hW.cl (c := c.toNatClampNeg) (by omega))) 1 (by decide) q212 rfl rfl dX2_isSecure_14 ?_
    refine lv_iconst (v := (-1)) hx hb dX2_isSecure_17 (by decide) ?_
    refine lv_icmp_eq (tgt := 41) hx hb dX2_isSecure_18 (by decide) (fun c_18 => ?_) (fun c_18 => ?_)
    · refine lv_iconst (v := 1) hx hb dX2_isSecure_41 (by decide) ?_
      refine lv_goto (tgt := 46) hx hb dX2_isSecure_42 (by decide) ?_
      exact g_zret S hr hlk I rfl dX2_isSecure_46 (Nat.le_of_ble_eq_true rfl) (Nat.le_of_ble_eq_true rfl) hQ ⟨_, rfl, (by unfold isSe; rw [show cX w c 1 = w (125 + 3 * c.toNatClampNeg + 1) from rfl]; have e9 : plc w c = w (125 + 3 * c.toNatClampNeg) := rfl; simp [b2i, e9, c_10, c_18]), rfl⟩
    · have hp1 := okHx hw (hpl.resolve_left c_18)
      have hp2 := hp1.1
      refine lv_aload_n hx hb dX2_isSecure_21 rfl (lv_at hl 1 rfl) ?_
      refine g_get S hK I k_X2 (v := .ref (ad 1)) (g_at.of hW.o0) 0 (by decide) q643 rfl rfl dX2_isSecure_22 ?_
      refine lv_aload_n hx hb dX2_isSecure_25 rfl (lv_at hl 0 rfl) ?_
      refine g_getN S hK I k_X3 (v := .int (w (125 + 3 * c.toNatClampNeg))) (g_at.of (hW.cl (c := c.toNatClampNeg) (by omega))) 1 (by decide) q212 rfl rfl dX2_isSecure_26 ?_
      refine g_cr (g_runV S hK I (As := [.int (w (125 + 3 * c.toNatClampNeg))]) (rest := []) (by have z := (met_w_get1 l Γ ph i ad na mc w hW hw ((plc w c).toNatClampNeg) hp1.1); rw [hp1.2] at z; exact z) (cwV 1 hts (lw_V q883 q793 q3509 q130 q795) rfl rfl rfl (by decide +kernel) ⟨Nat.le_of_ble_eq_true rfl, Nat.le_of_ble_eq_true rfl⟩) (g_recv hK I (g_at.of hW.o1) (ci := 21) rfl) rfl hl.1 rfl (Nat.le_of_ble_eq_true rfl) dX2_isSecure_29 ⟨Nat.le_of_ble_eq_true rfl, Nat.le_of_ble_eq_true rfl⟩) I (fun r_29 ph1 H locs hp I => ?_)
      obtain ⟨hp, hph⟩ := hp
      rw [hph] at I
      have hp : r_29 = (ad (30 + ((plc w c).toNatClampNeg))) := hp
      rw [hp]
      refine h_cast S hK I (ho_or hW hw (k := ((plc w c).toNatClampNeg)) (by omega)) q1389 hca_Hold dX2_isSecure_32 ?_
      refine g_ci (by obtain ⟨fs9, h9⟩ := ho_or hW hw (k := ((plc w c).toNatClampNeg)) (by omega); rcases h9 with ⟨e9, r9⟩ | ⟨e9, r9⟩ | ⟨e9, r9⟩ | ⟨e9, r9⟩; exact (g_runU S hK I (As := []) (rest := []) (met_X7_hasCrumbled l Γ htr ph i ad na mc w ((plc w c).toNatClampNeg) hW hw  (by omega)) (g_cwD (n := 0) hts q1373 q157 (by decide) (by decide +kernel) q1920 q1368 (va_Decl.of (hts _ q1367) (hts _ q1373)) q1370 q1367 ⟨Nat.le_of_ble_eq_true rfl, Nat.le_of_ble_eq_true rfl⟩) (g_recv hK I (g_at.of r9) (ci := 7) rfl) rfl hl.1 rfl (Nat.le_of_ble_eq_true rfl) dX2_isSecure_35 ⟨Nat.le_of_ble_eq_true rfl, Nat.le_of_ble_eq_true rfl⟩); exact (g_runU S hK I (As := []) (rest := []) (met_X7_hasCrumbled l Γ htr ph i ad na mc w ((plc w c).toNatClampNeg) hW hw  (by omega)) (g_cwD (n := 0) hts q1373 q157 (by decide) (by decide +kernel) q1920 q1368 (va_Decl.of (hts _ q1367) (hts _ q1373)) q1372 q1367 ⟨Nat.le_of_ble_eq_true rfl, Nat.le_of_ble_eq_true rfl⟩) (g_recv hK I (g_at.of r9) (ci := 9) rfl) rfl hl.1 rfl (Nat.le_of_ble_eq_true rfl) dX2_isSecure_35 ⟨Nat.le_of_ble_eq_true rfl, Nat.le_of_ble_eq_true rfl⟩); exact (g_runU S hK I (As := []) (rest := []) (met_X7_hasCrumbled l Γ htr ph i ad na mc w ((plc w c).toNatClampNeg) hW hw  (by omega)) (g_cwD (n := 0) hts q1373 q157 (by decide) (by decide +kernel) q1920 q1368 (va_Decl.of (hts _ q1367) (hts _ q1373)) q1371 q1367 ⟨Nat.le_of_ble_eq_true rfl, Nat.le_of_ble_eq_true rfl⟩) (g_recv hK I (g_at.of r9) (ci := 8) rfl) rfl hl.1 rfl (Nat.le_of_ble_eq_true rfl) dX2_isSecure_35 ⟨Nat.le_of_ble_eq_true rfl, Nat.le_of_ble_eq_true rfl⟩); exact (g_runU S hK I (As := []) (rest := []) (met_X7_hasCrumbled l Γ htr ph i ad na mc w ((plc w c).toNatClampNeg) hW hw  (by omega)) (g_cwD (n := 0) hts q1373 q157 (by decide) (by decide +kernel) q1920 q1368 (va_Decl.of (hts _ q1367) (hts _ q1373)) q1369 q1367 ⟨Nat.le_of_ble_eq_true rfl, Nat.le_of_ble_eq_true rfl⟩) (g_recv hK I (g_at.of r9) (ci := 6) rfl) rfl hl.1 rfl (Nat.le_of_ble_eq_true rfl) dX2_isSecure_35 ⟨Nat.le_of_ble_eq_true rfl, Nat.le_of_ble_eq_true rfl⟩)) I (fun r_35 ph1 H locs hp I => ?_)
      obtain ⟨hp, hph⟩ := hp
      rw [hph] at I
      have hp : r_35 = (b2i (hasCr w (nI ((plc w c).toNatClampNeg)))) := hp
      rw [hp]
      refine lv_if_ne (tgt := 45) hx hb dX2_isSecure_38 (by decide) (fun c_38 => ?_) (fun c_38 => ?_)
      · have p_38 := (b2i_ne0 _).mp c_38
        refine lv_iconst (v := 0) hx hb dX2_isSecure_45 (by decide) ?_
        exact g_zret S hr hlk I rfl dX2_isSecure_46 (Nat.le_of_ble_eq_true rfl) (Nat.le_of_ble_eq_true rfl) hQ ⟨_, rfl, (by unfold isSe; rw [show cX w c 1 = w (125 + 3 * c.toNatClampNeg + 1) from rfl]; have e9 : plc w c = w (125 + 3 * c.toNatClampNeg) := rfl; rw [hp1.2, e9] at c_38; simp [b2i] at c_38; simp [b2i, e9, c_10, c_18, p_38]; exact c_38), rfl⟩
      · have p_38 := (b2i_eq0 _).mp c_38
        refine lv_iconst (v := 1) hx hb dX2_isSecure_41 (by decide) ?_
        refine lv_goto (tgt := 46) hx hb dX2_isSecure_42 (by decide) ?_
        exact g_zret S hr hlk I rfl dX2_isSecure_46 (Nat.le_of_ble_eq_true rfl) (Nat.le_of_ble_eq_true rfl) hQ ⟨_, rfl, (by unfold isSe; rw [show cX w c 1 = w (125 + 3 * c.toNatClampNeg + 1) from rfl]; have e9 : plc w c = w (125 + 3 * c.toNatClampNeg) := rfl; rw [hp1.2, e9] at c_38; simp [b2i] at c_38; simp [b2i, e9, c_10, c_18, p_38]; exact c_38), rfl⟩

set_option maxHeartbeats 4000000 in
set_option maxRecDepth 100000 in
theorem met_X2_isWorse (l : Launch) (Γ : g_C) (htr : l.stackTraces = false) (ph : g_H) (i : Nat) (ad na : Nat → Nat) (mc : Nat → Int32) (w : m_w) (c v : Int32)  (hW : g_Wl Γ ph i ad na mc w) (hw : WF w) (hc : vp_in c 2) : g_Met l yX2_isWorse (ws_ yX2_isWorse cX2_isWorse 3 (some .boolean)) (g_rm 3 0 0) Γ [.ref (ad 0), .int c, .int v] ph (g_oi (fun rv_ ph' => rv_ = (b2i (!decide (cX w c 1 = 0) && !decide (cX w c 1 = v))) ∧ ph' = ph)) g_no := by
  refine g_start (y := yX2_isWorse) (cc := cX2_isWorse) (maxL := 3) (ret := (some .boolean)) (rm := g_rm 3 0 0) (by decide) (Nat.le_of_ble_eq_true rfl) ?_
  intro pg e s m A below meth cd ls Q hQ S hr hlk hex hnm hK I hl
  have hx := S.1
  have hb := S.2.1
  have hown := S.2.2.2.1
  have hts := S.2.2.2.2
  have S : CallFix pg m cd cX2_isWorse 3 s A lw_all "CrumblingWall$Wall" := S
  have hl : lv_has ls 3 [(0, .ref (ad 0)), (1, .int c), (2, .int v)] := hl
  have hwc := hw.1; have hwl := hw.2.1; have hwa := hw.2.2.1
  have hc2 := (okC hc).1
  refine lv_aload_n hx hb dX2_isWorse_0 rfl (lv_at hl 0 rfl) ?_
  refine lv_iload_n hx hb dX2_isWorse_1 rfl (lv_at hl 1 rfl) ?_
  refine g_cr (g_runV S hK I (As := [.int c]) (rest := []) (met_X2_climber l Γ htr ph i ad na mc w c hW hw  hc) (cwV 1 hts (lw_V q782 q783 q784 q121 q785) rfl rfl rfl (by decide +kernel) ⟨Nat.le_of_ble_eq_true rfl, Nat.le_of_ble_eq_true rfl⟩) (g_recv hK I (g_at.of hW.o0) (ci := 1) rfl) rfl hl.1 rfl (Nat.le_of_ble_eq_true rfl) dX2_isWorse_2 ⟨Nat.le_of_ble_eq_true rfl, Nat.le_of_ble_eq_true rfl⟩) I (fun r_2 ph1 H locs hp I => ?_)
  obtain ⟨hp, hph⟩ := hp
  rw [hph] at I
  have hp : r_2 = (ad (10 + c.toNatClampNeg)) := hp
  rw [hp]
  refine g_getN S hK I k_X3 (v := .int (w (125 + 3 * c.toNatClampNeg + 1))) (g_at.of (hW.cl (c := c.toNatClampNeg) (by omega))) 2 (by decide) q215 rfl rfl dX2_isWorse_5 ?_
  refine lv_if_eq (tgt := 27) hx hb dX2_isWorse_8 (by decide) (fun c_8 => ?_) (fun c_8 => ?_)
  · refine lv_iconst (v := 0) hx hb dX2_isWorse_27 (by decide) ?_
    exact g_zret S hr hlk I rfl dX2_isWorse_28 (Nat.le_of_ble_eq_true rfl) (Nat.le_of_ble_eq_true rfl) hQ ⟨_, rfl, (by simp [b2i, show cX w c 1 = w (125 + 3 * c.toNatClampNeg + 1) from rfl, c_8]), rfl⟩
  · refine lv_aload_n hx hb dX2_isWorse_11 rfl (lv_at hl 0 rfl) ?_
    refine lv_iload_n hx hb dX2_isWorse_12 rfl (lv_at hl 1 rfl) ?_
    refine g_cr (g_runV S hK I (As := [.int c]) (rest := []) (met_X2_climber l Γ htr ph i ad na mc w c hW hw  hc) (cwV 1 hts (lw_V q782 q783 q784 q121 q785) rfl rfl rfl (by decide +kernel) ⟨Nat.le_of_ble_eq_true rfl, Nat.le_of_ble_eq_true rfl⟩) (g_recv hK I (g_at.of hW.o0) (ci := 1) rfl) rfl hl.1 rfl (Nat.le_of_ble_eq_true rfl) dX2_isWorse_13 ⟨Nat.le_of_ble_eq_true rfl, Nat.le_of_ble_eq_true rfl⟩) I (fun r_13 ph1 H locs hp I => ?_)
    obtain ⟨hp, hph⟩ := hp
    rw [hph] at I
    have hp : r_13 = (ad (10 + c.toNatClampNeg)) := hp
    rw [hp]
    refine g_getN S hK I k_X3 (v := .int (w (125 + 3 * c.toNatClampNeg + 1))) (g_at.of (hW.cl (c := c.toNatClampNeg) (by omega))) 2 (by decide) q215 rfl rfl dX2_isWorse_16 ?_
    refine lv_iload_n hx hb dX2_isWorse_19 rfl (lv_at hl 2 rfl) ?_
    refine lv_icmp_eq (tgt := 27) hx hb dX2_isWorse_20 (by decide) (fun c_20 => ?_) (fun c_20 => ?_)
    · refine lv_iconst (v := 0) hx hb dX2_isWorse_27 (by decide) ?_
      exact g_zret S hr hlk I rfl dX2_isWorse_28 (Nat.le_of_ble_eq_true rfl) (Nat.le_of_ble_eq_true rfl) hQ ⟨_, rfl, (by simp [b2i, show cX w c 1 = w (125 + 3 * c.toNatClampNeg + 1) from rfl, c_8, c_20]), rfl⟩
    · refine lv_iconst (v := 1) hx hb dX2_isWorse_23 (by decide) ?_
      refine lv_goto (tgt := 28) hx hb dX2_isWorse_24 (by decide) ?_
      exact g_zret S hr hlk I rfl dX2_isWorse_28 (Nat.le_of_ble_eq_true rfl) (Nat.le_of_ble_eq_true rfl) hQ ⟨_, rfl, (by simp [b2i, show cX w c 1 = w (125 + 3 * c.toNatClampNeg + 1) from rfl, c_8, c_20]), rfl⟩


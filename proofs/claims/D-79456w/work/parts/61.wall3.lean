/-! REFUSALS: thrown; what a climber may not do -/
set_option maxRecDepth 100000
set_option maxHeartbeats 4000000 in
set_option maxRecDepth 100000 in
theorem met_J8_init_4_X6 (l : Launch) (Γ : g_C) (ph : g_H) (j i q : Nat)   (hq : ph j i q = some (.inr (5, [.null, .null, .null, .null, .null, .int 0, .int 0, .int 0]))) : g_Met l yJ8_init_4 (ws_ yJ8_init_4 cJ8_init_4 5 none) (g_rm 1 0 0) Γ [.ref q, .null, .null, .int 0, .int 0] (ph) (g_ov (fun ph' => ph' j i q = some (.inr (5, [.null, .null, .null, .null, .null, .int 0, .int 0, .int 0])) ∧ g_fr [(j, i)] ph ph')) g_no := by
  refine g_start (y := yJ8_init_4) (cc := cJ8_init_4) (maxL := 5) (ret := none) (rm := g_rm 1 0 0) (by decide) (Nat.le_of_ble_eq_true rfl) ?_
  intro p e s m A below meth c ls Q hQ S hr hlk hex hnm hK I hl
  have hx := S.1
  have hb := S.2.1
  have hown := S.2.2.2.1
  have hts := S.2.2.2.2
  have S : CallFix p m c cJ8_init_4 5 s A lw_all "java/lang/Throwable" := S
  have hl : lv_has ls 5 [(0, .ref q), (1, .null), (2, .null), (3, .int 0), (4, .int 0)] := hl
  refine lv_aload_n hx hb dJ8_init_4_0 rfl (lv_at hl 0 rfl) ?_
  refine g_obj S hl.1 q299 dJ8_init_4_1 (Nat.le_of_ble_eq_true rfl) (Nat.le_of_ble_eq_true rfl) ?_
  refine lv_aload_n hx hb dJ8_init_4_4 rfl (lv_at hl 0 rfl) ?_
  refine lv_aload_n hx hb dJ8_init_4_5 rfl (lv_at hl 0 rfl) ?_
  refine g_put S hK I k_X6 (v := .ref q) hq 0 (by decide) q559 rfl rfl rfl rfl (Nat.le_of_ble_eq_true rfl) dJ8_init_4_6 (fun H locs I => ?_)
  have I : g_I Γ (gput ph j i q (.inr (5, [.ref q, .null, .null, .null, .null, .int 0, .int 0, .int 0]))) s _ _ := I
  refine lv_aload_n hx hb dJ8_init_4_9 rfl (lv_at hl 0 rfl) ?_
  refine g_getZ S hK.2.2.2.2.1.2.1 I q300 dJ8_init_4_10 (fun rz10 => ?_)
  refine g_put S hK I k_X6 (v := va_rf rz10) (gput_self _ _ _ _ _) 1 (by decide) q560 rfl rfl (rf_narA _ _) (rf_fitA _ _) (Nat.le_of_ble_eq_true rfl) dJ8_init_4_13 (fun H locs I => ?_)
  have I : g_I Γ (gput (gput ph j i q (.inr (5, [.ref q, .null, .null, .null, .null, .int 0, .int 0, .int 0]))) j i q (.inr (5, [.ref q, va_rf rz10, .null, .null, .null, .int 0, .int 0, .int 0]))) s _ _ := I
  refine lv_aload_n hx hb dJ8_init_4_16 rfl (lv_at hl 0 rfl) ?_
  refine g_getZ S hK.2.2.2.2.1.2.2 I q302 dJ8_init_4_17 (fun rz17 => ?_)
  refine g_put S hK I k_X6 (v := va_rf rz17) (gput_self _ _ _ _ _) 2 (by decide) q561 rfl rfl (rf_nar _ _) (rf_fit _ _) (Nat.le_of_ble_eq_true rfl) dJ8_init_4_20 (fun H locs I => ?_)
  have I : g_I Γ (gput (gput (gput ph j i q (.inr (5, [.ref q, .null, .null, .null, .null, .int 0, .int 0, .int 0]))) j i q (.inr (5, [.ref q, va_rf rz10, .null, .null, .null, .int 0, .int 0, .int 0]))) j i q (.inr (5, [.ref q, va_rf rz10, va_rf rz17, .null, .null, .int 0, .int 0, .int 0]))) s _ _ := I
  refine lv_iload hx hb dJ8_init_4_23 (lv_at hl 4 rfl) ?_
  refine lv_if_eq (tgt := 36) hx hb dJ8_init_4_25 (by decide) (fun _ => ?_) (fun c_25 => absurd c_25 (by decide))
  refine lv_aload_n hx hb dJ8_init_4_36 rfl (lv_at hl 0 rfl) ?_
  refine lv_null hx hb dJ8_init_4_37 ?_
  refine g_put S hK I k_X6 (v := .null) (gput_self _ _ _ _ _) 1 (by decide) q560 rfl rfl rfl rfl (Nat.le_of_ble_eq_true rfl) dJ8_init_4_38 (fun H locs I => ?_)
  have I : g_I Γ (gput (gput (gput (gput ph j i q (.inr (5, [.ref q, .null, .null, .null, .null, .int 0, .int 0, .int 0]))) j i q (.inr (5, [.ref q, va_rf rz10, .null, .null, .null, .int 0, .int 0, .int 0]))) j i q (.inr (5, [.ref q, va_rf rz10, va_rf rz17, .null, .null, .int 0, .int 0, .int 0]))) j i q (.inr (5, [.ref q, .null, va_rf rz17, .null, .null, .int 0, .int 0, .int 0]))) s _ _ := I
  refine lv_aload_n hx hb dJ8_init_4_41 rfl (lv_at hl 0 rfl) ?_
  refine lv_aload_nN hx hb dJ8_init_4_42 rfl (lv_at hl 1 rfl) ?_
  refine g_put S hK I k_X6 (v := .null) (gput_self _ _ _ _ _) 3 (by decide) q558 rfl rfl rfl rfl (Nat.le_of_ble_eq_true rfl) dJ8_init_4_43 (fun H locs I => ?_)
  have I : g_I Γ (gput (gput (gput (gput (gput ph j i q (.inr (5, [.ref q, .null, .null, .null, .null, .int 0, .int 0, .int 0]))) j i q (.inr (5, [.ref q, va_rf rz10, .null, .null, .null, .int 0, .int 0, .int 0]))) j i q (.inr (5, [.ref q, va_rf rz10, va_rf rz17, .null, .null, .int 0, .int 0, .int 0]))) j i q (.inr (5, [.ref q, .null, va_rf rz17, .null, .null, .int 0, .int 0, .int 0]))) j i q (.inr (5, [.ref q, .null, va_rf rz17, .null, .null, .int 0, .int 0, .int 0]))) s _ _ := I
  refine lv_aload_n hx hb dJ8_init_4_46 rfl (lv_at hl 0 rfl) ?_
  refine lv_aload_nN hx hb dJ8_init_4_47 rfl (lv_at hl 2 rfl) ?_
  refine g_put S hK I k_X6 (v := .null) (gput_self _ _ _ _ _) 0 (by decide) q559 rfl rfl rfl rfl (Nat.le_of_ble_eq_true rfl) dJ8_init_4_48 (fun H locs I => ?_)
  have I : g_I Γ (gput (gput (gput (gput (gput (gput ph j i q (.inr (5, [.ref q, .null, .null, .null, .null, .int 0, .int 0, .int 0]))) j i q (.inr (5, [.ref q, va_rf rz10, .null, .null, .null, .int 0, .int 0, .int 0]))) j i q (.inr (5, [.ref q, va_rf rz10, va_rf rz17, .null, .null, .int 0, .int 0, .int 0]))) j i q (.inr (5, [.ref q, .null, va_rf rz17, .null, .null, .int 0, .int 0, .int 0]))) j i q (.inr (5, [.ref q, .null, va_rf rz17, .null, .null, .int 0, .int 0, .int 0]))) j i q (.inr (5, [.null, .null, va_rf rz17, .null, .null, .int 0, .int 0, .int 0]))) s _ _ := I
  refine lv_iload_n hx hb dJ8_init_4_51 rfl (lv_at hl 3 rfl) ?_
  refine lv_if_ne (tgt := 60) hx hb dJ8_init_4_52 (by decide) (fun c_52 => absurd c_52 (by decide)) (fun _ => ?_)
  refine lv_aload_n hx hb dJ8_init_4_55 rfl (lv_at hl 0 rfl) ?_
  refine lv_null hx hb dJ8_init_4_56 ?_
  refine g_put S hK I k_X6 (v := .null) (gput_self _ _ _ _ _) 2 (by decide) q561 rfl rfl rfl rfl (Nat.le_of_ble_eq_true rfl) dJ8_init_4_57 (fun H locs I => ?_)
  have I : g_I Γ (gput (gput (gput (gput (gput (gput (gput ph j i q (.inr (5, [.ref q, .null, .null, .null, .null, .int 0, .int 0, .int 0]))) j i q (.inr (5, [.ref q, va_rf rz10, .null, .null, .null, .int 0, .int 0, .int 0]))) j i q (.inr (5, [.ref q, va_rf rz10, va_rf rz17, .null, .null, .int 0, .int 0, .int 0]))) j i q (.inr (5, [.ref q, .null, va_rf rz17, .null, .null, .int 0, .int 0, .int 0]))) j i q (.inr (5, [.ref q, .null, va_rf rz17, .null, .null, .int 0, .int 0, .int 0]))) j i q (.inr (5, [.null, .null, va_rf rz17, .null, .null, .int 0, .int 0, .int 0]))) j i q (.inr (5, [.null, .null, .null, .null, .null, .int 0, .int 0, .int 0]))) s _ _ := I
  exact g_vret S hr hlk I dJ8_init_4_60 (Nat.le_of_ble_eq_true rfl) (Nat.le_of_ble_eq_true rfl) hQ ⟨rfl, ⟨(gput_self _ _ _ _ _), (g_fr.put (g_fr.put (g_fr.put (g_fr.put (g_fr.put (g_fr.put (g_fr.put (g_fr.refl _ _) (by simp)) (by simp)) (by simp)) (by simp)) (by simp)) (by simp)) (by simp))⟩⟩

set_option maxHeartbeats 4000000 in
set_option maxRecDepth 100000 in
theorem met_J9_init_4_X6 (l : Launch) (Γ : g_C) (ph : g_H) (j i q : Nat)   (hq : ph j i q = some (.inr (5, [.null, .null, .null, .null, .null, .int 0, .int 0, .int 0]))) : g_Met l yJ9_init_4 (ws_ yJ9_init_4 cJ9_init_4 5 none) (g_rm 2 0 0) Γ [.ref q, .null, .null, .int 0, .int 0] (ph) (g_ov (fun ph' => ph' j i q = some (.inr (5, [.null, .null, .null, .null, .null, .int 0, .int 0, .int 0])) ∧ g_fr [(j, i)] ph ph')) g_no := by
  refine g_start (y := yJ9_init_4) (cc := cJ9_init_4) (maxL := 5) (ret := none) (rm := g_rm 2 0 0) (by decide) (Nat.le_of_ble_eq_true rfl) ?_
  intro p e s m A below meth c ls Q hQ S hr hlk hex hnm hK I hl
  have hx := S.1
  have hb := S.2.1
  have hown := S.2.2.2.1
  have hts := S.2.2.2.2
  have S : CallFix p m c cJ9_init_4 5 s A lw_all "java/lang/Exception" := S
  have hl : lv_has ls 5 [(0, .ref q), (1, .null), (2, .null), (3, .int 0), (4, .int 0)] := hl
  refine lv_aload_n hx hb dJ9_init_4_0 rfl (lv_at hl 0 rfl) ?_
  refine lv_aload_nN hx hb dJ9_init_4_1 rfl (lv_at hl 1 rfl) ?_
  refine lv_aload_nN hx hb dJ9_init_4_2 rfl (lv_at hl 2 rfl) ?_
  refine lv_iload_n hx hb dJ9_init_4_3 rfl (lv_at hl 3 rfl) ?_
  refine lv_iload hx hb dJ9_init_4_4 (lv_at hl 4 rfl) ?_
  refine g_cv (g_runI S hK I (As := [.null, .null, .int 0, .int 0]) (rest := []) (met_J8_init_4_X6 l Γ ph j i q hq) (cwI 4 hts (lw_meth q1687) rfl rfl rfl (hts _ q131) (hts _ q1685) (hts _ q1686) rfl (by decide +kernel) ⟨Nat.le_of_ble_eq_true rfl, Nat.le_of_ble_eq_true rfl⟩) rfl hl.1 rfl (Nat.le_of_ble_eq_true rfl) dJ9_init_4_6 ⟨Nat.le_of_ble_eq_true rfl, Nat.le_of_ble_eq_true rfl⟩) I (fun ph1 H locs hp I => ?_)
  exact g_vret S hr hlk I dJ9_init_4_9 (Nat.le_of_ble_eq_true rfl) (Nat.le_of_ble_eq_true rfl) hQ ⟨rfl, hp⟩

set_option maxHeartbeats 4000000 in
set_option maxRecDepth 100000 in
theorem met_J8_init_4_X18 (l : Launch) (Γ : g_C) (ph : g_H) (j i q : Nat)   (hq : ph j i q = some (.inr (14, [.null, .null, .null, .null, .null, .int 0, .int 0]))) : g_Met l yJ8_init_4 (ws_ yJ8_init_4 cJ8_init_4 5 none) (g_rm 1 0 0) Γ [.ref q, .null, .null, .int 0, .int 0] (ph) (g_ov (fun ph' => ph' j i q = some (.inr (14, [.null, .null, .null, .null, .null, .int 0, .int 0])) ∧ g_fr [(j, i)] ph ph')) g_no := by
  refine g_start (y := yJ8_init_4) (cc := cJ8_init_4) (maxL := 5) (ret := none) (rm := g_rm 1 0 0) (by decide) (Nat.le_of_ble_eq_true rfl) ?_
  intro p e s m A below meth c ls Q hQ S hr hlk hex hnm hK I hl
  have hx := S.1
  have hb := S.2.1
  have hown := S.2.2.2.1
  have hts := S.2.2.2.2
  have S : CallFix p m c cJ8_init_4 5 s A lw_all "java/lang/Throwable" := S
  have hl : lv_has ls 5 [(0, .ref q), (1, .null), (2, .null), (3, .int 0), (4, .int 0)] := hl
  refine lv_aload_n hx hb dJ8_init_4_0 rfl (lv_at hl 0 rfl) ?_
  refine g_obj S hl.1 q299 dJ8_init_4_1 (Nat.le_of_ble_eq_true rfl) (Nat.le_of_ble_eq_true rfl) ?_
  refine lv_aload_n hx hb dJ8_init_4_4 rfl (lv_at hl 0 rfl) ?_
  refine lv_aload_n hx hb dJ8_init_4_5 rfl (lv_at hl 0 rfl) ?_
  refine g_put S hK I k_X18 (v := .ref q) hq 0 (by decide) q559 rfl rfl rfl rfl (Nat.le_of_ble_eq_true rfl) dJ8_init_4_6 (fun H locs I => ?_)
  have I : g_I Γ (gput ph j i q (.inr (14, [.ref q, .null, .null, .null, .null, .int 0, .int 0]))) s _ _ := I
  refine lv_aload_n hx hb dJ8_init_4_9 rfl (lv_at hl 0 rfl) ?_
  refine g_getZ S hK.2.2.2.2.1.2.1 I q300 dJ8_init_4_10 (fun rz10 => ?_)
  refine g_put S hK I k_X18 (v := va_rf rz10) (gput_self _ _ _ _ _) 1 (by decide) q560 rfl rfl (rf_narA _ _) (rf_fitA _ _) (Nat.le_of_ble_eq_true rfl) dJ8_init_4_13 (fun H locs I => ?_)
  have I : g_I Γ (gput (gput ph j i q (.inr (14, [.ref q, .null, .null, .null, .null, .int 0, .int 0]))) j i q (.inr (14, [.ref q, va_rf rz10, .null, .null, .null, .int 0, .int 0]))) s _ _ := I
  refine lv_aload_n hx hb dJ8_init_4_16 rfl (lv_at hl 0 rfl) ?_
  refine g_getZ S hK.2.2.2.2.1.2.2 I q302 dJ8_init_4_17 (fun rz17 => ?_)
  refine g_put S hK I k_X18 (v := va_rf rz17) (gput_self _ _ _ _ _) 2 (by decide) q561 rfl rfl (rf_nar _ _) (rf_fit _ _) (Nat.le_of_ble_eq_true rfl) dJ8_init_4_20 (fun H locs I => ?_)
  have I : g_I Γ (gput (gput (gput ph j i q (.inr (14, [.ref q, .null, .null, .null, .null, .int 0, .int 0]))) j i q (.inr (14, [.ref q, va_rf rz10, .null, .null, .null, .int 0, .int 0]))) j i q (.inr (14, [.ref q, va_rf rz10, va_rf rz17, .null, .null, .int 0, .int 0]))) s _ _ := I
  refine lv_iload hx hb dJ8_init_4_23 (lv_at hl 4 rfl) ?_
  refine lv_if_eq (tgt := 36) hx hb dJ8_init_4_25 (by decide) (fun _ => ?_) (fun c_25 => absurd c_25 (by decide))
  refine lv_aload_n hx hb dJ8_init_4_36 rfl (lv_at hl 0 rfl) ?_
  refine lv_null hx hb dJ8_init_4_37 ?_
  refine g_put S hK I k_X18 (v := .null) (gput_self _ _ _ _ _) 1 (by decide) q560 rfl rfl rfl rfl (Nat.le_of_ble_eq_true rfl) dJ8_init_4_38 (fun H locs I => ?_)
  have I : g_I Γ (gput (gput (gput (gput ph j i q (.inr (14, [.ref q, .null, .null, .null, .null, .int 0, .int 0]))) j i q (.inr (14, [.ref q, va_rf rz10, .null, .null, .null, .int 0, .int 0]))) j i q (.inr (14, [.ref q, va_rf rz10, va_rf rz17, .null, .null, .int 0, .int 0]))) j i q (.inr (14, [.ref q, .null, va_rf rz17, .null, .null, .int 0, .int 0]))) s _ _ := I
  refine lv_aload_n hx hb dJ8_init_4_41 rfl (lv_at hl 0 rfl) ?_
  refine lv_aload_nN hx hb dJ8_init_4_42 rfl (lv_at hl 1 rfl) ?_
  refine g_put S hK I k_X18 (v := .null) (gput_self _ _ _ _ _) 3 (by decide) q558 rfl rfl rfl rfl (Nat.le_of_ble_eq_true rfl) dJ8_init_4_43 (fun H locs I => ?_)
  have I : g_I Γ (gput (gput (gput (gput (gput ph j i q (.inr (14, [.ref q, .null, .null, .null, .null, .int 0, .int 0]))) j i q (.inr (14, [.ref q, va_rf rz10, .null, .null, .null, .int 0, .int 0]))) j i q (.inr (14, [.ref q, va_rf rz10, va_rf rz17, .null, .null, .int 0, .int 0]))) j i q (.inr (14, [.ref q, .null, va_rf rz17, .null, .null, .int 0, .int 0]))) j i q (.inr (14, [.ref q, .null, va_rf rz17, .null, .null, .int 0, .int 0]))) s _ _ := I
  refine lv_aload_n hx hb dJ8_init_4_46 rfl (lv_at hl 0 rfl) ?_
  refine lv_aload_nN hx hb dJ8_init_4_47 rfl (lv_at hl 2 rfl) ?_
  refine g_put S hK I k_X18 (v := .null) (gput_self _ _ _ _ _) 0 (by decide) q559 rfl rfl rfl rfl (Nat.le_of_ble_eq_true rfl) dJ8_init_4_48 (fun H locs I => ?_)
  have I : g_I Γ (gput (gput (gput (gput (gput (gput ph j i q (.inr (14, [.ref q, .null, .null, .null, .null, .int 0, .int 0]))) j i q (.inr (14, [.ref q, va_rf rz10, .null, .null, .null, .int 0, .int 0]))) j i q (.inr (14, [.ref q, va_rf rz10, va_rf rz17, .null, .null, .int 0, .int 0]))) j i q (.inr (14, [.ref q, .null, va_rf rz17, .null, .null, .int 0, .int 0]))) j i q (.inr (14, [.ref q, .null, va_rf rz17, .null, .null, .int 0, .int 0]))) j i q (.inr (14, [.null, .null, va_rf rz17, .null, .null, .int 0, .int 0]))) s _ _ := I
  refine lv_iload_n hx hb dJ8_init_4_51 rfl (lv_at hl 3 rfl) ?_
  refine lv_if_ne (tgt := 60) hx hb dJ8_init_4_52 (by decide) (fun c_52 => absurd c_52 (by decide)) (fun _ => ?_)
  refine lv_aload_n hx hb dJ8_init_4_55 rfl (lv_at hl 0 rfl) ?_
  refine lv_null hx hb dJ8_init_4_56 ?_
  refine g_put S hK I k_X18 (v := .null) (gput_self _ _ _ _ _) 2 (by decide) q561 rfl rfl rfl rfl (Nat.le_of_ble_eq_true rfl) dJ8_init_4_57 (fun H locs I => ?_)
  have I : g_I Γ (gput (gput (gput (gput (gput (gput (gput ph j i q (.inr (14, [.ref q, .null, .null, .null, .null, .int 0, .int 0]))) j i q (.inr (14, [.ref q, va_rf rz10, .null, .null, .null, .int 0, .int 0]))) j i q (.inr (14, [.ref q, va_rf rz10, va_rf rz17, .null, .null, .int 0, .int 0]))) j i q (.inr (14, [.ref q, .null, va_rf rz17, .null, .null, .int 0, .int 0]))) j i q (.inr (14, [.ref q, .null, va_rf rz17, .null, .null, .int 0, .int 0]))) j i q (.inr (14, [.null, .null, va_rf rz17, .null, .null, .int 0, .int 0]))) j i q (.inr (14, [.null, .null, .null, .null, .null, .int 0, .int 0]))) s _ _ := I
  exact g_vret S hr hlk I dJ8_init_4_60 (Nat.le_of_ble_eq_true rfl) (Nat.le_of_ble_eq_true rfl) hQ ⟨rfl, ⟨(gput_self _ _ _ _ _), (g_fr.put (g_fr.put (g_fr.put (g_fr.put (g_fr.put (g_fr.put (g_fr.put (g_fr.refl _ _) (by simp)) (by simp)) (by simp)) (by simp)) (by simp)) (by simp)) (by simp))⟩⟩

set_option maxHeartbeats 4000000 in
set_option maxRecDepth 100000 in
theorem met_J9_init_4_X18 (l : Launch) (Γ : g_C) (ph : g_H) (j i q : Nat)   (hq : ph j i q = some (.inr (14, [.null, .null, .null, .null, .null, .int 0, .int 0]))) : g_Met l yJ9_init_4 (ws_ yJ9_init_4 cJ9_init_4 5 none) (g_rm 2 0 0) Γ [.ref q, .null, .null, .int 0, .int 0] (ph) (g_ov (fun ph' => ph' j i q = some (.inr (14, [.null, .null, .null, .null, .null, .int 0, .int 0])) ∧ g_fr [(j, i)] ph ph')) g_no := by
  refine g_start (y := yJ9_init_4) (cc := cJ9_init_4) (maxL := 5) (ret := none) (rm := g_rm 2 0 0) (by decide) (Nat.le_of_ble_eq_true rfl) ?_
  intro p e s m A below meth c ls Q hQ S hr hlk hex hnm hK I hl
  have hx := S.1
  have hb := S.2.1
  have hown := S.2.2.2.1
  have hts := S.2.2.2.2
  have S : CallFix p m c cJ9_init_4 5 s A lw_all "java/lang/Exception" := S
  have hl : lv_has ls 5 [(0, .ref q), (1, .null), (2, .null), (3, .int 0), (4, .int 0)] := hl
  refine lv_aload_n hx hb dJ9_init_4_0 rfl (lv_at hl 0 rfl) ?_
  refine lv_aload_nN hx hb dJ9_init_4_1 rfl (lv_at hl 1 rfl) ?_
  refine lv_aload_nN hx hb dJ9_init_4_2 rfl (lv_at hl 2 rfl) ?_
  refine lv_iload_n hx hb dJ9_init_4_3 rfl (lv_at hl 3 rfl) ?_
  refine lv_iload hx hb dJ9_init_4_4 (lv_at hl 4 rfl) ?_
  refine g_cv (g_runI S hK I (As := [.null, .null, .int 0, .int 0]) (rest := []) (met_J8_init_4_X18 l Γ ph j i q hq) (cwI 4 hts (lw_meth q1687) rfl rfl rfl (hts _ q131) (hts _ q1685) (hts _ q1686) rfl (by decide +kernel) ⟨Nat.le_of_ble_eq_true rfl, Nat.le_of_ble_eq_true rfl⟩) rfl hl.1 rfl (Nat.le_of_ble_eq_true rfl) dJ9_init_4_6 ⟨Nat.le_of_ble_eq_true rfl, Nat.le_of_ble_eq_true rfl⟩) I (fun ph1 H locs hp I => ?_)
  exact g_vret S hr hlk I dJ9_init_4_9 (Nat.le_of_ble_eq_true rfl) (Nat.le_of_ble_eq_true rfl) hQ ⟨rfl, hp⟩

set_option maxHeartbeats 4000000 in
set_option maxRecDepth 100000 in
theorem met_X6_init (l : Launch) (Γ : g_C) (ph : g_H) (j i q : Nat) (r d : Int32)   (hq : ph j i q = some (.inr (5, [.null, .null, .null, .null, .null, .int 0, .int 0, .int 0]))) : g_Met l yX6_init (ws_ yX6_init cX6_init 3 none) (g_rm 3 0 0) Γ [.ref q, .int r, .int d] (ph) (g_ov (fun ph' => ph' j i q = some (rfE (r, d) .null (.int 0)) ∧ g_fr [(j, i)] ph ph')) g_no := by
  refine g_start (y := yX6_init) (cc := cX6_init) (maxL := 3) (ret := none) (rm := g_rm 3 0 0) (by decide) (Nat.le_of_ble_eq_true rfl) ?_
  intro p e s m A below meth c ls Q hQ S hr hlk hex hnm hK I hl
  have hx := S.1
  have hb := S.2.1
  have hown := S.2.2.2.1
  have hts := S.2.2.2.2
  have S : CallFix p m c cX6_init 3 s A lw_all "CrumblingWall$Refused" := S
  have hl : lv_has ls 3 [(0, .ref q), (1, .int r), (2, .int d)] := hl
  refine lv_aload_n hx hb dX6_init_0 rfl (lv_at hl 0 rfl) ?_
  refine lv_null hx hb dX6_init_1 ?_
  refine lv_null hx hb dX6_init_2 ?_
  refine lv_iconst (v := 0) hx hb dX6_init_3 (by decide) ?_
  refine lv_iconst (v := 0) hx hb dX6_init_4 (by decide) ?_
  refine g_cv (g_runI S hK I (As := [.null, .null, .int 0, .int 0]) (rest := []) (met_J9_init_4_X6 l Γ ph j i q hq) (cwI 4 hts (lw_meth q1684) rfl rfl rfl (hts _ q132) (hts _ q1682) (hts _ q1683) rfl (by decide +kernel) ⟨Nat.le_of_ble_eq_true rfl, Nat.le_of_ble_eq_true rfl⟩) rfl hl.1 rfl (Nat.le_of_ble_eq_true rfl) dX6_init_5 ⟨Nat.le_of_ble_eq_true rfl, Nat.le_of_ble_eq_true rfl⟩) I (fun ph1 H locs hp I => ?_)
  obtain ⟨hq1, hf1⟩ := hp
  refine lv_aload_n hx hb dX6_init_8 rfl (lv_at hl 0 rfl) ?_
  refine lv_iload_n hx hb dX6_init_9 rfl (lv_at hl 1 rfl) ?_
  refine g_putF S hK I k_X6 (v := .int r) hq1 6 (by decide) q1688 rfl rfl hnm rfl rfl (Nat.le_of_ble_eq_true rfl) dX6_init_10 (fun H locs I => ?_)
  have I : g_I Γ (gput ph1 j i q (.inr (5, [.null, .null, .null, .null, .null, .int 0, .int r, .int 0]))) s _ _ := I
  refine lv_aload_n hx hb dX6_init_13 rfl (lv_at hl 0 rfl) ?_
  refine lv_iload_n hx hb dX6_init_14 rfl (lv_at hl 2 rfl) ?_
  refine g_putF S hK I k_X6 (v := .int d) (gput_self _ _ _ _ _) 7 (by decide) q1690 rfl rfl hnm rfl rfl (Nat.le_of_ble_eq_true rfl) dX6_init_15 (fun H locs I => ?_)
  have I : g_I Γ (gput (gput ph1 j i q (.inr (5, [.null, .null, .null, .null, .null, .int 0, .int r, .int 0]))) j i q (.inr (5, [.null, .null, .null, .null, .null, .int 0, .int r, .int d]))) s _ _ := I
  exact g_vret S hr hlk I dX6_init_18 (Nat.le_of_ble_eq_true rfl) (Nat.le_of_ble_eq_true rfl) hQ ⟨rfl, ⟨(gput_self _ _ _ _ _), (g_fr.put (g_fr.put hf1 (by simp)) (by simp))⟩⟩

set_option maxHeartbeats 4000000 in
set_option maxRecDepth 100000 in
theorem met_X18_init (l : Launch) (Γ : g_C) (ph : g_H) (j i q : Nat) (r : Int32)   (hq : ph j i q = some (.inr (14, [.null, .null, .null, .null, .null, .int 0, .int 0]))) : g_Met l yX18_init (ws_ yX18_init cX18_init 2 none) (g_rm 3 0 0) Γ [.ref q, .int r] (ph) (g_ov (fun ph' => ph' j i q = some (.inr (14, [.null, .null, .null, .null, .null, .int 0, .int r])) ∧ g_fr [(j, i)] ph ph')) g_no := by
  refine g_start (y := yX18_init) (cc := cX18_init) (maxL := 2) (ret := none) (rm := g_rm 3 0 0) (by decide) (Nat.le_of_ble_eq_true rfl) ?_
  intro p e s m A below meth c ls Q hQ S hr hlk hex hnm hK I hl
  have hx := S.1
  have hb := S.2.1
  have hown := S.2.2.2.1
  have hts := S.2.2.2.2
  have S : CallFix p m c cX18_init 2 s A lw_all "CrumblingWall$Wrong" := S
  have hl : lv_has ls 2 [(0, .ref q), (1, .int r)] := hl
  refine lv_aload_n hx hb dX18_init_0 rfl (lv_at hl 0 rfl) ?_
  refine lv_null hx hb dX18_init_1 ?_
  refine lv_null hx hb dX18_init_2 ?_
  refine lv_iconst (v := 0) hx hb dX18_init_3 (by decide) ?_
  refine lv_iconst (v := 0) hx hb dX18_init_4 (by decide) ?_
  refine g_cv (g_runI S hK I (As := [.null, .null, .int 0, .int 0]) (rest := []) (met_J9_init_4_X18 l Γ ph j i q hq) (cwI 4 hts (lw_meth q1684) rfl rfl rfl (hts _ q132) (hts _ q2691) (hts _ q1683) rfl (by decide +kernel) ⟨Nat.le_of_ble_eq_true rfl, Nat.le_of_ble_eq_true rfl⟩) rfl hl.1 rfl (Nat.le_of_ble_eq_true rfl) dX18_init_5 ⟨Nat.le_of_ble_eq_true rfl, Nat.le_of_ble_eq_true rfl⟩) I (fun ph1 H locs hp I => ?_)
  obtain ⟨hq1, hf1⟩ := hp
  refine lv_aload_n hx hb dX18_init_8 rfl (lv_at hl 0 rfl) ?_
  refine lv_iload_n hx hb dX18_init_9 rfl (lv_at hl 1 rfl) ?_
  refine g_putF S hK I k_X18 (v := .int r) hq1 6 (by decide) q2692 rfl rfl hnm rfl rfl (Nat.le_of_ble_eq_true rfl) dX18_init_10 (fun H locs I => ?_)
  have I : g_I Γ (gput ph1 j i q (.inr (14, [.null, .null, .null, .null, .null, .int 0, .int r]))) s _ _ := I
  exact g_vret S hr hlk I dX18_init_13 (Nat.le_of_ble_eq_true rfl) (Nat.le_of_ble_eq_true rfl) hQ ⟨rfl, ⟨(gput_self _ _ _ _ _), (g_fr.put hf1 (by simp))⟩⟩

set_option maxHeartbeats 4000000 in
set_option maxRecDepth 100000 in
theorem met_X1_refuse (l : Launch) (Γ : g_C) (ph : g_H) (htr : l.stackTraces = false) (b : Bool) (r d : Int32)    : g_Met l yX1_refuse (ws_ yX1_refuse cX1_refuse 3 none) (g_rm 4 1 8) Γ [.int (b2i b), .int r, .int d] (ph) (g_ov (fun ph' => b = false ∧ ph' = ph)) (fun E q ph' => E = "CrumblingWall$Refused" ∧ b = true ∧ ph' 32 0 q = some (rfE (r, d) .null (.int 0)) ∧ g_fr [(32, 0)] ph ph') := by
  refine g_start (y := yX1_refuse) (cc := cX1_refuse) (maxL := 3) (ret := none) (rm := g_rm 4 1 8) (by decide) (Nat.le_of_ble_eq_true rfl) ?_
  intro p e s m A below meth c ls Q hQ S hr hlk hex hnm hK I hl
  have hx := S.1
  have hb := S.2.1
  have hown := S.2.2.2.1
  have hts := S.2.2.2.2
  have S : CallFix p m c cX1_refuse 3 s A lw_all "CrumblingWall" := S
  have hl : lv_has ls 3 [(0, .int (b2i b)), (1, .int r), (2, .int d)] := hl
  refine lv_iload_n hx hb dX1_refuse_0 rfl (lv_at hl 0 rfl) ?_
  refine lv_if_eq (tgt := 14) hx hb dX1_refuse_1 (by decide) (fun c_1 => ?_) (fun c_1 => ?_)
  · have p_1 := (b2i_eq0 _).mp c_1
    exact g_vret S hr hlk I dX1_refuse_14 (Nat.le_of_ble_eq_true rfl) (Nat.le_of_ble_eq_true rfl) hQ ⟨rfl, ⟨p_1, rfl⟩⟩
  · have p_1 := (b2i_ne0 _).mp c_1
    refine g_new S hK I 32 0 k_X6 q1670 q1671 q153 (fs := [.null, .null, .null, .null, .null, .int 0, .int 0, .int 0]) (by decide) (Nat.le_of_ble_eq_true rfl) (Nat.le_of_ble_eq_true rfl) dX1_refuse_4 (fun q5 H hfq5 I => ?_)
    have I : g_I Γ (gput ph 32 0 q5 (.inr (5, [.null, .null, .null, .null, .null, .int 0, .int 0, .int 0]))) s _ _ := I
    refine lv_dup hx hb dX1_refuse_7 rfl ?_
    refine lv_iload_n hx hb dX1_refuse_8 rfl (lv_at hl 1 rfl) ?_
    refine lv_iload_n hx hb dX1_refuse_9 rfl (lv_at hl 2 rfl) ?_
    refine g_cv (g_runI S hK I (As := [.int r, .int d]) (rest := [.ref q5]) (met_X6_init l Γ (gput ph 32 0 q5 (.inr (5, [.null, .null, .null, .null, .null, .int 0, .int 0, .int 0]))) 32 0 q5 r d (gput_self _ _ _ _ _)) (cwI 2 hts (lw_meth q1681) rfl rfl rfl (hts _ q153) (hts _ q1679) (hts _ q1680) rfl (by decide +kernel) ⟨Nat.le_of_ble_eq_true rfl, Nat.le_of_ble_eq_true rfl⟩) rfl hl.1 rfl (Nat.le_of_ble_eq_true rfl) dX1_refuse_10 ⟨Nat.le_of_ble_eq_true rfl, Nat.le_of_ble_eq_true rfl⟩) I (fun ph1 H locs hp I => ?_)
    obtain ⟨hq1, hf1⟩ := hp
    refine g_athrow S hK I (g_at.of hq1) (ci := 5) rfl dX1_refuse_13 (fun ce hcell hv9 hcl => ?_)
    exact g_out S hlk hex I hcell hv9 hcl (Nat.le_of_ble_eq_true rfl) (Nat.le_of_ble_eq_true rfl) hQ ⟨rfl, p_1, hq1, ((g_fr.refl _ _).put (by simp)).trans hf1⟩

theorem okC1 {c : Int32} (hc : vp_in c 2) : vp_in (1 - c) 2 := by
  obtain ⟨j, h1, h2, -⟩ := vp_j hc (by decide)
  rcases (show j = 0 ∨ j = 1 by omega) with rfl | rfl
  · rw [h2]; exact vp_lit (by decide)
  · rw [h2]; exact vp_lit (by decide)
set_option maxHeartbeats 4000000 in
set_option maxRecDepth 100000 in
theorem met_X2_checkMove (l : Launch) (Γ : g_C) (htr : l.stackTraces = false) (ph : g_H) (i : Nat) (ad na : Nat → Nat) (mc : Nat → Int32) (w : m_w) (c p : Int32)  (hW : g_Wl Γ ph i ad na mc w) (hw : WF w) (hT : g_Tr 34 ph) (hc : vp_in c 2) (hp0 : okP w p) : g_Met l yX2_checkMove (ws_ yX2_checkMove cX2_checkMove 8 none) (g_rm 8 9 69) Γ [.ref (ad 0), .int c, .int p] ph (g_ov (fun ph' => nMove w c p = none ∧ ph' = ph)) (xR (nMove w c p) ph) := by
  refine g_start (y := yX2_checkMove) (cc := cX2_checkMove) (maxL := 8) (ret := none) (rm := g_rm 8 9 69) (by decide) (Nat.le_of_ble_eq_true rfl) ?_
  intro pg e s m A below meth cd ls Q hQ S hr hlk hex hnm hK I hl
  have hx := S.1
  have hb := S.2.1
  have hown := S.2.2.2.1
  have hts := S.2.2.2.2
  have S : CallFix pg m cd cX2_checkMove 8 s A lw_all "CrumblingWall$Wall" := S
  have hl : lv_has ls 8 [(0, .ref (ad 0)), (1, .int c), (2, .int p)] := hl
  have hwc := hw.1; have hwl := hw.2.1; have hwa := hw.2.2.1
  have hc2 := (okC hc).1
  have hcc1 := okC1 hc
  have hpl := hw.pl hc
  refine lv_aload_n hx hb dX2_checkMove_0 rfl (lv_at hl 0 rfl) ?_
  refine lv_iload_n hx hb dX2_checkMove_1 rfl (lv_at hl 1 rfl) ?_
  refine g_cr (g_runV S hK I (As := [.int c]) (rest := []) (met_X2_climber l Γ htr ph i ad na mc w c hW hw  hc) (cwV 1 hts (lw_V q782 q783 q784 q121 q785) rfl rfl rfl (by decide +kernel) ⟨Nat.le_of_ble_eq_true rfl, Nat.le_of_ble_eq_true rfl⟩) (g_recv hK I (g_at.of hW.o0) (ci := 1) rfl) rfl hl.1 rfl (Nat.le_of_ble_eq_true rfl) dX2_checkMove_2 ⟨Nat.le_of_ble_eq_true rfl, Nat.le_of_ble_eq_true rfl⟩) I (fun r_2 ph1 H locs hp I => ?_)
  obtain ⟨hp, hph⟩ := hp
  rw [hph] at I
  have hp : r_2 = (ad (10 + c.toNatClampNeg)) := hp
  rw [hp]
  refine lv_astore_n (lv' := [(3, .ref (ad (10 + c.toNatClampNeg))), (0, .ref (ad 0)), (1, .int c), (2, .int p)]) hx hb dX2_checkMove_5 rfl hl (by decide) rfl (fun ls hl => ?_)
  refine lv_iload_n hx hb dX2_checkMove_6 rfl (lv_at hl 3 rfl) ?_
  refine lv_iconst (v := (-1)) hx hb dX2_checkMove_7 (by decide) ?_
  have J_16_0 : ∀ (x1 : Int32) (H : Heap) (locs : List Loc) (ls : Array Slot), (hx1 : x1 = (b2i (decide (p = -1)))) → g_I Γ ph s H locs → lv_has ls 8 [(3, .ref (ad (10 + c.toNatClampNeg))), (0, .ref (ad 0)), (1, .int c), (2, .int p)] → W pg l e (g_rm 8 9 69) s m A below meth cd H locs 0 0 Q (F0 m 16 ls [.int x1]) := by
    intro x1 H locs ls hx1 I hl
    subst hx1
    refine lv_istore (lv' := [(4, .int (b2i (decide (p = -1)))), (3, .ref (ad (10 + c.toNatClampNeg))), (0, .ref (ad 0)), (1, .int c), (2, .int p)]) hx hb dX2_checkMove_16 hl (by decide) rfl (fun ls hl => ?_)
    refine lv_aload_n hx hb dX2_checkMove_18 rfl (lv_at hl 1 rfl) ?_
    refine g_ci (g_runV S hK I (As := []) (rest := []) (met_X3_isHurt l Γ htr ph i ad na mc w c.toNatClampNeg hW hw  (by omega)) (cwV 0 hts (lw_V q1936 q1937 q1938 q122 q1939) rfl rfl rfl (by decide +kernel) ⟨Nat.le_of_ble_eq_true rfl, Nat.le_of_ble_eq_true rfl⟩) (g_recv hK I (g_at.of (hW.cl (c := c.toNatClampNeg) (by omega))) (ci := 2) rfl) rfl hl.1 rfl (Nat.le_of_ble_eq_true rfl) dX2_checkMove_19 ⟨Nat.le_of_ble_eq_true rfl, Nat.le_of_ble_eq_true rfl⟩) I (fun r_19 ph1 H locs hp I => ?_)
    obtain ⟨hp, hph⟩ := hp
    rw [hph] at I
    have hp : r_19 = (b2i (decide ((w (125 + 3 * c.toNatClampNeg + 1)) = 2))) := hp
    rw [hp]
    refine lv_iconst (v := 1) hx hb dX2_checkMove_22 (by decide) ?_
    refine lv_iconst (v := 0) hx hb dX2_checkMove_23 (by decide) ?_
    refine g_cvx (g_runSN S hK I (As := [.int (b2i (decide ((w (125 + 3 * c.toNatClampNeg + 1)) = 2))), .int 1, .int 0]) (rest := []) (met_X1_refuse l Γ ph htr (decide (cX w c 1 = 2)) 1 0) ⟨va_cnB 3 hts (lw_meth q1791) rfl rfl rfl (hK.N q1940 rfl) (hts _ q120) (by decide +kernel) ⟨Nat.le_of_ble_eq_true rfl, Nat.le_of_ble_eq_true rfl⟩, hts _ q1790, trivial⟩ rfl hl.1 rfl (Nat.le_of_ble_eq_true rfl) dX2_checkMove_24 ⟨Nat.le_of_ble_eq_true rfl, Nat.le_of_ble_eq_true rfl⟩) I (fun E9 ce9 q9 ph1 H locs hp I hcell hv9 hcl => ?_) (fun ph1 H locs hp I => ?_)
    · obtain ⟨rfl, hb9, hx9, hf9⟩ := hp
      have hb9 := of_decide_eq_true hb9
      exact g_out S hlk hex I hcell hv9 hcl (Nat.le_of_ble_eq_true rfl) (Nat.le_of_ble_eq_true rfl) hQ ⟨rfl, (1, 0), (by unfold nMove; rw [if_pos hb9] <;> rfl), hx9, hf9⟩
    obtain ⟨hy, hp⟩ := hp
    rw [hp] at I
    have f1 := of_decide_eq_false hy
    refine lv_iload hx hb dX2_checkMove_27 (lv_at hl 0 rfl) ?_
    have J_54_1 : ∀ (x2 : Int32) (H : Heap) (locs : List Loc) (ls : Array Slot), (hx2 : x2 = (b2i (decide (¬ p = -1 ∧ hasCr w p = true)))) → g_I Γ ph s H locs → lv_has ls 8 [(4, .int (b2i (decide (p = -1)))), (3, .ref (ad (10 + c.toNatClampNeg))), (0, .ref (ad 0)), (1, .int c), (2, .int p)] → W pg l e (g_rm 8 9 69) s m A below meth cd H locs 1 8 Q (F0 m 54 ls [.int x2]) := by
      intro x2 H locs ls hx2 I hl
      subst hx2
      refine lv_iconst (v := 2) hx hb dX2_checkMove_54 (by decide) ?_
      refine lv_iload_n hx hb dX2_checkMove_55 rfl (lv_at hl 4 rfl) ?_
      refine g_cvx (g_runSN S hK I (As := [.int (b2i (decide (¬ p = -1 ∧ hasCr w p = true))), .int 2, .int p]) (rest := []) (met_X1_refuse l Γ ph htr (decide (¬ p = -1 ∧ hasCr w p = true)) 2 p) ⟨va_cnB 3 hts (lw_meth q1791) rfl rfl rfl (hK.N q1940 rfl) (hts _ q120) (by decide +kernel) ⟨Nat.le_of_ble_eq_true rfl, Nat.le_of_ble_eq_true rfl⟩, hts _ q1790, trivial⟩ rfl hl.1 rfl (Nat.le_of_ble_eq_true rfl) dX2_checkMove_56 ⟨Nat.le_of_ble_eq_true rfl, Nat.le_of_ble_eq_true rfl⟩) I (fun E9 ce9 q9 ph1 H locs hp I hcell hv9 hcl => ?_) (fun ph1 H locs hp I => ?_)
      · obtain ⟨rfl, hb9, hx9, hf9⟩ := hp
        have hb9 := of_decide_eq_true hb9
        exact g_out S hlk hex I hcell hv9 hcl (Nat.le_of_ble_eq_true rfl) (Nat.le_of_ble_eq_true rfl) hQ ⟨rfl, (2, p), (by unfold nMove; rw [if_neg f1, if_pos hb9] <;> rfl), hx9, hf9⟩
      obtain ⟨hy, hp⟩ := hp
      rw [hp] at I
      have f2 := of_decide_eq_false hy
      refine lv_aload_n hx hb dX2_checkMove_59 rfl (lv_at hl 1 rfl) ?_
      refine g_getN S hK I k_X3 (v := .int (w (125 + 3 * c.toNatClampNeg))) (g_at.of (hW.cl (c := c.toNatClampNeg) (by omega))) 1 (by decide) q212 rfl rfl dX2_checkMove_60 ?_
      refine lv_iload_n hx hb dX2_checkMove_63 rfl (lv_at hl 4 rfl) ?_
      have J_72_2 : ∀ (x3 : Int32) (H : Heap) (locs : List Loc) (ls : Array Slot), (hx3 : x3 = (b2i (decide (plc w c = p)))) → g_I Γ ph s H locs → lv_has ls 8 [(4, .int (b2i (decide (p = -1)))), (3, .ref (ad (10 + c.toNatClampNeg))), (0, .ref (ad 0)), (1, .int c), (2, .int p)] → W pg l e (g_rm 8 9 69) s m A below meth cd H locs 2 16 Q (F0 m 72 ls [.int x3]) := by
        intro x3 H locs ls hx3 I hl
        subst hx3
        refine lv_iconst (v := 3) hx hb dX2_checkMove_72 (by decide) ?_
        refine lv_iload_n hx hb dX2_checkMove_73 rfl (lv_at hl 4 rfl) ?_
        refine g_cvx (g_runSN S hK I (As := [.int (b2i (decide (plc w c = p))), .int 3, .int p]) (rest := []) (met_X1_refuse l Γ ph htr (decide (plc w c = p)) 3 p) ⟨va_cnB 3 hts (lw_meth q1791) rfl rfl rfl (hK.N q1940 rfl) (hts _ q120) (by decide +kernel) ⟨Nat.le_of_ble_eq_true rfl, Nat.le_of_ble_eq_true rfl⟩, hts _ q1790, trivial⟩ rfl hl.1 rfl (Nat.le_of_ble_eq_true rfl) dX2_checkMove_74 ⟨Nat.le_of_ble_eq_true rfl, Nat.le_of_ble_eq_true rfl⟩) I (fun E9 ce9 q9 ph1 H locs hp I hcell hv9 hcl => ?_) (fun ph1 H locs hp I => ?_)
        · obtain ⟨rfl, hb9, hx9, hf9⟩ := hp
          have hb9 := of_decide_eq_true hb9
          exact g_out S hlk hex I hcell hv9 hcl (Nat.le_of_ble_eq_true rfl) (Nat.le_of_ble_eq_true rfl) hQ ⟨rfl, (3, p), (by unfold nMove; rw [if_neg f1, if_neg f2, if_pos hb9] <;> rfl), hx9, hf9⟩
        obtain ⟨hy, hp⟩ := hp
        rw [hp] at I
        have f3 := of_decide_eq_false hy
        refine lv_aload_n hx hb dX2_checkMove_77 rfl (lv_at hl 2 rfl) ?_
        refine lv_iload_n hx hb dX2_checkMove_78 rfl (lv_at hl 3 rfl) ?_
        refine g_cr (g_runV S hK I (As := [.int c]) (rest := []) (met_X2_at l Γ htr ph i ad na mc w c hW hw  hc) (cwV 1 hts (lw_V q778 q779 q780 q121 q781) rfl rfl rfl (by decide +kernel) ⟨Nat.le_of_ble_eq_true rfl, Nat.le_of_ble_eq_true rfl⟩) (g_recv hK I (g_at.of hW.o0) (ci := 1) rfl) rfl hl.1 rfl (Nat.le_of_ble_eq_true rfl) dX2_checkMove_79 ⟨Nat.le_of_ble_eq_true rfl, Nat.le_of_ble_eq_true rfl⟩) I (fun r_79 ph1 H locs hp I => ?_)
        obtain ⟨hp, hph⟩ := hp
        rw [hph] at I
        have hp : r_79 = (plA ad (plc w c)) := hp
        rw [hp]
        refine lv_aload_n hx hb dX2_checkMove_82 rfl (lv_at hl 2 rfl) ?_
        refine lv_iload_n hx hb dX2_checkMove_83 rfl (lv_at hl 4 rfl) ?_
        refine g_cr (g_runV S hK I (As := [.int p]) (rest := [.ref (plA ad (plc w c))]) (met_X2_place l Γ htr ph i ad na mc w p hW hw  hp0) (cwV 1 hts (lw_V q879 q880 q881 q121 q882) rfl rfl rfl (by decide +kernel) ⟨Nat.le_of_ble_eq_true rfl, Nat.le_of_ble_eq_true rfl⟩) (g_recv hK I (g_at.of hW.o0) (ci := 1) rfl) rfl hl.1 rfl (Nat.le_of_ble_eq_true rfl) dX2_checkMove_84 ⟨Nat.le_of_ble_eq_true rfl, Nat.le_of_ble_eq_true rfl⟩) I (fun r_84 ph1 H locs hp I => ?_)
        obtain ⟨hp, hph⟩ := hp
        rw [hph] at I
        have hp : r_84 = (plA ad p) := hp
        rw [hp]
        refine g_cFi (by rcases pl_or hW hw (p := (plc w c)) hpl with ⟨e8, fs9, r9⟩ | ⟨e8, b8, n8, a8, fs9, h9⟩; rotate_left; rcases h9 with ⟨e9, r9⟩ | ⟨e9, r9⟩ | ⟨e9, r9⟩ | ⟨e9, r9⟩; exact (g_runF S hK I (As := [.ref (plA ad p)]) (rest := []) (met_p_distance_H l Γ htr ph i ad na mc w (plc w c) p hW hw hpl hp0 e8) (ci := 7) rfl (va_cwF 1 hts (lw_F q1206 q1281 q1212 q157 q1214) rfl rfl rfl (hK.F 14 rfl) (by decide +kernel) ⟨Nat.le_of_ble_eq_true rfl, Nat.le_of_ble_eq_true rfl⟩) (g_recv hK I (g_at.of r9) (ci := 7) rfl) rfl hl.1 rfl (Nat.le_of_ble_eq_true rfl) dX2_checkMove_87 ⟨Nat.le_of_ble_eq_true rfl, Nat.le_of_ble_eq_true rfl⟩); exact (g_runF S hK I (As := [.ref (plA ad p)]) (rest := []) (met_p_distance_H l Γ htr ph i ad na mc w (plc w c) p hW hw hpl hp0 e8) (ci := 9) rfl (va_cwF 1 hts (lw_F q1206 q1292 q1212 q157 q1214) rfl rfl rfl (hK.F 22 rfl) (by decide +kernel) ⟨Nat.le_of_ble_eq_true rfl, Nat.le_of_ble_eq_true rfl⟩) (g_recv hK I (g_at.of r9) (ci := 9) rfl) rfl hl.1 rfl (Nat.le_of_ble_eq_true rfl) dX2_checkMove_87 ⟨Nat.le_of_ble_eq_true rfl, Nat.le_of_ble_eq_true rfl⟩); exact (g_runF S hK I (As := [.ref (plA ad p)]) (rest := []) (met_p_distance_H l Γ htr ph i ad na mc w (plc w c) p hW hw hpl hp0 e8) (ci := 8) rfl (va_cwF 1 hts (lw_F q1206 q1283 q1212 q157 q1214) rfl rfl rfl (hK.F 18 rfl) (by decide +kernel) ⟨Nat.le_of_ble_eq_true rfl, Nat.le_of_ble_eq_true rfl⟩) (g_recv hK I (g_at.of r9) (ci := 8) rfl) rfl hl.1 rfl (Nat.le_of_ble_eq_true rfl) dX2_checkMove_87 ⟨Nat.le_of_ble_eq_true rfl, Nat.le_of_ble_eq_true rfl⟩); exact (g_runF S hK I (As := [.ref (plA ad p)]) (rest := []) (met_p_distance_H l Γ htr ph i ad na mc w (plc w c) p hW hw hpl hp0 e8) (ci := 6) rfl (va_cwF 1 hts (lw_F q1206 q1210 q1212 q157 q1214) rfl rfl rfl (hK.F 10 rfl) (by decide +kernel) ⟨Nat.le_of_ble_eq_true rfl, Nat.le_of_ble_eq_true rfl⟩) (g_recv hK I (g_at.of r9) (ci := 6) rfl) rfl hl.1 rfl (Nat.le_of_ble_eq_true rfl) dX2_checkMove_87 ⟨Nat.le_of_ble_eq_true rfl, Nat.le_of_ble_eq_true rfl⟩); exact (g_runF S hK I (As := [.ref (plA ad p)]) (rest := []) (met_p_distance_G l Γ htr ph i ad na mc w (plc w c) p hW hw hpl hp0 e8) (ci := 3) rfl (va_cwF 1 hts (lw_F q1206 q1285 q1287 q149 q1289) rfl rfl rfl (hK.F 26 rfl) (by decide +kernel) ⟨Nat.le_of_ble_eq_true rfl, Nat.le_of_ble_eq_true rfl⟩) (g_recv hK I (g_at.of r9) (ci := 3) rfl) rfl hl.1 rfl (Nat.le_of_ble_eq_true rfl) dX2_checkMove_87 ⟨Nat.le_of_ble_eq_true rfl, Nat.le_of_ble_eq_true rfl⟩)) I (fun r_87 ph1 H locs hp I => ?_)
        obtain ⟨hp, hph⟩ := hp
        rw [hph] at I
        have hp : r_87 = (dst w (plc w c) p) := hp
        rw [hp]
        refine lv_istore (lv' := [(5, .int (dst w (plc w c) p)), (4, .int (b2i (decide (p = -1)))), (3, .ref (ad (10 + c.toNatClampNeg))), (0, .ref (ad 0)), (1, .int c), (2, .int p)]) hx hb dX2_checkMove_92 hl (by decide) rfl (fun ls hl => ?_)
        refine lv_iload hx hb dX2_checkMove_94 (lv_at hl 0 rfl) ?_
        refine lv_aload_n hx hb dX2_checkMove_96 rfl (lv_at hl 3 rfl) ?_
        refine g_get S hK I k_X2 (v := .int (w 101)) (g_at.of hW.o0) 7 (by decide) q656 rfl rfl dX2_checkMove_97 ?_
        have J_108_3 : ∀ (x4 : Int32) (H : Heap) (locs : List Loc) (ls : Array Slot), (hx4 : x4 = (b2i (decide (w 101 < dst w (plc w c) p)))) → g_I Γ ph s H locs → lv_has ls 8 [(5, .int (dst w (plc w c) p)), (4, .int (b2i (decide (p = -1)))), (3, .ref (ad (10 + c.toNatClampNeg))), (0, .ref (ad 0)), (1, .int c), (2, .int p)] → W pg l e (g_rm 8 9 69) s m A below meth cd H locs 3 24 Q (F0 m 108 ls [.int x4]) := by
          intro x4 H locs ls hx4 I hl
          subst hx4
          refine lv_iconst (v := 4) hx hb dX2_checkMove_108 (by decide) ?_
          refine lv_iload hx hb dX2_checkMove_109 (lv_at hl 0 rfl) ?_
          refine g_cvx (g_runSN S hK I (As := [.int (b2i (decide (w 101 < dst w (plc w c) p))), .int 4, .int (dst w (plc w c) p)]) (rest := []) (met_X1_refuse l Γ ph htr (decide (w 101 < dst w (plc w c) p)) 4 (dst w (plc w c) p)) ⟨va_cnB 3 hts (lw_meth q1791) rfl rfl rfl (hK.N q1940 rfl) (hts _ q120) (by decide +kernel) ⟨Nat.le_of_ble_eq_true rfl, Nat.le_of_ble_eq_true rfl⟩, hts _ q1790, trivial⟩ rfl hl.1 rfl (Nat.le_of_ble_eq_true rfl) dX2_checkMove_111 ⟨Nat.le_of_ble_eq_true rfl, Nat.le_of_ble_eq_true rfl⟩) I (fun E9 ce9 q9 ph1 H locs hp I hcell hv9 hcl => ?_) (fun ph1 H locs hp I => ?_)
          · obtain ⟨rfl, hb9, hx9, hf9⟩ := hp
            have hb9 := of_decide_eq_true hb9
            exact g_out S hlk hex I hcell hv9 hcl (Nat.le_of_ble_eq_true rfl) (Nat.le_of_ble_eq_true rfl) hQ ⟨rfl, (4, (dst w (plc w c) p)), (by unfold nMove; rw [if_neg f1, if_neg f2, if_neg f3, if_pos hb9] <;> rfl), hx9, hf9⟩
          obtain ⟨hy, hp⟩ := hp
          rw [hp] at I
          have f4 := of_decide_eq_false hy
          refine lv_iload hx hb dX2_checkMove_114 (lv_at hl 1 rfl) ?_
          have J_142_4 : ∀ (x5 : Int32) (H : Heap) (locs : List Loc) (ls : Array Slot), (hx5 : x5 = (b2i (decide (¬ p = -1 ∧ isBr w p = false)))) → g_I Γ ph s H locs → lv_has ls 8 [(5, .int (dst w (plc w c) p)), (4, .int (b2i (decide (p = -1)))), (3, .ref (ad (10 + c.toNatClampNeg))), (0, .ref (ad 0)), (1, .int c), (2, .int p)] → W pg l e (g_rm 8 9 69) s m A below meth cd H locs 4 32 Q (F0 m 142 ls [.int x5]) := by
            intro x5 H locs ls hx5 I hl
            subst hx5
            refine lv_iconst (v := 5) hx hb dX2_checkMove_142 (by decide) ?_
            refine lv_aload_n hx hb dX2_checkMove_143 rfl (lv_at hl 3 rfl) ?_
            refine lv_iload_n hx hb dX2_checkMove_144 rfl (lv_at hl 5 rfl) ?_
            refine g_cr (g_runV S hK I (As := [.int p]) (rest := [.int 5, .int (b2i (decide (¬ p = -1 ∧ isBr w p = false)))]) (met_X2_place l Γ htr ph i ad na mc w p hW hw  hp0) (cwV 1 hts (lw_V q879 q880 q881 q121 q882) rfl rfl rfl (by decide +kernel) ⟨Nat.le_of_ble_eq_true rfl, Nat.le_of_ble_eq_true rfl⟩) (g_recv hK I (g_at.of hW.o0) (ci := 1) rfl) rfl hl.1 rfl (Nat.le_of_ble_eq_true rfl) dX2_checkMove_145 ⟨Nat.le_of_ble_eq_true rfl, Nat.le_of_ble_eq_true rfl⟩) I (fun r_145 ph1 H locs hp I => ?_)
            obtain ⟨hp, hph⟩ := hp
            rw [hph] at I
            have hp : r_145 = (plA ad p) := hp
            rw [hp]
            refine g_cFi (by rcases pl_or hW hw (p := p) hp0 with ⟨e8, fs9, r9⟩ | ⟨e8, b8, n8, a8, fs9, h9⟩; rotate_left; rcases h9 with ⟨e9, r9⟩ | ⟨e9, r9⟩ | ⟨e9, r9⟩ | ⟨e9, r9⟩; exact (g_runF S hK I (As := []) (rest := [.int 5, .int (b2i (decide (¬ p = -1 ∧ isBr w p = false)))]) (met_p_row_H l Γ htr ph i ad na mc w p hW hw hp0 e8) (ci := 7) rfl (va_cwF 0 hts (lw_F q1943 q1269 q1266 q157 q1268) rfl rfl rfl (hK.F 13 rfl) (by decide +kernel) ⟨Nat.le_of_ble_eq_true rfl, Nat.le_of_ble_eq_true rfl⟩) (g_recv hK I (g_at.of r9) (ci := 7) rfl) rfl hl.1 rfl (Nat.le_of_ble_eq_true rfl) dX2_checkMove_148 ⟨Nat.le_of_ble_eq_true rfl, Nat.le_of_ble_eq_true rfl⟩); exact (g_runF S hK I (As := []) (rest := [.int 5, .int (b2i (decide (¬ p = -1 ∧ isBr w p = false)))]) (met_p_row_H l Γ htr ph i ad na mc w p hW hw hp0 e8) (ci := 9) rfl (va_cwF 0 hts (lw_F q1943 q1278 q1266 q157 q1268) rfl rfl rfl (hK.F 21 rfl) (by decide +kernel) ⟨Nat.le_of_ble_eq_true rfl, Nat.le_of_ble_eq_true rfl⟩) (g_recv hK I (g_at.of r9) (ci := 9) rfl) rfl hl.1 rfl (Nat.le_of_ble_eq_true rfl) dX2_checkMove_148 ⟨Nat.le_of_ble_eq_true rfl, Nat.le_of_ble_eq_true rfl⟩); exact (g_runF S hK I (As := []) (rest := [.int 5, .int (b2i (decide (¬ p = -1 ∧ isBr w p = false)))]) (met_p_row_H l Γ htr ph i ad na mc w p hW hw hp0 e8) (ci := 8) rfl (va_cwF 0 hts (lw_F q1943 q1271 q1266 q157 q1268) rfl rfl rfl (hK.F 17 rfl) (by decide +kernel) ⟨Nat.le_of_ble_eq_true rfl, Nat.le_of_ble_eq_true rfl⟩) (g_recv hK I (g_at.of r9) (ci := 8) rfl) rfl hl.1 rfl (Nat.le_of_ble_eq_true rfl) dX2_checkMove_148 ⟨Nat.le_of_ble_eq_true rfl, Nat.le_of_ble_eq_true rfl⟩); exact (g_runF S hK I (As := []) (rest := [.int 5, .int (b2i (decide (¬ p = -1 ∧ isBr w p = false)))]) (met_p_row_H l Γ htr ph i ad na mc w p hW hw hp0 e8) (ci := 6) rfl (va_cwF 0 hts (lw_F q1943 q1264 q1266 q157 q1268) rfl rfl rfl (hK.F 9 rfl) (by decide +kernel) ⟨Nat.le_of_ble_eq_true rfl, Nat.le_of_ble_eq_true rfl⟩) (g_recv hK I (g_at.of r9) (ci := 6) rfl) rfl hl.1 rfl (Nat.le_of_ble_eq_true rfl) dX2_checkMove_148 ⟨Nat.le_of_ble_eq_true rfl, Nat.le_of_ble_eq_true rfl⟩); exact (g_runF S hK I (As := []) (rest := [.int 5, .int (b2i (decide (¬ p = -1 ∧ isBr w p = false)))]) (met_p_row_G l Γ htr ph i ad na mc w p hW hw hp0 e8) (ci := 3) rfl (va_cwF 0 hts (lw_F q1943 q1273 q1275 q149 q1277) rfl rfl rfl (hK.F 25 rfl) (by decide +kernel) ⟨Nat.le_of_ble_eq_true rfl, Nat.le_of_ble_eq_true rfl⟩) (g_recv hK I (g_at.of r9) (ci := 3) rfl) rfl hl.1 rfl (Nat.le_of_ble_eq_true rfl) dX2_checkMove_148 ⟨Nat.le_of_ble_eq_true rfl, Nat.le_of_ble_eq_true rfl⟩)) I (fun r_148 ph1 H locs hp I => ?_)
            obtain ⟨hp, hph⟩ := hp
            rw [hph] at I
            have hp : r_148 = (rowP w p) := hp
            rw [hp]
            refine g_cvx (g_runSN S hK I (As := [.int (b2i (decide (¬ p = -1 ∧ isBr w p = false))), .int 5, .int (rowP w p)]) (rest := []) (met_X1_refuse l Γ ph htr (decide (¬ p = -1 ∧ isBr w p = false)) 5 (rowP w p)) ⟨va_cnB 3 hts (lw_meth q1791) rfl rfl rfl (hK.N q1940 rfl) (hts _ q120) (by decide +kernel) ⟨Nat.le_of_ble_eq_true rfl, Nat.le_of_ble_eq_true rfl⟩, hts _ q1790, trivial⟩ rfl hl.1 rfl (Nat.le_of_ble_eq_true rfl) dX2_checkMove_153 ⟨Nat.le_of_ble_eq_true rfl, Nat.le_of_ble_eq_true rfl⟩) I (fun E9 ce9 q9 ph1 H locs hp I hcell hv9 hcl => ?_) (fun ph1 H locs hp I => ?_)
            · obtain ⟨rfl, hb9, hx9, hf9⟩ := hp
              have hb9 := of_decide_eq_true hb9
              exact g_out S hlk hex I hcell hv9 hcl (Nat.le_of_ble_eq_true rfl) (Nat.le_of_ble_eq_true rfl) hQ ⟨rfl, (5, (rowP w p)), (by unfold nMove; rw [if_neg f1, if_neg f2, if_neg f3, if_neg f4, if_pos hb9, show rowP w p = hX w p 1 from if_neg hb9.1]), hx9, hf9⟩
            obtain ⟨hy, hp⟩ := hp
            rw [hp] at I
            have f5 := of_decide_eq_false hy
            refine lv_iload hx hb dX2_checkMove_156 (lv_at hl 1 rfl) ?_
            have J_180_5 : ∀ (x6 : Int32) (H : Heap) (locs : List Loc) (ls : Array Slot), (hx6 : x6 = (b2i (decide (¬ p = -1 ∧ plc w (1 - c) = p)))) → g_I Γ ph s H locs → lv_has ls 8 [(5, .int (dst w (plc w c) p)), (4, .int (b2i (decide (p = -1)))), (3, .ref (ad (10 + c.toNatClampNeg))), (0, .ref (ad 0)), (1, .int c), (2, .int p)] → W pg l e (g_rm 8 9 69) s m A below meth cd H locs 5 40 Q (F0 m 180 ls [.int x6]) := by
              intro x6 H locs ls hx6 I hl
              subst hx6
              refine lv_bipush (v := 6) hx hb dX2_checkMove_180 (by decide) ?_
              refine lv_iconst (v := 1) hx hb dX2_checkMove_182 (by decide) ?_
              refine lv_iload_n hx hb dX2_checkMove_183 rfl (lv_at hl 4 rfl) ?_
              refine lv_isub hx hb dX2_checkMove_184 ?_
              refine g_cvx (g_runSN S hK I (As := [.int (b2i (decide (¬ p = -1 ∧ plc w (1 - c) = p))), .int 6, .int (1 - c)]) (rest := []) (met_X1_refuse l Γ ph htr (decide (¬ p = -1 ∧ plc w (1 - c) = p)) 6 (1 - c)) ⟨va_cnB 3 hts (lw_meth q1791) rfl rfl rfl (hK.N q1940 rfl) (hts _ q120) (by decide +kernel) ⟨Nat.le_of_ble_eq_true rfl, Nat.le_of_ble_eq_true rfl⟩, hts _ q1790, trivial⟩ rfl hl.1 rfl (Nat.le_of_ble_eq_true rfl) dX2_checkMove_185 ⟨Nat.le_of_ble_eq_true rfl, Nat.le_of_ble_eq_true rfl⟩) I (fun E9 ce9 q9 ph1 H locs hp I hcell hv9 hcl => ?_) (fun ph1 H locs hp I => ?_)
              · obtain ⟨rfl, hb9, hx9, hf9⟩ := hp
                have hb9 := of_decide_eq_true hb9
                exact g_out S hlk hex I hcell hv9 hcl (Nat.le_of_ble_eq_true rfl) (Nat.le_of_ble_eq_true rfl) hQ ⟨rfl, (6, (1 - c)), (by unfold nMove; rw [if_neg f1, if_neg f2, if_neg f3, if_neg f4, if_neg f5, if_pos hb9] <;> rfl), hx9, hf9⟩
              obtain ⟨hy, hp⟩ := hp
              rw [hp] at I
              have f6 := of_decide_eq_false hy
              refine lv_aload_n hx hb dX2_checkMove_188 rfl (lv_at hl 3 rfl) ?_
              refine lv_iload_n hx hb dX2_checkMove_189 rfl (lv_at hl 4 rfl) ?_
              refine lv_iload hx hb dX2_checkMove_190 (lv_at hl 0 rfl) ?_
              refine g_ci (g_runV S hK I (As := [.int c, .int (dst w (plc w c) p)]) (rest := []) (met_X2_grip l Γ htr ph i ad na mc w c (dst w (plc w c) p) hW hw  ) (cwV 2 hts (lw_V q1944 q1946 qs18 q121 q1947) rfl rfl rfl (by decide +kernel) ⟨Nat.le_of_ble_eq_true rfl, Nat.le_of_ble_eq_true rfl⟩) (g_recv hK I (g_at.of hW.o0) (ci := 1) rfl) rfl hl.1 rfl (Nat.le_of_ble_eq_true rfl) dX2_checkMove_192 ⟨Nat.le_of_ble_eq_true rfl, Nat.le_of_ble_eq_true rfl⟩) I (fun r_192 ph1 H locs hp I => ?_)
              obtain ⟨hp, hph⟩ := hp
              rw [hph] at I
              have hp : r_192 = ((dst w (plc w c) p) + bits (carr w c)) := hp
              rw [hp]
              refine lv_istore (lv' := [(6, .int ((dst w (plc w c) p) + bits (carr w c))), (5, .int (dst w (plc w c) p)), (4, .int (b2i (decide (p = -1)))), (3, .ref (ad (10 + c.toNatClampNeg))), (0, .ref (ad 0)), (1, .int c), (2, .int p)]) hx hb dX2_checkMove_195 hl (by decide) rfl (fun ls hl => ?_)
              refine lv_aload_n hx hb dX2_checkMove_197 rfl (lv_at hl 3 rfl) ?_
              refine g_getN S hK I k_X3 (v := .int (w (125 + 3 * c.toNatClampNeg + 2))) (g_at.of (hW.cl (c := c.toNatClampNeg) (by omega))) 3 (by decide) q219 rfl rfl dX2_checkMove_198 ?_
              refine lv_iload hx hb dX2_checkMove_201 (lv_at hl 0 rfl) ?_
              have J_211_6 : ∀ (x7 : Int32) (H : Heap) (locs : List Loc) (ls : Array Slot), (hx7 : x7 = (b2i (decide (cX w c 2 < cost w c p)))) → g_I Γ ph s H locs → lv_has ls 8 [(6, .int ((dst w (plc w c) p) + bits (carr w c))), (5, .int (dst w (plc w c) p)), (4, .int (b2i (decide (p = -1)))), (3, .ref (ad (10 + c.toNatClampNeg))), (0, .ref (ad 0)), (1, .int c), (2, .int p)] → W pg l e (g_rm 8 9 69) s m A below meth cd H locs 6 48 Q (F0 m 211 ls [.int x7]) := by
                intro x7 H locs ls hx7 I hl
                subst hx7
                refine lv_bipush (v := 7) hx hb dX2_checkMove_211 (by decide) ?_
                refine lv_iload hx hb dX2_checkMove_213 (lv_at hl 0 rfl) ?_
                refine g_cvx (g_runSN S hK I (As := [.int (b2i (decide (cX w c 2 < cost w c p))), .int 7, .int ((dst w (plc w c) p) + bits (carr w c))]) (rest := []) (met_X1_refuse l Γ ph htr (decide (cX w c 2 < cost w c p)) 7 ((dst w (plc w c) p) + bits (carr w c))) ⟨va_cnB 3 hts (lw_meth q1791) rfl rfl rfl (hK.N q1940 rfl) (hts _ q120) (by decide +kernel) ⟨Nat.le_of_ble_eq_true rfl, Nat.le_of_ble_eq_true rfl⟩, hts _ q1790, trivial⟩ rfl hl.1 rfl (Nat.le_of_ble_eq_true rfl) dX2_checkMove_215 ⟨Nat.le_of_ble_eq_true rfl, Nat.le_of_ble_eq_true rfl⟩) I (fun E9 ce9 q9 ph1 H locs hp I hcell hv9 hcl => ?_) (fun ph1 H locs hp I => ?_)
                · obtain ⟨rfl, hb9, hx9, hf9⟩ := hp
                  have hb9 := of_decide_eq_true hb9
                  exact g_out S hlk hex I hcell hv9 hcl (Nat.le_of_ble_eq_true rfl) (Nat.le_of_ble_eq_true rfl) hQ ⟨rfl, (7, ((dst w (plc w c) p) + bits (carr w c))), (by unfold nMove; rw [if_neg f1, if_neg f2, if_neg f3, if_neg f4, if_neg f5, if_neg f6, if_pos hb9] <;> rfl), hx9, hf9⟩
                obtain ⟨hy, hp⟩ := hp
                rw [hp] at I
                have f7 := of_decide_eq_false hy
                refine lv_aload_n hx hb dX2_checkMove_218 rfl (lv_at hl 4 rfl) ?_
                refine lv_iload_n hx hb dX2_checkMove_219 rfl (lv_at hl 5 rfl) ?_
                refine lv_aload_n hx hb dX2_checkMove_220 rfl (lv_at hl 4 rfl) ?_
                refine lv_iload_n hx hb dX2_checkMove_221 rfl (lv_at hl 6 rfl) ?_
                refine g_cr (g_runV S hK I (As := [.int p]) (rest := [.int c, .ref (ad 0)]) (met_X2_place l Γ htr ph i ad na mc w p hW hw  hp0) (cwV 1 hts (lw_V q879 q880 q881 q121 q882) rfl rfl rfl (by decide +kernel) ⟨Nat.le_of_ble_eq_true rfl, Nat.le_of_ble_eq_true rfl⟩) (g_recv hK I (g_at.of hW.o0) (ci := 1) rfl) rfl hl.1 rfl (Nat.le_of_ble_eq_true rfl) dX2_checkMove_222 ⟨Nat.le_of_ble_eq_true rfl, Nat.le_of_ble_eq_true rfl⟩) I (fun r_222 ph1 H locs hp I => ?_)
                obtain ⟨hp, hph⟩ := hp
                rw [hph] at I
                have hp : r_222 = (plA ad p) := hp
                rw [hp]
                refine g_ci (g_runV S hK I (As := [.int c, .ref (plA ad p)]) (rest := []) (met_X2_outWith l Γ htr ph i ad na mc w c p hW hw hT hc hp0) (cwV 2 hts (lw_V q1955 q1957 qs19 q121 q1958) rfl rfl rfl (by decide +kernel) ⟨Nat.le_of_ble_eq_true rfl, Nat.le_of_ble_eq_true rfl⟩) (g_recv hK I (g_at.of hW.o0) (ci := 1) rfl) rfl hl.1 rfl (Nat.le_of_ble_eq_true rfl) dX2_checkMove_225 ⟨Nat.le_of_ble_eq_true rfl, Nat.le_of_ble_eq_true rfl⟩) I (fun r_225 ph1 H locs hp I => ?_)
                obtain ⟨hp, hph⟩ := hp
                rw [hph] at I
                have hp : r_225 = (ropeTo w c p) := hp
                rw [hp]
                refine lv_istore (lv' := [(7, .int (ropeTo w c p)), (6, .int ((dst w (plc w c) p) + bits (carr w c))), (5, .int (dst w (plc w c) p)), (4, .int (b2i (decide (p = -1)))), (3, .ref (ad (10 + c.toNatClampNeg))), (0, .ref (ad 0)), (1, .int c), (2, .int p)]) hx hb dX2_checkMove_228 hl (by decide) rfl (fun ls hl => ?_)
                refine lv_iload hx hb dX2_checkMove_230 (lv_at hl 0 rfl) ?_
                refine lv_aload_n hx hb dX2_checkMove_232 rfl (lv_at hl 5 rfl) ?_
                refine g_get S hK I k_X2 (v := .int (w 103)) (g_at.of hW.o0) 9 (by decide) q660 rfl rfl dX2_checkMove_233 ?_
                have J_244_7 : ∀ (x8 : Int32) (H : Heap) (locs : List Loc) (ls : Array Slot), (hx8 : x8 = (b2i (decide (w 103 < ropeTo w c p)))) → g_I Γ ph s H locs → lv_has ls 8 [(7, .int (ropeTo w c p)), (6, .int ((dst w (plc w c) p) + bits (carr w c))), (5, .int (dst w (plc w c) p)), (4, .int (b2i (decide (p = -1)))), (3, .ref (ad (10 + c.toNatClampNeg))), (0, .ref (ad 0)), (1, .int c), (2, .int p)] → W pg l e (g_rm 8 9 69) s m A below meth cd H locs 8 61 Q (F0 m 244 ls [.int x8]) := by
                  intro x8 H locs ls hx8 I hl
                  subst hx8
                  refine lv_bipush (v := 8) hx hb dX2_checkMove_244 (by decide) ?_
                  refine lv_iload hx hb dX2_checkMove_246 (lv_at hl 0 rfl) ?_
                  refine g_cvx (g_runSN S hK I (As := [.int (b2i (decide (w 103 < ropeTo w c p))), .int 8, .int (ropeTo w c p)]) (rest := []) (met_X1_refuse l Γ ph htr (decide (w 103 < ropeTo w c p)) 8 (ropeTo w c p)) ⟨va_cnB 3 hts (lw_meth q1791) rfl rfl rfl (hK.N q1940 rfl) (hts _ q120) (by decide +kernel) ⟨Nat.le_of_ble_eq_true rfl, Nat.le_of_ble_eq_true rfl⟩, hts _ q1790, trivial⟩ rfl hl.1 rfl (Nat.le_of_ble_eq_true rfl) dX2_checkMove_248 ⟨Nat.le_of_ble_eq_true rfl, Nat.le_of_ble_eq_true rfl⟩) I (fun E9 ce9 q9 ph1 H locs hp I hcell hv9 hcl => ?_) (fun ph1 H locs hp I => ?_)
                  · obtain ⟨rfl, hb9, hx9, hf9⟩ := hp
                    have hb9 := of_decide_eq_true hb9
                    exact g_out S hlk hex I hcell hv9 hcl (Nat.le_of_ble_eq_true rfl) (Nat.le_of_ble_eq_true rfl) hQ ⟨rfl, (8, (ropeTo w c p)), (by unfold nMove; rw [if_neg f1, if_neg f2, if_neg f3, if_neg f4, if_neg f5, if_neg f6, if_neg f7, if_pos hb9] <;> rfl), hx9, hf9⟩
                  obtain ⟨hy, hp⟩ := hp
                  rw [hp] at I
                  have f8 := of_decide_eq_false hy
                  exact g_vret S hr hlk I dX2_checkMove_251 (Nat.le_of_ble_eq_true rfl) (Nat.le_of_ble_eq_true rfl) hQ ⟨rfl, (by unfold nMove; rw [if_neg f1, if_neg f2, if_neg f3, if_neg f4, if_neg f5, if_neg f6, if_neg f7, if_neg f8]), rfl⟩
                refine lv_icmp_le (tgt := 243) hx hb dX2_checkMove_236 (by decide) (fun c_236 => ?_) (fun c_236 => ?_)
                · have n_236 := Int32.not_lt.mpr c_236
                  refine lv_iconst (v := 0) hx hb dX2_checkMove_243 (by decide) ?_
                  exact J_244_7 0 _ _ _ (by simp [b2i, Int32.not_lt.mpr c_236]) I (lv_sub hl [0, 1, 2, 3, 4, 5, 6, 7] rfl)
                · have n_236 := Int32.not_le.mp c_236
                  refine lv_iconst (v := 1) hx hb dX2_checkMove_239 (by decide) ?_
                  refine lv_goto (tgt := 244) hx hb dX2_checkMove_240 (by decide) ?_
                  exact J_244_7 1 _ _ _ (by simp [b2i, Int32.not_le.mp c_236]) I (lv_sub hl [0, 1, 2, 3, 4, 5, 6, 7] rfl)
              refine lv_icmp_ge (tgt := 210) hx hb dX2_checkMove_203 (by decide) (fun c_203 => ?_) (fun c_203 => ?_)
              · have n_203 := Int32.not_lt.mpr c_203
                refine lv_iconst (v := 0) hx hb dX2_checkMove_210 (by decide) ?_
                exact J_211_6 0 _ _ _ (by rw [show cX w c 2 = w (125 + 3 * c.toNatClampNeg + 2) from rfl, show cost w c p = dst w (plc w c) p + bits (carr w c) from rfl]; simp [b2i, Int32.not_lt.mpr c_203]) I (lv_sub hl [0, 1, 2, 3, 4, 5, 6] rfl)
              · have n_203 := Int32.not_le.mp c_203
                refine lv_iconst (v := 1) hx hb dX2_checkMove_206 (by decide) ?_
                refine lv_goto (tgt := 211) hx hb dX2_checkMove_207 (by decide) ?_
                exact J_211_6 1 _ _ _ (by rw [show cX w c 2 = w (125 + 3 * c.toNatClampNeg + 2) from rfl, show cost w c p = dst w (plc w c) p + bits (carr w c) from rfl]; simp [b2i, Int32.not_le.mp c_203]) I (lv_sub hl [0, 1, 2, 3, 4, 5, 6] rfl)
            refine lv_if_ne (tgt := 179) hx hb dX2_checkMove_158 (by decide) (fun c_158 => ?_) (fun c_158 => ?_)
            · have p_158 := of_decide_eq_true ((b2i_ne0 _).mp c_158)
              have c_158 := p_158
              refine lv_iconst (v := 0) hx hb dX2_checkMove_179 (by decide) ?_
              exact J_180_5 0 _ _ _ (by rw [show plc w (1 - c) = w (125 + 3 * (1 - c).toNatClampNeg) from rfl]; simp [b2i, c_158]) I (lv_sub hl [0, 1, 2, 3, 4, 5] rfl)
            · have p_158 := of_decide_eq_false ((b2i_eq0 _).mp c_158)
              have c_158 := p_158
              have hc3 := (okC hcc1).1
              refine lv_aload_n hx hb dX2_checkMove_161 rfl (lv_at hl 3 rfl) ?_
              refine lv_iconst (v := 1) hx hb dX2_checkMove_162 (by decide) ?_
              refine lv_iload_n hx hb dX2_checkMove_163 rfl (lv_at hl 4 rfl) ?_
              refine lv_isub hx hb dX2_checkMove_164 ?_
              refine g_cr (g_runV S hK I (As := [.int (1 - c)]) (rest := []) (met_X2_climber l Γ htr ph i ad na mc w (1 - c) hW hw  hcc1) (cwV 1 hts (lw_V q782 q783 q784 q121 q785) rfl rfl rfl (by decide +kernel) ⟨Nat.le_of_ble_eq_true rfl, Nat.le_of_ble_eq_true rfl⟩) (g_recv hK I (g_at.of hW.o0) (ci := 1) rfl) rfl hl.1 rfl (Nat.le_of_ble_eq_true rfl) dX2_checkMove_165 ⟨Nat.le_of_ble_eq_true rfl, Nat.le_of_ble_eq_true rfl⟩) I (fun r_165 ph1 H locs hp I => ?_)
              obtain ⟨hp, hph⟩ := hp
              rw [hph] at I
              have hp : r_165 = (ad (10 + (1 - c).toNatClampNeg)) := hp
              rw [hp]
              refine g_getN S hK I k_X3 (v := .int (w (125 + 3 * ((1 - c).toNatClampNeg)))) (g_at.of (hW.cl (c := ((1 - c).toNatClampNeg)) (by omega))) 1 (by decide) q212 rfl rfl dX2_checkMove_168 ?_
              refine lv_iload_n hx hb dX2_checkMove_171 rfl (lv_at hl 5 rfl) ?_
              refine lv_icmp_ne (tgt := 179) hx hb dX2_checkMove_172 (by decide) (fun c_172 => ?_) (fun c_172 => ?_)
              · refine lv_iconst (v := 0) hx hb dX2_checkMove_179 (by decide) ?_
                exact J_180_5 0 _ _ _ (by rw [show plc w (1 - c) = w (125 + 3 * (1 - c).toNatClampNeg) from rfl]; simp [b2i, c_158, c_172]) I (lv_sub hl [0, 1, 2, 3, 4, 5] rfl)
              · refine lv_iconst (v := 1) hx hb dX2_checkMove_175 (by decide) ?_
                refine lv_goto (tgt := 180) hx hb dX2_checkMove_176 (by decide) ?_
                exact J_180_5 1 _ _ _ (by rw [show plc w (1 - c) = w (125 + 3 * (1 - c).toNatClampNeg) from rfl]; simp [b2i, c_158, c_172]) I (lv_sub hl [0, 1, 2, 3, 4, 5] rfl)
          refine lv_if_ne (tgt := 141) hx hb dX2_checkMove_116 (by decide) (fun c_116 => ?_) (fun c_116 => ?_)
          · have p_116 := of_decide_eq_true ((b2i_ne0 _).mp c_116)
            have c_116 := p_116
            refine lv_iconst (v := 0) hx hb dX2_checkMove_141 (by decide) ?_
            exact J_142_4 0 _ _ _ (by simp [b2i, c_116]) I (lv_sub hl [0, 1, 2, 3, 4, 5] rfl)
          · have p_116 := of_decide_eq_false ((b2i_eq0 _).mp c_116)
            have c_116 := p_116
            have hp1 := okHx hw (hp0.resolve_left c_116)
            have hp2 := hp1.1
            refine lv_aload_n hx hb dX2_checkMove_119 rfl (lv_at hl 3 rfl) ?_
            refine lv_aload_n hx hb dX2_checkMove_120 rfl (lv_at hl 3 rfl) ?_
            refine g_get S hK I k_X2 (v := .ref (ad 1)) (g_at.of hW.o0) 0 (by decide) q643 rfl rfl dX2_checkMove_121 ?_
            refine lv_iload_n hx hb dX2_checkMove_124 rfl (lv_at hl 5 rfl) ?_
            refine g_cr (g_runV S hK I (As := [.int p]) (rest := [.ref (ad 0)]) (by have z := (met_w_get1 l Γ ph i ad na mc w hW hw p.toNatClampNeg hp1.1); rw [hp1.2] at z; exact z) (cwV 1 hts (lw_V q883 q793 q3509 q130 q795) rfl rfl rfl (by decide +kernel) ⟨Nat.le_of_ble_eq_true rfl, Nat.le_of_ble_eq_true rfl⟩) (g_recv hK I (g_at.of hW.o1) (ci := 21) rfl) rfl hl.1 rfl (Nat.le_of_ble_eq_true rfl) dX2_checkMove_125 ⟨Nat.le_of_ble_eq_true rfl, Nat.le_of_ble_eq_true rfl⟩) I (fun r_125 ph1 H locs hp I => ?_)
            obtain ⟨hp, hph⟩ := hp
            rw [hph] at I
            have hp : r_125 = (ad (30 + p.toNatClampNeg)) := hp
            rw [hp]
            refine h_cast S hK I (ho_or hW hw (k := p.toNatClampNeg) (by omega)) q1389 hca_Hold dX2_checkMove_128 ?_
            refine g_ci (g_runV S hK I (As := [.ref (ad (30 + p.toNatClampNeg))]) (rest := []) (met_X2_isBright l Γ htr ph i ad na mc w p.toNatClampNeg hW hw  (by omega)) (cwV 1 hts (lw_V q1941 q1851 q1852 q121 q1853) rfl rfl rfl (by decide +kernel) ⟨Nat.le_of_ble_eq_true rfl, Nat.le_of_ble_eq_true rfl⟩) (g_recv hK I (g_at.of hW.o0) (ci := 1) rfl) rfl hl.1 rfl (Nat.le_of_ble_eq_true rfl) dX2_checkMove_131 ⟨Nat.le_of_ble_eq_true rfl, Nat.le_of_ble_eq_true rfl⟩) I (fun r_131 ph1 H locs hp I => ?_)
            obtain ⟨hp, hph⟩ := hp
            rw [hph] at I
            have hp : r_131 = (b2i (isBr w (nI p.toNatClampNeg))) := hp
            rw [hp]
            refine lv_if_ne (tgt := 141) hx hb dX2_checkMove_134 (by decide) (fun c_134 => ?_) (fun c_134 => ?_)
            · have p_134 := (b2i_ne0 _).mp c_134
              refine lv_iconst (v := 0) hx hb dX2_checkMove_141 (by decide) ?_
              exact J_142_4 0 _ _ _ (by rw [hp1.2] at p_134; simp [b2i, c_116, p_134]) I (lv_sub hl [0, 1, 2, 3, 4, 5] rfl)
            · have p_134 := (b2i_eq0 _).mp c_134
              refine lv_iconst (v := 1) hx hb dX2_checkMove_137 (by decide) ?_
              refine lv_goto (tgt := 142) hx hb dX2_checkMove_138 (by decide) ?_
              exact J_142_4 1 _ _ _ (by rw [hp1.2] at p_134; simp [b2i, c_116, p_134]) I (lv_sub hl [0, 1, 2, 3, 4, 5] rfl)
        refine lv_icmp_le (tgt := 107) hx hb dX2_checkMove_100 (by decide) (fun c_100 => ?_) (fun c_100 => ?_)
        · have n_100 := Int32.not_lt.mpr c_100
          refine lv_iconst (v := 0) hx hb dX2_checkMove_107 (by decide) ?_
          exact J_108_3 0 _ _ _ (by simp [b2i, Int32.not_lt.mpr c_100]) I (lv_sub hl [0, 1, 2, 3, 4, 5] rfl)
        · have n_100 := Int32.not_le.mp c_100
          refine lv_iconst (v := 1) hx hb dX2_checkMove_103 (by decide) ?_
          refine lv_goto (tgt := 108) hx hb dX2_checkMove_104 (by decide) ?_
          exact J_108_3 1 _ _ _ (by simp [b2i, Int32.not_le.mp c_100]) I (lv_sub hl [0, 1, 2, 3, 4, 5] rfl)
      refine lv_icmp_ne (tgt := 71) hx hb dX2_checkMove_64 (by decide) (fun c_64 => ?_) (fun c_64 => ?_)
      · refine lv_iconst (v := 0) hx hb dX2_checkMove_71 (by decide) ?_
        exact J_72_2 0 _ _ _ (by rw [show plc w c = w (125 + 3 * c.toNatClampNeg) from rfl]; simp [b2i, c_64]) I (lv_sub hl [0, 1, 2, 3, 4] rfl)
      · refine lv_iconst (v := 1) hx hb dX2_checkMove_67 (by decide) ?_
        refine lv_goto (tgt := 72) hx hb dX2_checkMove_68 (by decide) ?_
        exact J_72_2 1 _ _ _ (by rw [show plc w c = w (125 + 3 * c.toNatClampNeg) from rfl]; simp [b2i, c_64]) I (lv_sub hl [0, 1, 2, 3, 4] rfl)
    refine lv_if_ne (tgt := 53) hx hb dX2_checkMove_29 (by decide) (fun c_29 => ?_) (fun c_29 => ?_)
    · have p_29 := of_decide_eq_true ((b2i_ne0 _).mp c_29)
      have c_29 := p_29
      refine lv_iconst (v := 0) hx hb dX2_checkMove_53 (by decide) ?_
      exact J_54_1 0 _ _ _ (by simp [b2i, c_29]) I (lv_sub hl [0, 1, 2, 3, 4] rfl)
    · have p_29 := of_decide_eq_false ((b2i_eq0 _).mp c_29)
      have c_29 := p_29
      have hp1 := okHx hw (hp0.resolve_left c_29)
      have hp2 := hp1.1
      refine lv_aload_n hx hb dX2_checkMove_32 rfl (lv_at hl 2 rfl) ?_
      refine g_get S hK I k_X2 (v := .ref (ad 1)) (g_at.of hW.o0) 0 (by decide) q643 rfl rfl dX2_checkMove_33 ?_
      refine lv_iload_n hx hb dX2_checkMove_36 rfl (lv_at hl 4 rfl) ?_
      refine g_cr (g_runV S hK I (As := [.int p]) (rest := []) (by have z := (met_w_get1 l Γ ph i ad na mc w hW hw p.toNatClampNeg hp1.1); rw [hp1.2] at z; exact z) (cwV 1 hts (lw_V q883 q793 q3509 q130 q795) rfl rfl rfl (by decide +kernel) ⟨Nat.le_of_ble_eq_true rfl, Nat.le_of_ble_eq_true rfl⟩) (g_recv hK I (g_at.of hW.o1) (ci := 21) rfl) rfl hl.1 rfl (Nat.le_of_ble_eq_true rfl) dX2_checkMove_37 ⟨Nat.le_of_ble_eq_true rfl, Nat.le_of_ble_eq_true rfl⟩) I (fun r_37 ph1 H locs hp I => ?_)
      obtain ⟨hp, hph⟩ := hp
      rw [hph] at I
      have hp : r_37 = (ad (30 + p.toNatClampNeg)) := hp
      rw [hp]
      refine h_cast S hK I (ho_or hW hw (k := p.toNatClampNeg) (by omega)) q1389 hca_Hold dX2_checkMove_40 ?_
      refine g_ci (by obtain ⟨fs9, h9⟩ := ho_or hW hw (k := p.toNatClampNeg) (by omega); rcases h9 with ⟨e9, r9⟩ | ⟨e9, r9⟩ | ⟨e9, r9⟩ | ⟨e9, r9⟩; exact (g_runU S hK I (As := []) (rest := []) (met_X7_hasCrumbled l Γ htr ph i ad na mc w p.toNatClampNeg hW hw  (by omega)) (g_cwD (n := 0) hts q1373 q157 (by decide) (by decide +kernel) q1920 q1368 (va_Decl.of (hts _ q1367) (hts _ q1373)) q1370 q1367 ⟨Nat.le_of_ble_eq_true rfl, Nat.le_of_ble_eq_true rfl⟩) (g_recv hK I (g_at.of r9) (ci := 7) rfl) rfl hl.1 rfl (Nat.le_of_ble_eq_true rfl) dX2_checkMove_43 ⟨Nat.le_of_ble_eq_true rfl, Nat.le_of_ble_eq_true rfl⟩); exact (g_runU S hK I (As := []) (rest := []) (met_X7_hasCrumbled l Γ htr ph i ad na mc w p.toNatClampNeg hW hw  (by omega)) (g_cwD (n := 0) hts q1373 q157 (by decide) (by decide +kernel) q1920 q1368 (va_Decl.of (hts _ q1367) (hts _ q1373)) q1372 q1367 ⟨Nat.le_of_ble_eq_true rfl, Nat.le_of_ble_eq_true rfl⟩) (g_recv hK I (g_at.of r9) (ci := 9) rfl) rfl hl.1 rfl (Nat.le_of_ble_eq_true rfl) dX2_checkMove_43 ⟨Nat.le_of_ble_eq_true rfl, Nat.le_of_ble_eq_true rfl⟩); exact (g_runU S hK I (As := []) (rest := []) (met_X7_hasCrumbled l Γ htr ph i ad na mc w p.toNatClampNeg hW hw  (by omega)) (g_cwD (n := 0) hts q1373 q157 (by decide) (by decide +kernel) q1920 q1368 (va_Decl.of (hts _ q1367) (hts _ q1373)) q1371 q1367 ⟨Nat.le_of_ble_eq_true rfl, Nat.le_of_ble_eq_true rfl⟩) (g_recv hK I (g_at.of r9) (ci := 8) rfl) rfl hl.1 rfl (Nat.le_of_ble_eq_true rfl) dX2_checkMove_43 ⟨Nat.le_of_ble_eq_true rfl, Nat.le_of_ble_eq_true rfl⟩); exact (g_runU S hK I (As := []) (rest := []) (met_X7_hasCrumbled l Γ htr ph i ad na mc w p.toNatClampNeg hW hw  (by omega)) (g_cwD (n := 0) hts q1373 q157 (by decide) (by decide +kernel) q1920 q1368 (va_Decl.of (hts _ q1367) (hts _ q1373)) q1369 q1367 ⟨Nat.le_of_ble_eq_true rfl, Nat.le_of_ble_eq_true rfl⟩) (g_recv hK I (g_at.of r9) (ci := 6) rfl) rfl hl.1 rfl (Nat.le_of_ble_eq_true rfl) dX2_checkMove_43 ⟨Nat.le_of_ble_eq_true rfl, Nat.le_of_ble_eq_true rfl⟩)) I (fun r_43 ph1 H locs hp I => ?_)
      obtain ⟨hp, hph⟩ := hp
      rw [hph] at I
      have hp : r_43 = (b2i (hasCr w (nI p.toNatClampNeg))) := hp
      rw [hp]
      refine lv_if_eq (tgt := 53) hx hb dX2_checkMove_46 (by decide) (fun c_46 => ?_) (fun c_46 => ?_)
      · have p_46 := (b2i_eq0 _).mp c_46
        refine lv_iconst (v := 0) hx hb dX2_checkMove_53 (by decide) ?_
        exact J_54_1 0 _ _ _ (by rw [hp1.2] at p_46; simp [b2i, c_29, p_46]) I (lv_sub hl [0, 1, 2, 3, 4] rfl)
      · have p_46 := (b2i_ne0 _).mp c_46
        refine lv_iconst (v := 1) hx hb dX2_checkMove_49 (by decide) ?_
        refine lv_goto (tgt := 54) hx hb dX2_checkMove_50 (by decide) ?_
        exact J_54_1 1 _ _ _ (by rw [hp1.2] at p_46; simp [b2i, c_29, p_46]) I (lv_sub hl [0, 1, 2, 3, 4] rfl)
  refine lv_icmp_ne (tgt := 15) hx hb dX2_checkMove_8 (by decide) (fun c_8 => ?_) (fun c_8 => ?_)
  · refine lv_iconst (v := 0) hx hb dX2_checkMove_15 (by decide) ?_
    exact J_16_0 0 _ _ _ (by simp [b2i, c_8]) I (lv_sub hl [0, 1, 2, 3] rfl)
  · refine lv_iconst (v := 1) hx hb dX2_checkMove_11 (by decide) ?_
    refine lv_goto (tgt := 16) hx hb dX2_checkMove_12 (by decide) ?_
    exact J_16_0 1 _ _ _ (by simp [b2i, c_8]) I (lv_sub hl [0, 1, 2, 3] rfl)


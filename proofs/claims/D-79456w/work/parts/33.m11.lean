/-! THE REFERENCE: plans are read -/
set_option maxRecDepth 100000
set_option maxHeartbeats 4000000 in
set_option maxRecDepth 100000 in
theorem met_X5_next (l : Launch) (Γ : g_C) (mo : Nat) (ad : Nat → Nat) (f : Nat → Int32) (a : Nat → Nat → Int32) (rr : Nat → UInt32) (ph : g_H)  (hT : okT f) : g_Met l yX5_next (ws_ yX5_next cX5_next 1 (some .int)) (g_rm 1 0 0) Γ [.ref mo] (mG Γ mo ad f a rr ph) (g_oi (fun v ph' => v = (nx (a 21) (tL f) (tA f)) ∧ ph' = mG Γ mo ad f a rr ph)) g_no := by
  refine g_start (y := yX5_next) (cc := cX5_next) (maxL := 1) (ret := (some .int)) (rm := g_rm 1 0 0) (by decide) (Nat.le_of_ble_eq_true rfl) ?_
  intro p e s m A below meth c ls Q hQ S hr hlk hex hnm hK I hl
  have hx := S.1
  have hb := S.2.1
  have hown := S.2.2.2.1
  have hts := S.2.2.2.2
  have S : CallFix p m c cX5_next 1 s A lw_all "CrumblingWallModel" := S
  have hl : lv_has ls 1 [(0, .ref mo)] := hl
  refine lv_aload_n hx hb dX5_next_0 rfl (lv_at hl 0 rfl) ?_
  refine g_get S hK I k_X5 (v := .int (f 26)) (g_at.of mG_obj) 26 (by decide) q2978 rfl rfl dX5_next_1 ?_
  refine lv_aload_n hx hb dX5_next_4 rfl (lv_at hl 0 rfl) ?_
  refine g_get S hK I k_X5 (v := .int (f 25)) (g_at.of mG_obj) 25 (by decide) q2977 rfl rfl dX5_next_5 ?_
  refine lv_icmp_ge (tgt := 23) hx hb dX5_next_8 (by decide) (fun c_8 => ?_) (fun c_8 => ?_)
  · have n_8 := Int32.not_lt.mpr c_8
    refine lv_iconst (v := (-1)) hx hb dX5_next_23 (by decide) ?_
    exact g_iret S hr hlk I dX5_next_24 (Nat.le_of_ble_eq_true rfl) (Nat.le_of_ble_eq_true rfl) hQ ⟨_, rfl, (if_neg (fun q => absurd ((nx_f (t := a 21) hT).mpr q) (Int32.not_lt.mpr c_8))).symm, rfl⟩
  · have n_8 := Int32.not_le.mp c_8
    refine lv_aload_n hx hb dX5_next_11 rfl (lv_at hl 0 rfl) ?_
    refine g_get S hK I k_X5 (v := .ref (ad 21)) (g_at.of mG_obj) 21 (by decide) q2973 rfl rfl dX5_next_12 ?_
    refine lv_aload_n hx hb dX5_next_15 rfl (lv_at hl 0 rfl) ?_
    refine g_get S hK I k_X5 (v := .int (f 26)) (g_at.of mG_obj) 26 (by decide) q2978 rfl rfl dX5_next_16 ?_
    refine m_cald S hK I (f := (a 21)) (k := (tA f)) (g_at.of mG_21) (by have := hT.1.2; rw [hT.2.1.1]; exact vp_in_nI (by have := (nx_f (t := a 21) hT).mp (Int32.not_le.mp c_8); omega) (by decide)) rfl dX5_next_19 ?_
    refine lv_goto (tgt := 24) hx hb dX5_next_20 (by decide) ?_
    exact g_iret S hr hlk I dX5_next_24 (Nat.le_of_ble_eq_true rfl) (Nat.le_of_ble_eq_true rfl) hQ ⟨_, rfl, (if_pos ((nx_f (t := a 21) hT).mp (Int32.not_le.mp c_8))).symm, rfl⟩

set_option maxHeartbeats 4000000 in
set_option maxRecDepth 100000 in
theorem met_X5_isDigit (l : Launch) (Γ : g_C) (mo : Nat) (ad : Nat → Nat) (f : Nat → Int32) (a : Nat → Nat → Int32) (rr : Nat → UInt32) (ph : g_H)  (hT : okT f) : g_Met l yX5_isDigit (ws_ yX5_isDigit cX5_isDigit 1 (some .boolean)) (g_rm 2 0 0) Γ [.ref mo] (mG Γ mo ad f a rr ph) (g_oi (fun v ph' => v = (b2i (dig (nx (a 21) (tL f) (tA f)))) ∧ ph' = mG Γ mo ad f a rr ph)) g_no := by
  refine g_start (y := yX5_isDigit) (cc := cX5_isDigit) (maxL := 1) (ret := (some .boolean)) (rm := g_rm 2 0 0) (by decide) (Nat.le_of_ble_eq_true rfl) ?_
  intro p e s m A below meth c ls Q hQ S hr hlk hex hnm hK I hl
  have hx := S.1
  have hb := S.2.1
  have hown := S.2.2.2.1
  have hts := S.2.2.2.2
  have S : CallFix p m c cX5_isDigit 1 s A lw_all "CrumblingWallModel" := S
  have hl : lv_has ls 1 [(0, .ref mo)] := hl
  refine lv_aload_n hx hb dX5_isDigit_0 rfl (lv_at hl 0 rfl) ?_
  refine g_ci (g_runV S hK I (As := []) (rest := []) (met_X5_next l Γ mo ad f a rr ph hT) (cwV 0 hts (lw_V q3423 q3425 qs107 q151 q3426) rfl rfl rfl (by decide +kernel) ⟨Nat.le_of_ble_eq_true rfl, Nat.le_of_ble_eq_true rfl⟩) (g_recv hK I (g_at.of mG_obj) (ci := 4) rfl) rfl hl.1 rfl (Nat.le_of_ble_eq_true rfl) dX5_isDigit_1 ⟨Nat.le_of_ble_eq_true rfl, Nat.le_of_ble_eq_true rfl⟩) I (fun r_1 ph1 H locs hp I => ?_)
  obtain ⟨hp, rfl⟩ := hp
  have hp : r_1 = nx (a 21) (tL f) (tA f) := hp
  subst hp
  refine lv_bipush (v := 48) hx hb dX5_isDigit_4 (by decide) ?_
  refine lv_bipush (v := 57) hx hb dX5_isDigit_6 (by decide) ?_
  refine g_ci (g_runS S hK I (As := [.int (nx (a 21) (tL f) (tA f)), .int 48, .int 57]) (rest := []) (met_X5_isBetween l Γ (mG Γ mo ad f a rr ph) (nx (a 21) (tL f) (tA f)) 48 57) (va_cwS 3 hts (lw_S q3053 q3054 q151 q3055) rfl rfl rfl (by decide +kernel) ⟨Nat.le_of_ble_eq_true rfl, Nat.le_of_ble_eq_true rfl⟩) rfl hl.1 rfl (Nat.le_of_ble_eq_true rfl) dX5_isDigit_8 ⟨Nat.le_of_ble_eq_true rfl, Nat.le_of_ble_eq_true rfl⟩) I (fun r_8 ph1 H locs hp I => ?_)
  obtain ⟨hp, rfl⟩ := hp
  have hp : r_8 = b2i (btw (nx (a 21) (tL f) (tA f)) 48 57) := hp
  subst hp
  exact g_zret S hr hlk I (b2i_nar _) dX5_isDigit_11 (Nat.le_of_ble_eq_true rfl) (Nat.le_of_ble_eq_true rfl) hQ ⟨_, rfl, rfl, rfl⟩

set_option maxHeartbeats 4000000 in
set_option maxRecDepth 100000 in
theorem met_X5_readsPlace (l : Launch) (Γ : g_C) (mo : Nat) (ad : Nat → Nat) (f : Nat → Int32) (a : Nat → Nat → Int32) (rr : Nat → UInt32) (ph : g_H)  (hT : okT f) : g_Met l yX5_readsPlace (ws_ yX5_readsPlace cX5_readsPlace 1 (some .boolean)) (g_rm 3 0 0) Γ [.ref mo] (mG Γ mo ad f a rr ph) (g_oi (fun v ph' => v = (b2i ((rP (a 21) (tL f) (tA f)).1)) ∧ ph' = mG Γ mo ad (upd f 26 (nI (rP (a 21) (tL f) (tA f)).2.1)) (va_up a 24 (oset (a 24) (tS f) (rP (a 21) (tL f) (tA f)).2.2)) rr ph)) g_no := by
  refine g_start (y := yX5_readsPlace) (cc := cX5_readsPlace) (maxL := 1) (ret := (some .boolean)) (rm := g_rm 3 0 0) (by decide) (Nat.le_of_ble_eq_true rfl) ?_
  intro p e s m A below meth c ls Q hQ S hr hlk hex hnm hK I hl
  have hx := S.1
  have hb := S.2.1
  have hown := S.2.2.2.1
  have hts := S.2.2.2.2
  have S : CallFix p m c cX5_readsPlace 1 s A lw_all "CrumblingWallModel" := S
  have hl : lv_has ls 1 [(0, .ref mo)] := hl
  refine lv_aload_n hx hb dX5_readsPlace_0 rfl (lv_at hl 0 rfl) ?_
  refine g_ci (g_runV S hK I (As := []) (rest := []) (met_X5_next l Γ mo ad f a rr ph hT) (cwV 0 hts (lw_V q3423 q3425 qs107 q151 q3426) rfl rfl rfl (by decide +kernel) ⟨Nat.le_of_ble_eq_true rfl, Nat.le_of_ble_eq_true rfl⟩) (g_recv hK I (g_at.of mG_obj) (ci := 4) rfl) rfl hl.1 rfl (Nat.le_of_ble_eq_true rfl) dX5_readsPlace_1 ⟨Nat.le_of_ble_eq_true rfl, Nat.le_of_ble_eq_true rfl⟩) I (fun r_1 ph1 H locs hp I => ?_)
  obtain ⟨hp, rfl⟩ := hp
  have hp : r_1 = nx (a 21) (tL f) (tA f) := hp
  subst hp
  refine lv_bipush (v := 103) hx hb dX5_readsPlace_4 (by decide) ?_
  refine lv_icmp_ne (tgt := 31) hx hb dX5_readsPlace_6 (by decide) (fun c_6 => ?_) (fun c_6 => ?_)
  · refine lv_aload_n hx hb dX5_readsPlace_31 rfl (lv_at hl 0 rfl) ?_
    refine g_ci (g_runV S hK I (As := []) (rest := []) (met_X5_isDigit l Γ mo ad f a rr ph hT) (cwV 0 hts (lw_V q3431 q3433 qs109 q151 q3434) rfl rfl rfl (by decide +kernel) ⟨Nat.le_of_ble_eq_true rfl, Nat.le_of_ble_eq_true rfl⟩) (g_recv hK I (g_at.of mG_obj) (ci := 4) rfl) rfl hl.1 rfl (Nat.le_of_ble_eq_true rfl) dX5_readsPlace_32 ⟨Nat.le_of_ble_eq_true rfl, Nat.le_of_ble_eq_true rfl⟩) I (fun r_32 ph1 H locs hp I => ?_)
    obtain ⟨hp, rfl⟩ := hp
    have hp : r_32 = b2i (dig (nx (a 21) (tL f) (tA f))) := hp
    subst hp
    refine lv_if_ne (tgt := 40) hx hb dX5_readsPlace_35 (by decide) (fun c_35 => ?_) (fun c_35 => ?_)
    · have p_35 := (b2i_ne0 _).mp c_35
      have hl0 : tA f < tL f := nx_dig p_35
      refine lv_aload_n hx hb dX5_readsPlace_40 rfl (lv_at hl 0 rfl) ?_
      refine g_get S hK I k_X5 (v := .ref (ad 24)) (g_at.of mG_obj) 24 (by decide) q2976 rfl rfl dX5_readsPlace_41 ?_
      refine lv_aload_n hx hb dX5_readsPlace_44 rfl (lv_at hl 0 rfl) ?_
      refine g_get S hK I k_X5 (v := .int (f 27)) (g_at.of mG_obj) 27 (by decide) q2979 rfl rfl dX5_readsPlace_45 ?_
      refine lv_aload_n hx hb dX5_readsPlace_48 rfl (lv_at hl 0 rfl) ?_
      refine g_ci (g_runV S hK I (As := []) (rest := [.int (f 27), .ref (ad 24)]) (met_X5_next l Γ mo ad f a rr ph hT) (cwV 0 hts (lw_V q3423 q3425 qs107 q151 q3426) rfl rfl rfl (by decide +kernel) ⟨Nat.le_of_ble_eq_true rfl, Nat.le_of_ble_eq_true rfl⟩) (g_recv hK I (g_at.of mG_obj) (ci := 4) rfl) rfl hl.1 rfl (Nat.le_of_ble_eq_true rfl) dX5_readsPlace_49 ⟨Nat.le_of_ble_eq_true rfl, Nat.le_of_ble_eq_true rfl⟩) I (fun r_49 ph1 H locs hp I => ?_)
      obtain ⟨hp, rfl⟩ := hp
      have hp : r_49 = nx (a 21) (tL f) (tA f) := hp
      subst hp
      refine lv_bipush (v := 48) hx hb dX5_readsPlace_52 (by decide) ?_
      refine lv_isub hx hb dX5_readsPlace_54 ?_
      refine m_iast S hK I (f := (a 24)) (k := (tS f)) mG_24 (okT_s hT).1 (okT_s hT).2 dX5_readsPlace_55 (fun H locs I => ?_)
      have I := mI_24 I
      refine lv_aload_n hx hb dX5_readsPlace_56 rfl (lv_at hl 0 rfl) ?_
      refine lv_dup hx hb dX5_readsPlace_57 rfl ?_
      refine g_get S hK I k_X5 (v := .int (f 26)) (g_at.of mG_obj) 26 (by decide) q2978 rfl rfl dX5_readsPlace_58 ?_
      refine lv_iconst (v := 1) hx hb dX5_readsPlace_61 (by decide) ?_
      refine lv_iadd hx hb dX5_readsPlace_62 ?_
      refine g_put S hK I k_X5 (v := .int ((f 26) + 1)) mG_obj 26 (by decide) q2978 rfl rfl rfl rfl (Nat.le_of_ble_eq_true rfl) dX5_readsPlace_63 (fun H locs I => ?_)
      have I := mI_f (f' := (upd f 26 ((f 26) + 1))) I rfl
      have I := mI_ef I (show (upd f 26 ((f 26) + 1)) = (upd f 26 (nI (tA f + 1))) from at_1 hT)
      refine lv_aload_n hx hb dX5_readsPlace_66 rfl (lv_at hl 0 rfl) ?_
      refine g_ci (g_runV S hK I (As := []) (rest := []) (met_X5_isDigit l Γ mo ad (upd f 26 (nI (tA f + 1))) (va_up a 24 (upd (a 24) (tS f) ((nx (a 21) (tL f) (tA f)) - 48))) rr ph (okT_u hT (by have := hT.1.2; omega))) (cwV 0 hts (lw_V q3431 q3433 qs109 q151 q3434) rfl rfl rfl (by decide +kernel) ⟨Nat.le_of_ble_eq_true rfl, Nat.le_of_ble_eq_true rfl⟩) (g_recv hK I (g_at.of mG_obj) (ci := 4) rfl) rfl hl.1 rfl (Nat.le_of_ble_eq_true rfl) dX5_readsPlace_67 ⟨Nat.le_of_ble_eq_true rfl, Nat.le_of_ble_eq_true rfl⟩) I (fun r_67 ph1 H locs hp I => ?_)
      obtain ⟨hp, rfl⟩ := hp
      have hp : r_67 = b2i (dig (nx (a 21) (tL (upd f 26 (nI (tA f + 1)))) (tA (upd f 26 (nI (tA f + 1)))))) := hp
      subst hp
      rw [show nx (a 21) (tL (upd f 26 (nI (tA f + 1)))) (tA (upd f 26 (nI (tA f + 1)))) = nx (a 21) (tL f) (tA f + 1) from nx_u (by have := hT.2.1.2; omega)]
      refine lv_if_eq (tgt := 112) hx hb dX5_readsPlace_70 (by decide) (fun c_70 => ?_) (fun c_70 => ?_)
      · have p_70 := (b2i_eq0 _).mp c_70
        refine lv_iconst (v := 1) hx hb dX5_readsPlace_112 (by decide) ?_
        have eR : rP (a 21) (tL f) (tA f) = (true, tA f + 1, some ((nx (a 21) (tL f) (tA f)) - 48)) := (if_neg c_6).trans ((if_neg (by rw [p_35]; decide)).trans (if_neg (by rw [p_70]; decide)))
        exact g_zret S hr hlk I rfl dX5_readsPlace_113 (Nat.le_of_ble_eq_true rfl) (Nat.le_of_ble_eq_true rfl) hQ ⟨_, rfl, ((congrArg (fun q : Bool × Nat × Option Int32 => b2i q.1) eR).symm), (mG_c (congrArg (fun q => upd f 26 (nI q.2.1)) eR).symm (congrArg (fun q : Bool × Nat × Option Int32 => va_up a 24 (oset (a 24) (tS f) q.2.2)) eR).symm)⟩
      · have p_70 := (b2i_ne0 _).mp c_70
        have hl1 : tA f + 1 < tL f := nx_dig p_70
        refine lv_aload_n hx hb dX5_readsPlace_73 rfl (lv_at hl 0 rfl) ?_
        refine g_get S hK I k_X5 (v := .ref (ad 24)) (g_at.of mG_obj) 24 (by decide) q2976 rfl rfl dX5_readsPlace_74 ?_
        refine lv_aload_n hx hb dX5_readsPlace_77 rfl (lv_at hl 0 rfl) ?_
        refine g_get S hK I k_X5 (v := .int (f 27)) (g_at.of mG_obj) 27 (by decide) q2979 rfl rfl dX5_readsPlace_78 ?_
        refine lv_bipush (v := 10) hx hb dX5_readsPlace_81 (by decide) ?_
        refine lv_aload_n hx hb dX5_readsPlace_83 rfl (lv_at hl 0 rfl) ?_
        refine g_get S hK I k_X5 (v := .ref (ad 24)) (g_at.of mG_obj) 24 (by decide) q2976 rfl rfl dX5_readsPlace_84 ?_
        refine lv_aload_n hx hb dX5_readsPlace_87 rfl (lv_at hl 0 rfl) ?_
        refine g_get S hK I k_X5 (v := .int (f 27)) (g_at.of mG_obj) 27 (by decide) q2979 rfl rfl dX5_readsPlace_88 ?_
        refine m_iald S hK I (f := (upd (a 24) (tS f) ((nx (a 21) (tL f) (tA f)) - 48))) (k := (tS f)) (g_at.of mG_24) (okT_s hT).1 (okT_s hT).2 dX5_readsPlace_91 ?_
        rw [show ((upd (a 24) (tS f) ((nx (a 21) (tL f) (tA f)) - 48)) (tS f)) = (nx (a 21) (tL f) (tA f)) - 48 from upd_s _ _ _]
        refine lv_imul hx hb dX5_readsPlace_92 ?_
        refine lv_aload_n hx hb dX5_readsPlace_93 rfl (lv_at hl 0 rfl) ?_
        refine g_ci (g_runV S hK I (As := []) (rest := [.int (10 * ((nx (a 21) (tL f) (tA f)) - 48)), .int (f 27), .ref (ad 24)]) (met_X5_next l Γ mo ad (upd f 26 (nI (tA f + 1))) (va_up a 24 (upd (a 24) (tS f) ((nx (a 21) (tL f) (tA f)) - 48))) rr ph (okT_u hT (by have := hT.1.2; omega))) (cwV 0 hts (lw_V q3423 q3425 qs107 q151 q3426) rfl rfl rfl (by decide +kernel) ⟨Nat.le_of_ble_eq_true rfl, Nat.le_of_ble_eq_true rfl⟩) (g_recv hK I (g_at.of mG_obj) (ci := 4) rfl) rfl hl.1 rfl (Nat.le_of_ble_eq_true rfl) dX5_readsPlace_94 ⟨Nat.le_of_ble_eq_true rfl, Nat.le_of_ble_eq_true rfl⟩) I (fun r_94 ph1 H locs hp I => ?_)
        obtain ⟨hp, rfl⟩ := hp
        have hp : r_94 = nx (a 21) (tL (upd f 26 (nI (tA f + 1)))) (tA (upd f 26 (nI (tA f + 1)))) := hp
        subst hp
        rw [show nx (a 21) (tL (upd f 26 (nI (tA f + 1)))) (tA (upd f 26 (nI (tA f + 1)))) = nx (a 21) (tL f) (tA f + 1) from nx_u (by have := hT.2.1.2; omega)]
        refine lv_iadd hx hb dX5_readsPlace_97 ?_
        refine lv_bipush (v := 48) hx hb dX5_readsPlace_98 (by decide) ?_
        refine lv_isub hx hb dX5_readsPlace_100 ?_
        refine m_iast S hK I (f := (upd (a 24) (tS f) ((nx (a 21) (tL f) (tA f)) - 48))) (k := (tS f)) mG_24 (okT_s hT).1 (okT_s hT).2 dX5_readsPlace_101 (fun H locs I => ?_)
        have I := mI_24 I
        rw [bx_uu] at I
        have I := mI_ea I (show (va_up a 24 (upd (upd (a 24) (tS f) ((nx (a 21) (tL f) (tA f)) - 48)) (tS f) (((10 * ((nx (a 21) (tL f) (tA f)) - 48)) + (nx (a 21) (tL f) (tA f + 1))) - 48))) = (va_up a 24 (upd (a 24) (tS f) (10 * ((nx (a 21) (tL f) (tA f)) - 48) + (nx (a 21) (tL f) (tA f + 1)) - 48))) from congrArg (va_up a 24) upd_uu)
        refine lv_aload_n hx hb dX5_readsPlace_102 rfl (lv_at hl 0 rfl) ?_
        refine lv_dup hx hb dX5_readsPlace_103 rfl ?_
        refine g_get S hK I k_X5 (v := .int (nI (tA f + 1))) (g_at.of mG_obj) 26 (by decide) q2978 rfl rfl dX5_readsPlace_104 ?_
        refine lv_iconst (v := 1) hx hb dX5_readsPlace_107 (by decide) ?_
        refine lv_iadd hx hb dX5_readsPlace_108 ?_
        refine g_put S hK I k_X5 (v := .int ((nI (tA f + 1)) + 1)) mG_obj 26 (by decide) q2978 rfl rfl rfl rfl (Nat.le_of_ble_eq_true rfl) dX5_readsPlace_109 (fun H locs I => ?_)
        have I := mI_f (f' := (upd (upd f 26 (nI (tA f + 1))) 26 ((nI (tA f + 1)) + 1))) I rfl
        have I := mI_ef I (show (upd (upd f 26 (nI (tA f + 1))) 26 ((nI (tA f + 1)) + 1)) = (upd f 26 (nI (tA f + 2))) from at_2)
        refine lv_iconst (v := 1) hx hb dX5_readsPlace_112 (by decide) ?_
        have eR : rP (a 21) (tL f) (tA f) = (true, tA f + 2, some (10 * ((nx (a 21) (tL f) (tA f)) - 48) + (nx (a 21) (tL f) (tA f + 1)) - 48)) := (if_neg c_6).trans ((if_neg (by rw [p_35]; decide)).trans (if_pos p_70))
        exact g_zret S hr hlk I rfl dX5_readsPlace_113 (Nat.le_of_ble_eq_true rfl) (Nat.le_of_ble_eq_true rfl) hQ ⟨_, rfl, ((congrArg (fun q : Bool × Nat × Option Int32 => b2i q.1) eR).symm), (mG_c (congrArg (fun q => upd f 26 (nI q.2.1)) eR).symm (congrArg (fun q : Bool × Nat × Option Int32 => va_up a 24 (oset (a 24) (tS f) q.2.2)) eR).symm)⟩
    · have p_35 := (b2i_eq0 _).mp c_35
      refine lv_iconst (v := 0) hx hb dX5_readsPlace_38 (by decide) ?_
      have eR : rP (a 21) (tL f) (tA f) = (false, tA f, none) := (if_neg c_6).trans (if_pos p_35)
      exact g_zret S hr hlk I rfl dX5_readsPlace_39 (Nat.le_of_ble_eq_true rfl) (Nat.le_of_ble_eq_true rfl) hQ ⟨_, rfl, ((congrArg (fun q : Bool × Nat × Option Int32 => b2i q.1) eR).symm), (mG_c ((upd_id hT.2.1.1).symm.trans (congrArg (fun q => upd f 26 (nI q.2.1)) eR).symm) ((va_upI a 24 rfl).symm.trans (congrArg (fun q : Bool × Nat × Option Int32 => va_up a 24 (oset (a 24) (tS f) q.2.2)) eR).symm))⟩
  · have hl0 : tA f < tL f := nx_c c_6 (by decide)
    refine lv_aload_n hx hb dX5_readsPlace_9 rfl (lv_at hl 0 rfl) ?_
    refine g_get S hK I k_X5 (v := .ref (ad 24)) (g_at.of mG_obj) 24 (by decide) q2976 rfl rfl dX5_readsPlace_10 ?_
    refine lv_aload_n hx hb dX5_readsPlace_13 rfl (lv_at hl 0 rfl) ?_
    refine g_get S hK I k_X5 (v := .int (f 27)) (g_at.of mG_obj) 27 (by decide) q2979 rfl rfl dX5_readsPlace_14 ?_
    refine lv_iconst (v := (-1)) hx hb dX5_readsPlace_17 (by decide) ?_
    refine m_iast S hK I (f := (a 24)) (k := (tS f)) mG_24 (okT_s hT).1 (okT_s hT).2 dX5_readsPlace_18 (fun H locs I => ?_)
    have I := mI_24 I
    refine lv_aload_n hx hb dX5_readsPlace_19 rfl (lv_at hl 0 rfl) ?_
    refine lv_dup hx hb dX5_readsPlace_20 rfl ?_
    refine g_get S hK I k_X5 (v := .int (f 26)) (g_at.of mG_obj) 26 (by decide) q2978 rfl rfl dX5_readsPlace_21 ?_
    refine lv_iconst (v := 1) hx hb dX5_readsPlace_24 (by decide) ?_
    refine lv_iadd hx hb dX5_readsPlace_25 ?_
    refine g_put S hK I k_X5 (v := .int ((f 26) + 1)) mG_obj 26 (by decide) q2978 rfl rfl rfl rfl (Nat.le_of_ble_eq_true rfl) dX5_readsPlace_26 (fun H locs I => ?_)
    have I := mI_f (f' := (upd f 26 ((f 26) + 1))) I rfl
    have I := mI_ef I (show (upd f 26 ((f 26) + 1)) = (upd f 26 (nI (tA f + 1))) from at_1 hT)
    refine lv_iconst (v := 1) hx hb dX5_readsPlace_29 (by decide) ?_
    have eR : rP (a 21) (tL f) (tA f) = (true, tA f + 1, some (-1)) := if_pos c_6
    exact g_zret S hr hlk I rfl dX5_readsPlace_30 (Nat.le_of_ble_eq_true rfl) (Nat.le_of_ble_eq_true rfl) hQ ⟨_, rfl, ((congrArg (fun q : Bool × Nat × Option Int32 => b2i q.1) eR).symm), (mG_c (congrArg (fun q => upd f 26 (nI q.2.1)) eR).symm (congrArg (fun q : Bool × Nat × Option Int32 => va_up a 24 (oset (a 24) (tS f) q.2.2)) eR).symm)⟩

set_option maxHeartbeats 4000000 in
set_option maxRecDepth 100000 in
theorem met_X5_readsLamp (l : Launch) (Γ : g_C) (mo : Nat) (ad : Nat → Nat) (f : Nat → Int32) (a : Nat → Nat → Int32) (rr : Nat → UInt32) (ph : g_H)  (hT : okT f) : g_Met l yX5_readsLamp (ws_ yX5_readsLamp cX5_readsLamp 1 (some .boolean)) (g_rm 3 0 0) Γ [.ref mo] (mG Γ mo ad f a rr ph) (g_oi (fun v ph' => v = (b2i ((rL (a 21) (tL f) (tA f)).1)) ∧ ph' = mG Γ mo ad (upd f 26 (nI (rL (a 21) (tL f) (tA f)).2.1)) (va_up a 24 (oset (a 24) (tS f) (rL (a 21) (tL f) (tA f)).2.2)) rr ph)) g_no := by
  refine g_start (y := yX5_readsLamp) (cc := cX5_readsLamp) (maxL := 1) (ret := (some .boolean)) (rm := g_rm 3 0 0) (by decide) (Nat.le_of_ble_eq_true rfl) ?_
  intro p e s m A below meth c ls Q hQ S hr hlk hex hnm hK I hl
  have hx := S.1
  have hb := S.2.1
  have hown := S.2.2.2.1
  have hts := S.2.2.2.2
  have S : CallFix p m c cX5_readsLamp 1 s A lw_all "CrumblingWallModel" := S
  have hl : lv_has ls 1 [(0, .ref mo)] := hl
  refine lv_aload_n hx hb dX5_readsLamp_0 rfl (lv_at hl 0 rfl) ?_
  refine g_ci (g_runV S hK I (As := []) (rest := []) (met_X5_isDigit l Γ mo ad f a rr ph hT) (cwV 0 hts (lw_V q3431 q3433 qs109 q151 q3434) rfl rfl rfl (by decide +kernel) ⟨Nat.le_of_ble_eq_true rfl, Nat.le_of_ble_eq_true rfl⟩) (g_recv hK I (g_at.of mG_obj) (ci := 4) rfl) rfl hl.1 rfl (Nat.le_of_ble_eq_true rfl) dX5_readsLamp_1 ⟨Nat.le_of_ble_eq_true rfl, Nat.le_of_ble_eq_true rfl⟩) I (fun r_1 ph1 H locs hp I => ?_)
  obtain ⟨hp, rfl⟩ := hp
  have hp : r_1 = b2i (dig (nx (a 21) (tL f) (tA f))) := hp
  subst hp
  refine lv_if_ne (tgt := 9) hx hb dX5_readsLamp_4 (by decide) (fun c_4 => ?_) (fun c_4 => ?_)
  · have p_4 := (b2i_ne0 _).mp c_4
    have hl0 : tA f < tL f := nx_dig p_4
    refine lv_aload_n hx hb dX5_readsLamp_9 rfl (lv_at hl 0 rfl) ?_
    refine g_get S hK I k_X5 (v := .ref (ad 24)) (g_at.of mG_obj) 24 (by decide) q2976 rfl rfl dX5_readsLamp_10 ?_
    refine lv_aload_n hx hb dX5_readsLamp_13 rfl (lv_at hl 0 rfl) ?_
    refine g_get S hK I k_X5 (v := .int (f 27)) (g_at.of mG_obj) 27 (by decide) q2979 rfl rfl dX5_readsLamp_14 ?_
    refine lv_aload_n hx hb dX5_readsLamp_17 rfl (lv_at hl 0 rfl) ?_
    refine g_ci (g_runV S hK I (As := []) (rest := [.int (f 27), .ref (ad 24)]) (met_X5_next l Γ mo ad f a rr ph hT) (cwV 0 hts (lw_V q3423 q3425 qs107 q151 q3426) rfl rfl rfl (by decide +kernel) ⟨Nat.le_of_ble_eq_true rfl, Nat.le_of_ble_eq_true rfl⟩) (g_recv hK I (g_at.of mG_obj) (ci := 4) rfl) rfl hl.1 rfl (Nat.le_of_ble_eq_true rfl) dX5_readsLamp_18 ⟨Nat.le_of_ble_eq_true rfl, Nat.le_of_ble_eq_true rfl⟩) I (fun r_18 ph1 H locs hp I => ?_)
    obtain ⟨hp, rfl⟩ := hp
    have hp : r_18 = nx (a 21) (tL f) (tA f) := hp
    subst hp
    refine lv_bipush (v := 48) hx hb dX5_readsLamp_21 (by decide) ?_
    refine lv_isub hx hb dX5_readsLamp_23 ?_
    refine m_iast S hK I (f := (a 24)) (k := (tS f)) mG_24 (okT_s hT).1 (okT_s hT).2 dX5_readsLamp_24 (fun H locs I => ?_)
    have I := mI_24 I
    refine lv_aload_n hx hb dX5_readsLamp_25 rfl (lv_at hl 0 rfl) ?_
    refine lv_dup hx hb dX5_readsLamp_26 rfl ?_
    refine g_get S hK I k_X5 (v := .int (f 26)) (g_at.of mG_obj) 26 (by decide) q2978 rfl rfl dX5_readsLamp_27 ?_
    refine lv_iconst (v := 1) hx hb dX5_readsLamp_30 (by decide) ?_
    refine lv_iadd hx hb dX5_readsLamp_31 ?_
    refine g_put S hK I k_X5 (v := .int ((f 26) + 1)) mG_obj 26 (by decide) q2978 rfl rfl rfl rfl (Nat.le_of_ble_eq_true rfl) dX5_readsLamp_32 (fun H locs I => ?_)
    have I := mI_f (f' := (upd f 26 ((f 26) + 1))) I rfl
    have I := mI_ef I (show (upd f 26 ((f 26) + 1)) = (upd f 26 (nI (tA f + 1))) from at_1 hT)
    refine lv_iconst (v := 1) hx hb dX5_readsLamp_35 (by decide) ?_
    have eR : rL (a 21) (tL f) (tA f) = (true, tA f + 1, some ((nx (a 21) (tL f) (tA f)) - 48)) := if_neg (by rw [p_4]; decide)
    exact g_zret S hr hlk I rfl dX5_readsLamp_36 (Nat.le_of_ble_eq_true rfl) (Nat.le_of_ble_eq_true rfl) hQ ⟨_, rfl, ((congrArg (fun q : Bool × Nat × Option Int32 => b2i q.1) eR).symm), (mG_c (congrArg (fun q => upd f 26 (nI q.2.1)) eR).symm (congrArg (fun q : Bool × Nat × Option Int32 => va_up a 24 (oset (a 24) (tS f) q.2.2)) eR).symm)⟩
  · have p_4 := (b2i_eq0 _).mp c_4
    refine lv_iconst (v := 0) hx hb dX5_readsLamp_7 (by decide) ?_
    have eR : rL (a 21) (tL f) (tA f) = (false, tA f, none) := if_pos p_4
    exact g_zret S hr hlk I rfl dX5_readsLamp_8 (Nat.le_of_ble_eq_true rfl) (Nat.le_of_ble_eq_true rfl) hQ ⟨_, rfl, ((congrArg (fun q : Bool × Nat × Option Int32 => b2i q.1) eR).symm), (mG_c ((upd_id hT.2.1.1).symm.trans (congrArg (fun q => upd f 26 (nI q.2.1)) eR).symm) ((va_upI a 24 rfl).symm.trans (congrArg (fun q : Bool × Nat × Option Int32 => va_up a 24 (oset (a 24) (tS f) q.2.2)) eR).symm))⟩

set_option maxHeartbeats 4000000 in
set_option maxRecDepth 100000 in
theorem met_X5_readsStep (l : Launch) (Γ : g_C) (mo : Nat) (ad : Nat → Nat) (f : Nat → Int32) (a : Nat → Nat → Int32) (rr : Nat → UInt32) (ph : g_H)  (hT : okT f) : g_Met l yX5_readsStep (ws_ yX5_readsStep cX5_readsStep 2 (some .boolean)) (g_rm 4 0 0) Γ [.ref mo] (mG Γ mo ad f a rr ph) (g_oi (fun v ph' => v = (b2i ((rS (a 21) (tL f) (tA f)).1)) ∧ ph' = mG Γ mo ad (upd f 26 (nI (rS (a 21) (tL f) (tA f)).2.1)) (va_up (va_up (va_up a 22 (upd (a 22) (tS f) (rS (a 21) (tL f) (tA f)).2.2.1)) 23 (oset (a 23) (tS f) (rS (a 21) (tL f) (tA f)).2.2.2.1)) 24 (oset (a 24) (tS f) (rS (a 21) (tL f) (tA f)).2.2.2.2)) rr ph)) g_no := by
  refine g_start (y := yX5_readsStep) (cc := cX5_readsStep) (maxL := 2) (ret := (some .boolean)) (rm := g_rm 4 0 0) (by decide) (Nat.le_of_ble_eq_true rfl) ?_
  intro p e s m A below meth c ls Q hQ S hr hlk hex hnm hK I hl
  have hx := S.1
  have hb := S.2.1
  have hown := S.2.2.2.1
  have hts := S.2.2.2.2
  have S : CallFix p m c cX5_readsStep 2 s A lw_all "CrumblingWallModel" := S
  have hl : lv_has ls 2 [(0, .ref mo)] := hl
  refine lv_aload_n hx hb dX5_readsStep_0 rfl (lv_at hl 0 rfl) ?_
  refine g_get S hK I k_X5 (v := .ref (ad 22)) (g_at.of mG_obj) 22 (by decide) q2974 rfl rfl dX5_readsStep_1 ?_
  refine lv_aload_n hx hb dX5_readsStep_4 rfl (lv_at hl 0 rfl) ?_
  refine g_get S hK I k_X5 (v := .int (f 27)) (g_at.of mG_obj) 27 (by decide) q2979 rfl rfl dX5_readsStep_5 ?_
  refine lv_aload_n hx hb dX5_readsStep_8 rfl (lv_at hl 0 rfl) ?_
  refine g_ci (g_runV S hK I (As := []) (rest := [.int (f 27), .ref (ad 22)]) (met_X5_next l Γ mo ad f a rr ph hT) (cwV 0 hts (lw_V q3423 q3425 qs107 q151 q3426) rfl rfl rfl (by decide +kernel) ⟨Nat.le_of_ble_eq_true rfl, Nat.le_of_ble_eq_true rfl⟩) (g_recv hK I (g_at.of mG_obj) (ci := 4) rfl) rfl hl.1 rfl (Nat.le_of_ble_eq_true rfl) dX5_readsStep_9 ⟨Nat.le_of_ble_eq_true rfl, Nat.le_of_ble_eq_true rfl⟩) I (fun r_9 ph1 H locs hp I => ?_)
  obtain ⟨hp, rfl⟩ := hp
  have hp : r_9 = nx (a 21) (tL f) (tA f) := hp
  subst hp
  refine m_iast S hK I (f := (a 22)) (k := (tS f)) mG_22 (okT_s hT).1 (okT_s hT).2 dX5_readsStep_12 (fun H locs I => ?_)
  have I := mI_22 I
  refine lv_aload_n hx hb dX5_readsStep_13 rfl (lv_at hl 0 rfl) ?_
  refine g_ci (g_runV S hK I (As := []) (rest := []) (met_X5_next l Γ mo ad f (va_up a 22 (upd (a 22) (tS f) (nx (a 21) (tL f) (tA f)))) rr ph hT) (cwV 0 hts (lw_V q3423 q3425 qs107 q151 q3426) rfl rfl rfl (by decide +kernel) ⟨Nat.le_of_ble_eq_true rfl, Nat.le_of_ble_eq_true rfl⟩) (g_recv hK I (g_at.of mG_obj) (ci := 4) rfl) rfl hl.1 rfl (Nat.le_of_ble_eq_true rfl) dX5_readsStep_14 ⟨Nat.le_of_ble_eq_true rfl, Nat.le_of_ble_eq_true rfl⟩) I (fun r_14 ph1 H locs hp I => ?_)
  obtain ⟨hp, rfl⟩ := hp
  have hp : r_14 = nx (a 21) (tL f) (tA f) := hp
  subst hp
  refine lv_bipush (v := 99) hx hb dX5_readsStep_17 (by decide) ?_
  refine lv_icmp_eq (tgt := 31) hx hb dX5_readsStep_19 (by decide) (fun c_19 => ?_) (fun c_19 => ?_)
  · have hl0 : tA f < tL f := nx_c c_19 (by decide)
    refine lv_aload_n hx hb dX5_readsStep_31 rfl (lv_at hl 0 rfl) ?_
    refine lv_dup hx hb dX5_readsStep_32 rfl ?_
    refine g_get S hK I k_X5 (v := .int (f 26)) (g_at.of mG_obj) 26 (by decide) q2978 rfl rfl dX5_readsStep_33 ?_
    refine lv_iconst (v := 1) hx hb dX5_readsStep_36 (by decide) ?_
    refine lv_iadd hx hb dX5_readsStep_37 ?_
    refine g_put S hK I k_X5 (v := .int ((f 26) + 1)) mG_obj 26 (by decide) q2978 rfl rfl rfl rfl (Nat.le_of_ble_eq_true rfl) dX5_readsStep_38 (fun H locs I => ?_)
    have I := mI_f (f' := (upd f 26 ((f 26) + 1))) I rfl
    have I := mI_ef I (show (upd f 26 ((f 26) + 1)) = (upd f 26 (nI (tA f + 1))) from at_1 hT)
    refine lv_iconst (v := 1) hx hb dX5_readsStep_41 (by decide) ?_
    have eR : rS (a 21) (tL f) (tA f) = (true, tA f + 1, (nx (a 21) (tL f) (tA f)), none, none) := if_pos (Or.inl c_19)
    exact g_zret S hr hlk I rfl dX5_readsStep_42 (Nat.le_of_ble_eq_true rfl) (Nat.le_of_ble_eq_true rfl) hQ ⟨_, rfl, ((congrArg (fun q : Bool × Nat × Int32 × Option Int32 × Option Int32 => b2i q.1) eR).symm), (mG_c (congrArg (fun q : Bool × Nat × Int32 × Option Int32 × Option Int32 => upd f 26 (nI q.2.1)) eR).symm (((va_upI (va_up (va_up a 22 (upd (a 22) (tS f) (nx (a 21) (tL f) (tA f)))) 23 (a 23)) 24 (v := a 24) rfl).trans (va_upI (va_up a 22 (upd (a 22) (tS f) (nx (a 21) (tL f) (tA f)))) 23 (v := a 23) rfl)).symm.trans (congrArg (fun q : Bool × Nat × Int32 × Option Int32 × Option Int32 => va_up (va_up (va_up a 22 (upd (a 22) (tS f) q.2.2.1)) 23 (oset (a 23) (tS f) q.2.2.2.1)) 24 (oset (a 24) (tS f) q.2.2.2.2)) eR).symm))⟩
  · refine lv_aload_n hx hb dX5_readsStep_22 rfl (lv_at hl 0 rfl) ?_
    refine g_ci (g_runV S hK I (As := []) (rest := []) (met_X5_next l Γ mo ad f (va_up a 22 (upd (a 22) (tS f) (nx (a 21) (tL f) (tA f)))) rr ph hT) (cwV 0 hts (lw_V q3423 q3425 qs107 q151 q3426) rfl rfl rfl (by decide +kernel) ⟨Nat.le_of_ble_eq_true rfl, Nat.le_of_ble_eq_true rfl⟩) (g_recv hK I (g_at.of mG_obj) (ci := 4) rfl) rfl hl.1 rfl (Nat.le_of_ble_eq_true rfl) dX5_readsStep_23 ⟨Nat.le_of_ble_eq_true rfl, Nat.le_of_ble_eq_true rfl⟩) I (fun r_23 ph1 H locs hp I => ?_)
    obtain ⟨hp, rfl⟩ := hp
    have hp : r_23 = nx (a 21) (tL f) (tA f) := hp
    subst hp
    refine lv_bipush (v := 117) hx hb dX5_readsStep_26 (by decide) ?_
    refine lv_icmp_ne (tgt := 43) hx hb dX5_readsStep_28 (by decide) (fun c_28 => ?_) (fun c_28 => ?_)
    · refine lv_aload_n hx hb dX5_readsStep_43 rfl (lv_at hl 0 rfl) ?_
      refine g_ci (g_runV S hK I (As := []) (rest := []) (met_X5_next l Γ mo ad f (va_up a 22 (upd (a 22) (tS f) (nx (a 21) (tL f) (tA f)))) rr ph hT) (cwV 0 hts (lw_V q3423 q3425 qs107 q151 q3426) rfl rfl rfl (by decide +kernel) ⟨Nat.le_of_ble_eq_true rfl, Nat.le_of_ble_eq_true rfl⟩) (g_recv hK I (g_at.of mG_obj) (ci := 4) rfl) rfl hl.1 rfl (Nat.le_of_ble_eq_true rfl) dX5_readsStep_44 ⟨Nat.le_of_ble_eq_true rfl, Nat.le_of_ble_eq_true rfl⟩) I (fun r_44 ph1 H locs hp I => ?_)
      obtain ⟨hp, rfl⟩ := hp
      have hp : r_44 = nx (a 21) (tL f) (tA f) := hp
      subst hp
      refine lv_bipush (v := 48) hx hb dX5_readsStep_47 (by decide) ?_
      have J_63_0 : ∀ (H : Heap) (locs : List Loc) (ls : Array Slot), (h01 : ¬ (¬ (nx (a 21) (tL f) (tA f)) = 48 ∧ ¬ (nx (a 21) (tL f) (tA f)) = 49)) → g_I Γ (mG Γ mo ad f (va_up a 22 (upd (a 22) (tS f) (nx (a 21) (tL f) (tA f)))) rr ph) s H locs → lv_has ls 2 [(0, .ref mo)] → W p l e (g_rm 4 0 0) s m A below meth c H locs 0 0 Q (F0 m 63 ls []) := by
        intro  H locs ls h01 I hl
        have hl0 : tA f < tL f := nx_lt (fun e => h01 (by rw [e]; decide))
        refine lv_aload_n hx hb dX5_readsStep_63 rfl (lv_at hl 0 rfl) ?_
        refine g_get S hK I k_X5 (v := .ref (ad 23)) (g_at.of mG_obj) 23 (by decide) q2975 rfl rfl dX5_readsStep_64 ?_
        refine lv_aload_n hx hb dX5_readsStep_67 rfl (lv_at hl 0 rfl) ?_
        refine g_get S hK I k_X5 (v := .int (f 27)) (g_at.of mG_obj) 27 (by decide) q2979 rfl rfl dX5_readsStep_68 ?_
        refine lv_aload_n hx hb dX5_readsStep_71 rfl (lv_at hl 0 rfl) ?_
        refine g_ci (g_runV S hK I (As := []) (rest := [.int (f 27), .ref (ad 23)]) (met_X5_next l Γ mo ad f (va_up a 22 (upd (a 22) (tS f) (nx (a 21) (tL f) (tA f)))) rr ph hT) (cwV 0 hts (lw_V q3423 q3425 qs107 q151 q3426) rfl rfl rfl (by decide +kernel) ⟨Nat.le_of_ble_eq_true rfl, Nat.le_of_ble_eq_true rfl⟩) (g_recv hK I (g_at.of mG_obj) (ci := 4) rfl) rfl hl.1 rfl (Nat.le_of_ble_eq_true rfl) dX5_readsStep_72 ⟨Nat.le_of_ble_eq_true rfl, Nat.le_of_ble_eq_true rfl⟩) I (fun r_72 ph1 H locs hp I => ?_)
        obtain ⟨hp, rfl⟩ := hp
        have hp : r_72 = nx (a 21) (tL f) (tA f) := hp
        subst hp
        refine lv_bipush (v := 48) hx hb dX5_readsStep_75 (by decide) ?_
        refine lv_isub hx hb dX5_readsStep_77 ?_
        refine m_iast S hK I (f := (a 23)) (k := (tS f)) mG_23 (okT_s hT).1 (okT_s hT).2 dX5_readsStep_78 (fun H locs I => ?_)
        have I := mI_23 I
        refine lv_aload_n hx hb dX5_readsStep_79 rfl (lv_at hl 0 rfl) ?_
        refine lv_dup hx hb dX5_readsStep_80 rfl ?_
        refine g_get S hK I k_X5 (v := .int (f 26)) (g_at.of mG_obj) 26 (by decide) q2978 rfl rfl dX5_readsStep_81 ?_
        refine lv_iconst (v := 1) hx hb dX5_readsStep_84 (by decide) ?_
        refine lv_iadd hx hb dX5_readsStep_85 ?_
        refine g_put S hK I k_X5 (v := .int ((f 26) + 1)) mG_obj 26 (by decide) q2978 rfl rfl rfl rfl (Nat.le_of_ble_eq_true rfl) dX5_readsStep_86 (fun H locs I => ?_)
        have I := mI_f (f' := (upd f 26 ((f 26) + 1))) I rfl
        have I := mI_ef I (show (upd f 26 ((f 26) + 1)) = (upd f 26 (nI (tA f + 1))) from at_1 hT)
        refine lv_aload_n hx hb dX5_readsStep_89 rfl (lv_at hl 0 rfl) ?_
        refine g_ci (g_runV S hK I (As := []) (rest := []) (met_X5_next l Γ mo ad (upd f 26 (nI (tA f + 1))) (va_up (va_up a 22 (upd (a 22) (tS f) (nx (a 21) (tL f) (tA f)))) 23 (upd (a 23) (tS f) ((nx (a 21) (tL f) (tA f)) - 48))) rr ph (okT_u hT (by have := hT.1.2; omega))) (cwV 0 hts (lw_V q3423 q3425 qs107 q151 q3426) rfl rfl rfl (by decide +kernel) ⟨Nat.le_of_ble_eq_true rfl, Nat.le_of_ble_eq_true rfl⟩) (g_recv hK I (g_at.of mG_obj) (ci := 4) rfl) rfl hl.1 rfl (Nat.le_of_ble_eq_true rfl) dX5_readsStep_90 ⟨Nat.le_of_ble_eq_true rfl, Nat.le_of_ble_eq_true rfl⟩) I (fun r_90 ph1 H locs hp I => ?_)
        obtain ⟨hp, rfl⟩ := hp
        have hp : r_90 = nx (a 21) (tL (upd f 26 (nI (tA f + 1)))) (tA (upd f 26 (nI (tA f + 1)))) := hp
        subst hp
        rw [show nx (a 21) (tL (upd f 26 (nI (tA f + 1)))) (tA (upd f 26 (nI (tA f + 1)))) = nx (a 21) (tL f) (tA f + 1) from nx_u (by have := hT.2.1.2; omega)]
        refine lv_istore_n (lv' := [(1, .int (nx (a 21) (tL f) (tA f + 1))), (0, .ref mo)]) hx hb dX5_readsStep_93 rfl hl (by decide) rfl (fun ls hl => ?_)
        refine lv_aload_n hx hb dX5_readsStep_94 rfl (lv_at hl 1 rfl) ?_
        refine g_get S hK I k_X5 (v := .ref (ad 22)) (g_at.of mG_obj) 22 (by decide) q2974 rfl rfl dX5_readsStep_95 ?_
        refine lv_aload_n hx hb dX5_readsStep_98 rfl (lv_at hl 1 rfl) ?_
        refine g_get S hK I k_X5 (v := .int (f 27)) (g_at.of mG_obj) 27 (by decide) q2979 rfl rfl dX5_readsStep_99 ?_
        refine lv_iload_n hx hb dX5_readsStep_102 rfl (lv_at hl 0 rfl) ?_
        refine m_iast S hK I (f := (upd (a 22) (tS f) (nx (a 21) (tL f) (tA f)))) (k := (tS f)) mG_22 (okT_s hT).1 (okT_s hT).2 dX5_readsStep_103 (fun H locs I => ?_)
        have I := mI_22 I
        have I := mI_ea I (show (va_up (va_up (va_up a 22 (upd (a 22) (tS f) (nx (a 21) (tL f) (tA f)))) 23 (upd (a 23) (tS f) ((nx (a 21) (tL f) (tA f)) - 48))) 22 (upd (upd (a 22) (tS f) (nx (a 21) (tL f) (tA f))) (tS f) (nx (a 21) (tL f) (tA f + 1)))) = (va_up (va_up a 22 (upd (a 22) (tS f) (nx (a 21) (tL f) (tA f + 1)))) 23 (upd (a 23) (tS f) ((nx (a 21) (tL f) (tA f)) - 48))) from (va_rr (by decide)).trans (congrArg (fun q => va_up (va_up a 22 q) 23 (upd (a 23) (tS f) ((nx (a 21) (tL f) (tA f)) - 48))) upd_uu))
        refine lv_iload_n hx hb dX5_readsStep_104 rfl (lv_at hl 0 rfl) ?_
        refine lv_bipush (v := 62) hx hb dX5_readsStep_105 (by decide) ?_
        have J_136_1 : ∀ (H : Heap) (locs : List Loc) (ls : Array Slot), (hsg : isSg (nx (a 21) (tL f) (tA f + 1)) = true) → g_I Γ (mG Γ mo ad (upd f 26 (nI (tA f + 1))) (va_up (va_up a 22 (upd (a 22) (tS f) (nx (a 21) (tL f) (tA f + 1)))) 23 (upd (a 23) (tS f) ((nx (a 21) (tL f) (tA f)) - 48))) rr ph) s H locs → lv_has ls 2 [(1, .int (nx (a 21) (tL f) (tA f + 1))), (0, .ref mo)] → W p l e (g_rm 4 0 0) s m A below meth c H locs 0 0 Q (F0 m 136 ls []) := by
          intro  H locs ls hsg I hl
          have hl1 : tA f + 1 < tL f := isSg_lt hsg
          refine lv_aload_n hx hb dX5_readsStep_136 rfl (lv_at hl 1 rfl) ?_
          refine lv_dup hx hb dX5_readsStep_137 rfl ?_
          refine g_get S hK I k_X5 (v := .int (nI (tA f + 1))) (g_at.of mG_obj) 26 (by decide) q2978 rfl rfl dX5_readsStep_138 ?_
          refine lv_iconst (v := 1) hx hb dX5_readsStep_141 (by decide) ?_
          refine lv_iadd hx hb dX5_readsStep_142 ?_
          refine g_put S hK I k_X5 (v := .int ((nI (tA f + 1)) + 1)) mG_obj 26 (by decide) q2978 rfl rfl rfl rfl (Nat.le_of_ble_eq_true rfl) dX5_readsStep_143 (fun H locs I => ?_)
          have I := mI_f (f' := (upd (upd f 26 (nI (tA f + 1))) 26 ((nI (tA f + 1)) + 1))) I rfl
          have I := mI_ef I (show (upd (upd f 26 (nI (tA f + 1))) 26 ((nI (tA f + 1)) + 1)) = (upd f 26 (nI (tA f + 2))) from at_2)
          refine lv_iload_n hx hb dX5_readsStep_146 rfl (lv_at hl 0 rfl) ?_
          refine lv_bipush (v := 114) hx hb dX5_readsStep_147 (by decide) ?_
          refine lv_icmp_eq (tgt := 175) hx hb dX5_readsStep_149 (by decide) (fun c_149 => ?_) (fun c_149 => ?_)
          · refine lv_iconst (v := 1) hx hb dX5_readsStep_175 (by decide) ?_
            refine lv_goto (tgt := 180) hx hb dX5_readsStep_176 (by decide) ?_
            have eR : rS (a 21) (tL f) (tA f) = (true, tA f + 2, (nx (a 21) (tL f) (tA f + 1)), some ((nx (a 21) (tL f) (tA f)) - 48), none) := (if_neg (fun q => q.elim c_19 c_28)).trans ((if_neg h01).trans ((if_neg (by rw [hsg]; decide)).trans (if_pos c_149)))
            exact g_zret S hr hlk I rfl dX5_readsStep_180 (Nat.le_of_ble_eq_true rfl) (Nat.le_of_ble_eq_true rfl) hQ ⟨_, rfl, ((congrArg (fun q : Bool × Nat × Int32 × Option Int32 × Option Int32 => b2i q.1) eR).symm), (mG_c (congrArg (fun q : Bool × Nat × Int32 × Option Int32 × Option Int32 => upd f 26 (nI q.2.1)) eR).symm ((va_upI (va_up (va_up a 22 (upd (a 22) (tS f) (nx (a 21) (tL f) (tA f + 1)))) 23 (upd (a 23) (tS f) ((nx (a 21) (tL f) (tA f)) - 48))) 24 rfl).symm.trans (congrArg (fun q : Bool × Nat × Int32 × Option Int32 × Option Int32 => va_up (va_up (va_up a 22 (upd (a 22) (tS f) q.2.2.1)) 23 (oset (a 23) (tS f) q.2.2.2.1)) 24 (oset (a 24) (tS f) q.2.2.2.2)) eR).symm))⟩
          · refine lv_iload_n hx hb dX5_readsStep_152 rfl (lv_at hl 0 rfl) ?_
            refine lv_bipush (v := 62) hx hb dX5_readsStep_153 (by decide) ?_
            refine lv_icmp_ne (tgt := 168) hx hb dX5_readsStep_155 (by decide) (fun c_155 => ?_) (fun c_155 => ?_)
            · refine lv_aload_n hx hb dX5_readsStep_168 rfl (lv_at hl 1 rfl) ?_
              refine g_ci (g_runV S hK I (As := []) (rest := []) (met_X5_readsLamp l Γ mo ad (upd f 26 (nI (tA f + 2))) (va_up (va_up a 22 (upd (a 22) (tS f) (nx (a 21) (tL f) (tA f + 1)))) 23 (upd (a 23) (tS f) ((nx (a 21) (tL f) (tA f)) - 48))) rr ph (okT_u hT (by have := hT.1.2; omega))) (cwV 0 hts (lw_V q3435 q3437 qs110 q151 q3438) rfl rfl rfl (by decide +kernel) ⟨Nat.le_of_ble_eq_true rfl, Nat.le_of_ble_eq_true rfl⟩) (g_recv hK I (g_at.of mG_obj) (ci := 4) rfl) rfl hl.1 rfl (Nat.le_of_ble_eq_true rfl) dX5_readsStep_169 ⟨Nat.le_of_ble_eq_true rfl, Nat.le_of_ble_eq_true rfl⟩) I (fun r_169 ph1 H locs hp I => ?_)
              obtain ⟨hp, rfl⟩ := hp
              have hp : r_169 = b2i ((rL (a 21) (tL (upd f 26 (nI (tA f + 2)))) (tA (upd f 26 (nI (tA f + 2))))).1) := hp
              subst hp
              have I : g_I Γ (mG Γ mo ad (upd (upd f 26 (nI (tA f + 2))) 26 (nI (rL (a 21) (tL (upd f 26 (nI (tA f + 2)))) (tA (upd f 26 (nI (tA f + 2))))).2.1)) (va_up (va_up (va_up a 22 (upd (a 22) (tS f) (nx (a 21) (tL f) (tA f + 1)))) 23 (upd (a 23) (tS f) ((nx (a 21) (tL f) (tA f)) - 48))) 24 (oset (a 24) (tS (upd f 26 (nI (tA f + 2)))) (rL (a 21) (tL (upd f 26 (nI (tA f + 2)))) (tA (upd f 26 (nI (tA f + 2))))).2.2)) rr ph) s H locs := I
              have eN : rL (a 21) (tL (upd f 26 (nI (tA f + 2)))) (tA (upd f 26 (nI (tA f + 2)))) = rL (a 21) (tL f) (tA f + 2) := by rw [tA_u (by have := hT.2.1.2; omega)]; rfl
              have I := mI_ef I (show (upd (upd f 26 (nI (tA f + 2))) 26 (nI (rL (a 21) (tL (upd f 26 (nI (tA f + 2)))) (tA (upd f 26 (nI (tA f + 2))))).2.1)) = upd f 26 (nI (rL (a 21) (tL f) (tA f + 2)).2.1) from by rw [eN, upd_uu])
              have I := mI_ea I (show (va_up (va_up (va_up a 22 (upd (a 22) (tS f) (nx (a 21) (tL f) (tA f + 1)))) 23 (upd (a 23) (tS f) ((nx (a 21) (tL f) (tA f)) - 48))) 24 (oset (a 24) (tS (upd f 26 (nI (tA f + 2)))) (rL (a 21) (tL (upd f 26 (nI (tA f + 2)))) (tA (upd f 26 (nI (tA f + 2))))).2.2)) = (va_up (va_up (va_up a 22 (upd (a 22) (tS f) (nx (a 21) (tL f) (tA f + 1)))) 23 (upd (a 23) (tS f) ((nx (a 21) (tL f) (tA f)) - 48))) 24 (oset (a 24) (tS f) (rL (a 21) (tL f) (tA f + 2)).2.2)) from by rw [eN]; rfl)
              rw [eN]
              refine lv_if_eq (tgt := 179) hx hb dX5_readsStep_172 (by decide) (fun c_172 => ?_) (fun c_172 => ?_)
              · have p_172 := (b2i_eq0 _).mp c_172
                refine lv_iconst (v := 0) hx hb dX5_readsStep_179 (by decide) ?_
                have eR : rS (a 21) (tL f) (tA f) = ((rL (a 21) (tL f) (tA f + 2)).1, (rL (a 21) (tL f) (tA f + 2)).2.1, (nx (a 21) (tL f) (tA f + 1)), some ((nx (a 21) (tL f) (tA f)) - 48), (rL (a 21) (tL f) (tA f + 2)).2.2) := (if_neg (fun q => q.elim c_19 c_28)).trans ((if_neg h01).trans ((if_neg (by rw [hsg]; decide)).trans ((if_neg c_149).trans (if_neg c_155))))
                exact g_zret S hr hlk I rfl dX5_readsStep_180 (Nat.le_of_ble_eq_true rfl) (Nat.le_of_ble_eq_true rfl) hQ ⟨_, rfl, ((show _ = b2i (rL (a 21) (tL f) (tA f + 2)).1 from by rw [p_172]; rfl).trans ((congrArg (fun q : Bool × Nat × Int32 × Option Int32 × Option Int32 => b2i q.1) eR).symm)), (mG_c (congrArg (fun q : Bool × Nat × Int32 × Option Int32 × Option Int32 => upd f 26 (nI q.2.1)) eR).symm (congrArg (fun q : Bool × Nat × Int32 × Option Int32 × Option Int32 => va_up (va_up (va_up a 22 (upd (a 22) (tS f) q.2.2.1)) 23 (oset (a 23) (tS f) q.2.2.2.1)) 24 (oset (a 24) (tS f) q.2.2.2.2)) eR).symm)⟩
              · have p_172 := (b2i_ne0 _).mp c_172
                refine lv_iconst (v := 1) hx hb dX5_readsStep_175 (by decide) ?_
                refine lv_goto (tgt := 180) hx hb dX5_readsStep_176 (by decide) ?_
                have eR : rS (a 21) (tL f) (tA f) = ((rL (a 21) (tL f) (tA f + 2)).1, (rL (a 21) (tL f) (tA f + 2)).2.1, (nx (a 21) (tL f) (tA f + 1)), some ((nx (a 21) (tL f) (tA f)) - 48), (rL (a 21) (tL f) (tA f + 2)).2.2) := (if_neg (fun q => q.elim c_19 c_28)).trans ((if_neg h01).trans ((if_neg (by rw [hsg]; decide)).trans ((if_neg c_149).trans (if_neg c_155))))
                exact g_zret S hr hlk I rfl dX5_readsStep_180 (Nat.le_of_ble_eq_true rfl) (Nat.le_of_ble_eq_true rfl) hQ ⟨_, rfl, ((show _ = b2i (rL (a 21) (tL f) (tA f + 2)).1 from by rw [p_172]; rfl).trans ((congrArg (fun q : Bool × Nat × Int32 × Option Int32 × Option Int32 => b2i q.1) eR).symm)), (mG_c (congrArg (fun q : Bool × Nat × Int32 × Option Int32 × Option Int32 => upd f 26 (nI q.2.1)) eR).symm (congrArg (fun q : Bool × Nat × Int32 × Option Int32 × Option Int32 => va_up (va_up (va_up a 22 (upd (a 22) (tS f) q.2.2.1)) 23 (oset (a 23) (tS f) q.2.2.2.1)) 24 (oset (a 24) (tS f) q.2.2.2.2)) eR).symm)⟩
            · refine lv_aload_n hx hb dX5_readsStep_158 rfl (lv_at hl 1 rfl) ?_
              refine g_ci (g_runV S hK I (As := []) (rest := []) (met_X5_readsPlace l Γ mo ad (upd f 26 (nI (tA f + 2))) (va_up (va_up a 22 (upd (a 22) (tS f) (nx (a 21) (tL f) (tA f + 1)))) 23 (upd (a 23) (tS f) ((nx (a 21) (tL f) (tA f)) - 48))) rr ph (okT_u hT (by have := hT.1.2; omega))) (cwV 0 hts (lw_V q3427 q3429 qs108 q151 q3430) rfl rfl rfl (by decide +kernel) ⟨Nat.le_of_ble_eq_true rfl, Nat.le_of_ble_eq_true rfl⟩) (g_recv hK I (g_at.of mG_obj) (ci := 4) rfl) rfl hl.1 rfl (Nat.le_of_ble_eq_true rfl) dX5_readsStep_159 ⟨Nat.le_of_ble_eq_true rfl, Nat.le_of_ble_eq_true rfl⟩) I (fun r_159 ph1 H locs hp I => ?_)
              obtain ⟨hp, rfl⟩ := hp
              have hp : r_159 = b2i ((rP (a 21) (tL (upd f 26 (nI (tA f + 2)))) (tA (upd f 26 (nI (tA f + 2))))).1) := hp
              subst hp
              have I : g_I Γ (mG Γ mo ad (upd (upd f 26 (nI (tA f + 2))) 26 (nI (rP (a 21) (tL (upd f 26 (nI (tA f + 2)))) (tA (upd f 26 (nI (tA f + 2))))).2.1)) (va_up (va_up (va_up a 22 (upd (a 22) (tS f) (nx (a 21) (tL f) (tA f + 1)))) 23 (upd (a 23) (tS f) ((nx (a 21) (tL f) (tA f)) - 48))) 24 (oset (a 24) (tS (upd f 26 (nI (tA f + 2)))) (rP (a 21) (tL (upd f 26 (nI (tA f + 2)))) (tA (upd f 26 (nI (tA f + 2))))).2.2)) rr ph) s H locs := I
              have eN : rP (a 21) (tL (upd f 26 (nI (tA f + 2)))) (tA (upd f 26 (nI (tA f + 2)))) = rP (a 21) (tL f) (tA f + 2) := by rw [tA_u (by have := hT.2.1.2; omega)]; rfl
              have I := mI_ef I (show (upd (upd f 26 (nI (tA f + 2))) 26 (nI (rP (a 21) (tL (upd f 26 (nI (tA f + 2)))) (tA (upd f 26 (nI (tA f + 2))))).2.1)) = upd f 26 (nI (rP (a 21) (tL f) (tA f + 2)).2.1) from by rw [eN, upd_uu])
              have I := mI_ea I (show (va_up (va_up (va_up a 22 (upd (a 22) (tS f) (nx (a 21) (tL f) (tA f + 1)))) 23 (upd (a 23) (tS f) ((nx (a 21) (tL f) (tA f)) - 48))) 24 (oset (a 24) (tS (upd f 26 (nI (tA f + 2)))) (rP (a 21) (tL (upd f 26 (nI (tA f + 2)))) (tA (upd f 26 (nI (tA f + 2))))).2.2)) = (va_up (va_up (va_up a 22 (upd (a 22) (tS f) (nx (a 21) (tL f) (tA f + 1)))) 23 (upd (a 23) (tS f) ((nx (a 21) (tL f) (tA f)) - 48))) 24 (oset (a 24) (tS f) (rP (a 21) (tL f) (tA f + 2)).2.2)) from by rw [eN]; rfl)
              rw [eN]
              refine lv_if_eq (tgt := 179) hx hb dX5_readsStep_162 (by decide) (fun c_162 => ?_) (fun c_162 => ?_)
              · have p_162 := (b2i_eq0 _).mp c_162
                refine lv_iconst (v := 0) hx hb dX5_readsStep_179 (by decide) ?_
                have eR : rS (a 21) (tL f) (tA f) = ((rP (a 21) (tL f) (tA f + 2)).1, (rP (a 21) (tL f) (tA f + 2)).2.1, (nx (a 21) (tL f) (tA f + 1)), some ((nx (a 21) (tL f) (tA f)) - 48), (rP (a 21) (tL f) (tA f + 2)).2.2) := (if_neg (fun q => q.elim c_19 c_28)).trans ((if_neg h01).trans ((if_neg (by rw [hsg]; decide)).trans ((if_neg c_149).trans (if_pos c_155))))
                exact g_zret S hr hlk I rfl dX5_readsStep_180 (Nat.le_of_ble_eq_true rfl) (Nat.le_of_ble_eq_true rfl) hQ ⟨_, rfl, ((show _ = b2i (rP (a 21) (tL f) (tA f + 2)).1 from by rw [p_162]; rfl).trans ((congrArg (fun q : Bool × Nat × Int32 × Option Int32 × Option Int32 => b2i q.1) eR).symm)), (mG_c (congrArg (fun q : Bool × Nat × Int32 × Option Int32 × Option Int32 => upd f 26 (nI q.2.1)) eR).symm (congrArg (fun q : Bool × Nat × Int32 × Option Int32 × Option Int32 => va_up (va_up (va_up a 22 (upd (a 22) (tS f) q.2.2.1)) 23 (oset (a 23) (tS f) q.2.2.2.1)) 24 (oset (a 24) (tS f) q.2.2.2.2)) eR).symm)⟩
              · have p_162 := (b2i_ne0 _).mp c_162
                refine lv_goto (tgt := 175) hx hb dX5_readsStep_165 (by decide) ?_
                refine lv_iconst (v := 1) hx hb dX5_readsStep_175 (by decide) ?_
                refine lv_goto (tgt := 180) hx hb dX5_readsStep_176 (by decide) ?_
                have eR : rS (a 21) (tL f) (tA f) = ((rP (a 21) (tL f) (tA f + 2)).1, (rP (a 21) (tL f) (tA f + 2)).2.1, (nx (a 21) (tL f) (tA f + 1)), some ((nx (a 21) (tL f) (tA f)) - 48), (rP (a 21) (tL f) (tA f + 2)).2.2) := (if_neg (fun q => q.elim c_19 c_28)).trans ((if_neg h01).trans ((if_neg (by rw [hsg]; decide)).trans ((if_neg c_149).trans (if_pos c_155))))
                exact g_zret S hr hlk I rfl dX5_readsStep_180 (Nat.le_of_ble_eq_true rfl) (Nat.le_of_ble_eq_true rfl) hQ ⟨_, rfl, ((show _ = b2i (rP (a 21) (tL f) (tA f + 2)).1 from by rw [p_162]; rfl).trans ((congrArg (fun q : Bool × Nat × Int32 × Option Int32 × Option Int32 => b2i q.1) eR).symm)), (mG_c (congrArg (fun q : Bool × Nat × Int32 × Option Int32 × Option Int32 => upd f 26 (nI q.2.1)) eR).symm (congrArg (fun q : Bool × Nat × Int32 × Option Int32 × Option Int32 => va_up (va_up (va_up a 22 (upd (a 22) (tS f) q.2.2.1)) 23 (oset (a 23) (tS f) q.2.2.2.1)) 24 (oset (a 24) (tS f) q.2.2.2.2)) eR).symm)⟩
        refine lv_icmp_eq (tgt := 136) hx hb dX5_readsStep_107 (by decide) (fun c_107 => ?_) (fun c_107 => ?_)
        · exact J_136_1  _ _ _ (by simp [isSg, c_107]) I (lv_sub hl [0, 1] rfl)
        · refine lv_iload_n hx hb dX5_readsStep_110 rfl (lv_at hl 0 rfl) ?_
          refine lv_bipush (v := 114) hx hb dX5_readsStep_111 (by decide) ?_
          refine lv_icmp_eq (tgt := 136) hx hb dX5_readsStep_113 (by decide) (fun c_113 => ?_) (fun c_113 => ?_)
          · exact J_136_1  _ _ _ (by simp [isSg, c_113]) I (lv_sub hl [0, 1] rfl)
          · refine lv_iload_n hx hb dX5_readsStep_116 rfl (lv_at hl 0 rfl) ?_
            refine lv_bipush (v := 43) hx hb dX5_readsStep_117 (by decide) ?_
            refine lv_icmp_eq (tgt := 136) hx hb dX5_readsStep_119 (by decide) (fun c_119 => ?_) (fun c_119 => ?_)
            · exact J_136_1  _ _ _ (by simp [isSg, c_119]) I (lv_sub hl [0, 1] rfl)
            · refine lv_iload_n hx hb dX5_readsStep_122 rfl (lv_at hl 0 rfl) ?_
              refine lv_bipush (v := 45) hx hb dX5_readsStep_123 (by decide) ?_
              refine lv_icmp_eq (tgt := 136) hx hb dX5_readsStep_125 (by decide) (fun c_125 => ?_) (fun c_125 => ?_)
              · exact J_136_1  _ _ _ (by simp [isSg, c_125]) I (lv_sub hl [0, 1] rfl)
              · refine lv_iload_n hx hb dX5_readsStep_128 rfl (lv_at hl 0 rfl) ?_
                refine lv_bipush (v := 42) hx hb dX5_readsStep_129 (by decide) ?_
                refine lv_icmp_eq (tgt := 136) hx hb dX5_readsStep_131 (by decide) (fun c_131 => ?_) (fun c_131 => ?_)
                · exact J_136_1  _ _ _ (by simp [isSg, c_131]) I (lv_sub hl [0, 1] rfl)
                · refine lv_iconst (v := 0) hx hb dX5_readsStep_134 (by decide) ?_
                  have hsg : isSg (nx (a 21) (tL f) (tA f + 1)) = false := by simp [isSg, c_107, c_113, c_119, c_125, c_131]
                  have eR : rS (a 21) (tL f) (tA f) = (false, tA f + 1, (nx (a 21) (tL f) (tA f + 1)), some ((nx (a 21) (tL f) (tA f)) - 48), none) := (if_neg (fun q => q.elim c_19 c_28)).trans ((if_neg h01).trans (if_pos hsg))
                  exact g_zret S hr hlk I rfl dX5_readsStep_135 (Nat.le_of_ble_eq_true rfl) (Nat.le_of_ble_eq_true rfl) hQ ⟨_, rfl, ((congrArg (fun q : Bool × Nat × Int32 × Option Int32 × Option Int32 => b2i q.1) eR).symm), (mG_c (congrArg (fun q : Bool × Nat × Int32 × Option Int32 × Option Int32 => upd f 26 (nI q.2.1)) eR).symm ((va_upI (va_up (va_up a 22 (upd (a 22) (tS f) (nx (a 21) (tL f) (tA f + 1)))) 23 (upd (a 23) (tS f) ((nx (a 21) (tL f) (tA f)) - 48))) 24 rfl).symm.trans (congrArg (fun q : Bool × Nat × Int32 × Option Int32 × Option Int32 => va_up (va_up (va_up a 22 (upd (a 22) (tS f) q.2.2.1)) 23 (oset (a 23) (tS f) q.2.2.2.1)) 24 (oset (a 24) (tS f) q.2.2.2.2)) eR).symm))⟩
      refine lv_icmp_eq (tgt := 63) hx hb dX5_readsStep_49 (by decide) (fun c_49 => ?_) (fun c_49 => ?_)
      · exact J_63_0  _ _ _ (fun q => q.1 c_49) I (lv_sub hl [0] rfl)
      · refine lv_aload_n hx hb dX5_readsStep_52 rfl (lv_at hl 0 rfl) ?_
        refine g_ci (g_runV S hK I (As := []) (rest := []) (met_X5_next l Γ mo ad f (va_up a 22 (upd (a 22) (tS f) (nx (a 21) (tL f) (tA f)))) rr ph hT) (cwV 0 hts (lw_V q3423 q3425 qs107 q151 q3426) rfl rfl rfl (by decide +kernel) ⟨Nat.le_of_ble_eq_true rfl, Nat.le_of_ble_eq_true rfl⟩) (g_recv hK I (g_at.of mG_obj) (ci := 4) rfl) rfl hl.1 rfl (Nat.le_of_ble_eq_true rfl) dX5_readsStep_53 ⟨Nat.le_of_ble_eq_true rfl, Nat.le_of_ble_eq_true rfl⟩) I (fun r_53 ph1 H locs hp I => ?_)
        obtain ⟨hp, rfl⟩ := hp
        have hp : r_53 = nx (a 21) (tL f) (tA f) := hp
        subst hp
        refine lv_bipush (v := 49) hx hb dX5_readsStep_56 (by decide) ?_
        refine lv_icmp_eq (tgt := 63) hx hb dX5_readsStep_58 (by decide) (fun c_58 => ?_) (fun c_58 => ?_)
        · exact J_63_0  _ _ _ (fun q => q.2 c_58) I (lv_sub hl [0] rfl)
        · refine lv_iconst (v := 0) hx hb dX5_readsStep_61 (by decide) ?_
          have eR : rS (a 21) (tL f) (tA f) = (false, tA f, (nx (a 21) (tL f) (tA f)), none, none) := (if_neg (fun q => q.elim c_19 c_28)).trans (if_pos ⟨c_49, c_58⟩)
          exact g_zret S hr hlk I rfl dX5_readsStep_62 (Nat.le_of_ble_eq_true rfl) (Nat.le_of_ble_eq_true rfl) hQ ⟨_, rfl, ((congrArg (fun q : Bool × Nat × Int32 × Option Int32 × Option Int32 => b2i q.1) eR).symm), (mG_c ((upd_id hT.2.1.1).symm.trans (congrArg (fun q : Bool × Nat × Int32 × Option Int32 × Option Int32 => upd f 26 (nI q.2.1)) eR).symm) (((va_upI (va_up (va_up a 22 (upd (a 22) (tS f) (nx (a 21) (tL f) (tA f)))) 23 (a 23)) 24 (v := a 24) rfl).trans (va_upI (va_up a 22 (upd (a 22) (tS f) (nx (a 21) (tL f) (tA f)))) 23 (v := a 23) rfl)).symm.trans (congrArg (fun q : Bool × Nat × Int32 × Option Int32 × Option Int32 => va_up (va_up (va_up a 22 (upd (a 22) (tS f) q.2.2.1)) 23 (oset (a 23) (tS f) q.2.2.2.1)) 24 (oset (a 24) (tS f) q.2.2.2.2)) eR).symm))⟩
    · have hl0 : tA f < tL f := nx_c c_28 (by decide)
      refine lv_aload_n hx hb dX5_readsStep_31 rfl (lv_at hl 0 rfl) ?_
      refine lv_dup hx hb dX5_readsStep_32 rfl ?_
      refine g_get S hK I k_X5 (v := .int (f 26)) (g_at.of mG_obj) 26 (by decide) q2978 rfl rfl dX5_readsStep_33 ?_
      refine lv_iconst (v := 1) hx hb dX5_readsStep_36 (by decide) ?_
      refine lv_iadd hx hb dX5_readsStep_37 ?_
      refine g_put S hK I k_X5 (v := .int ((f 26) + 1)) mG_obj 26 (by decide) q2978 rfl rfl rfl rfl (Nat.le_of_ble_eq_true rfl) dX5_readsStep_38 (fun H locs I => ?_)
      have I := mI_f (f' := (upd f 26 ((f 26) + 1))) I rfl
      have I := mI_ef I (show (upd f 26 ((f 26) + 1)) = (upd f 26 (nI (tA f + 1))) from at_1 hT)
      refine lv_iconst (v := 1) hx hb dX5_readsStep_41 (by decide) ?_
      have eR : rS (a 21) (tL f) (tA f) = (true, tA f + 1, (nx (a 21) (tL f) (tA f)), none, none) := if_pos (Or.inr c_28)
      exact g_zret S hr hlk I rfl dX5_readsStep_42 (Nat.le_of_ble_eq_true rfl) (Nat.le_of_ble_eq_true rfl) hQ ⟨_, rfl, ((congrArg (fun q : Bool × Nat × Int32 × Option Int32 × Option Int32 => b2i q.1) eR).symm), (mG_c (congrArg (fun q : Bool × Nat × Int32 × Option Int32 × Option Int32 => upd f 26 (nI q.2.1)) eR).symm (((va_upI (va_up (va_up a 22 (upd (a 22) (tS f) (nx (a 21) (tL f) (tA f)))) 23 (a 23)) 24 (v := a 24) rfl).trans (va_upI (va_up a 22 (upd (a 22) (tS f) (nx (a 21) (tL f) (tA f)))) 23 (v := a 23) rfl)).symm.trans (congrArg (fun q : Bool × Nat × Int32 × Option Int32 × Option Int32 => va_up (va_up (va_up a 22 (upd (a 22) (tS f) q.2.2.1)) 23 (oset (a 23) (tS f) q.2.2.2.1)) 24 (oset (a 24) (tS f) q.2.2.2.2)) eR).symm))⟩

theorem nI_inj {a b : Nat} (ha : a < 2 ^ 31) (hb : b < 2 ^ 31) (h : nI a = nI b) : a = b := by rw [← nI_clamp ha, ← nI_clamp hb, h]
set_option maxHeartbeats 4000000 in
set_option maxRecDepth 100000 in
theorem met_X5_readsPlan (l : Launch) (Γ : g_C) (mo : Nat) (ad : Nat → Nat) (f : Nat → Int32) (a : Nat → Nat → Int32) (rr : Nat → UInt32) (ph : g_H)  (hL : okL f) : g_Met l yX5_readsPlan (ws_ yX5_readsPlan cX5_readsPlan 2 (some .boolean)) (g_rm 5 0 0) Γ [.ref mo] (mG Γ mo ad f a rr ph) (g_oi (fun v ph' => v = (b2i (rdB f a)) ∧ ph' = mG Γ mo ad (rdW f a) (va_up (va_up (va_up a 22 ((rdR f a).2.2.1)) 23 ((rdR f a).2.2.2.1)) 24 ((rdR f a).2.2.2.2)) rr ph)) g_no := by
  refine g_start (y := yX5_readsPlan) (cc := cX5_readsPlan) (maxL := 2) (ret := (some .boolean)) (rm := g_rm 5 0 0) (by decide) (Nat.le_of_ble_eq_true rfl) ?_
  intro p e s m A below meth c ls Q hQ S hr hlk hex hnm hK I hl
  have hx := S.1
  have hb := S.2.1
  have hown := S.2.2.2.1
  have hts := S.2.2.2.2
  have S : CallFix p m c cX5_readsPlan 2 s A lw_all "CrumblingWallModel" := S
  have hl : lv_has ls 2 [(0, .ref mo)] := hl
  have hL2 := hL.2
  have h0 := rd1_ok (t := a 21) (L := tL f) (S := (0, 0, a 22, a 23, a 24)) (Nat.zero_le _) (Nat.le_refl _)
  refine lv_aload_n hx hb dX5_readsPlan_0 rfl (lv_at hl 0 rfl) ?_
  refine lv_iconst (v := 0) hx hb dX5_readsPlan_1 (by decide) ?_
  refine g_put S hK I k_X5 (v := .int 0) mG_obj 26 (by decide) q2978 rfl rfl rfl rfl (Nat.le_of_ble_eq_true rfl) dX5_readsPlan_2 (fun H locs I => ?_)
  have I := mI_f (f' := (upd f 26 0)) I rfl
  refine lv_aload_n hx hb dX5_readsPlan_5 rfl (lv_at hl 0 rfl) ?_
  refine lv_iconst (v := 0) hx hb dX5_readsPlan_6 (by decide) ?_
  refine g_put S hK I k_X5 (v := .int 0) mG_obj 27 (by decide) q2979 rfl rfl rfl rfl (Nat.le_of_ble_eq_true rfl) dX5_readsPlan_7 (fun H locs I => ?_)
  have I := mI_f (f' := (upd (upd f 26 0) 27 0)) I rfl
  have I : g_I Γ (mG Γ mo ad (upd (upd f 26 (nI 0)) 27 (nI 0)) a rr ph) s H locs := I
  refine lv_aload_n hx hb dX5_readsPlan_10 rfl (lv_at hl 0 rfl) ?_
  refine g_ci (g_runV S hK I (As := []) (rest := []) (met_X5_readsStep l Γ mo ad (upd (upd f 26 (nI 0)) 27 (nI 0)) a rr ph (okT_n hL (i := 0) (n := 0) (by decide) (by decide))) (cwV 0 hts (lw_V q3419 q3421 qs106 q151 q3422) rfl rfl rfl (by decide +kernel) ⟨Nat.le_of_ble_eq_true rfl, Nat.le_of_ble_eq_true rfl⟩) (g_recv hK I (g_at.of mG_obj) (ci := 4) rfl) rfl hl.1 rfl (Nat.le_of_ble_eq_true rfl) dX5_readsPlan_11 ⟨Nat.le_of_ble_eq_true rfl, Nat.le_of_ble_eq_true rfl⟩) I (fun r_11 ph1 H locs hp I => ?_)
  obtain ⟨hp, rfl⟩ := hp
  have hp : r_11 = b2i ((rS (a 21) (tL (upd (upd f 26 (nI 0)) 27 (nI 0))) (tA (upd (upd f 26 (nI 0)) 27 (nI 0)))).1) := hp
  subst hp
  have I : g_I Γ (mG Γ mo ad (upd (upd (upd f 26 (nI 0)) 27 (nI 0)) 26 (nI (rS (a 21) (tL (upd (upd f 26 (nI 0)) 27 (nI 0))) (tA (upd (upd f 26 (nI 0)) 27 (nI 0)))).2.1)) (va_up (va_up (va_up a 22 (upd (a 22) (tS (upd (upd f 26 (nI 0)) 27 (nI 0))) (rS (a 21) (tL (upd (upd f 26 (nI 0)) 27 (nI 0))) (tA (upd (upd f 26 (nI 0)) 27 (nI 0)))).2.2.1)) 23 (oset (a 23) (tS (upd (upd f 26 (nI 0)) 27 (nI 0))) (rS (a 21) (tL (upd (upd f 26 (nI 0)) 27 (nI 0))) (tA (upd (upd f 26 (nI 0)) 27 (nI 0)))).2.2.2.1)) 24 (oset (a 24) (tS (upd (upd f 26 (nI 0)) 27 (nI 0))) (rS (a 21) (tL (upd (upd f 26 (nI 0)) 27 (nI 0))) (tA (upd (upd f 26 (nI 0)) 27 (nI 0)))).2.2.2.2)) rr ph) s H locs := I
  have eN : rS (a 21) (tL (upd (upd f 26 (nI 0)) 27 (nI 0))) (tA (upd (upd f 26 (nI 0)) 27 (nI 0))) = rS (a 21) (tL f) 0 := by rw [show tA (upd (upd f 26 (nI 0)) 27 (nI 0)) = 0 from tA_n (by omega)]; rfl
  have eS1 : tS (upd (upd f 26 (nI 0)) 27 (nI 0)) = 0 := tS_n (by omega)
  have I := mI_ef I (show (upd (upd (upd f 26 (nI 0)) 27 (nI 0)) 26 (nI (rS (a 21) (tL (upd (upd f 26 (nI 0)) 27 (nI 0))) (tA (upd (upd f 26 (nI 0)) 27 (nI 0)))).2.1)) = upd (upd f 26 (nI (rS (a 21) (tL f) 0).2.1)) 27 (nI 0) from by rw [eN, upd_rr (by decide)])
  have I := mI_ea I (show (va_up (va_up (va_up a 22 (upd (a 22) (tS (upd (upd f 26 (nI 0)) 27 (nI 0))) (rS (a 21) (tL (upd (upd f 26 (nI 0)) 27 (nI 0))) (tA (upd (upd f 26 (nI 0)) 27 (nI 0)))).2.2.1)) 23 (oset (a 23) (tS (upd (upd f 26 (nI 0)) 27 (nI 0))) (rS (a 21) (tL (upd (upd f 26 (nI 0)) 27 (nI 0))) (tA (upd (upd f 26 (nI 0)) 27 (nI 0)))).2.2.2.1)) 24 (oset (a 24) (tS (upd (upd f 26 (nI 0)) 27 (nI 0))) (rS (a 21) (tL (upd (upd f 26 (nI 0)) 27 (nI 0))) (tA (upd (upd f 26 (nI 0)) 27 (nI 0)))).2.2.2.2)) = (va_up (va_up (va_up a 22 (upd (a 22) 0 (rS (a 21) (tL f) 0).2.2.1)) 23 (oset (a 23) 0 (rS (a 21) (tL f) 0).2.2.2.1)) 24 (oset (a 24) 0 (rS (a 21) (tL f) 0).2.2.2.2)) from by rw [eN, eS1])
  rw [eN]
  refine lv_istore_n (lv' := [(1, .int (b2i ((rS (a 21) (tL f) 0).1))), (0, .ref mo)]) hx hb dX5_readsPlan_14 rfl hl (by decide) rfl (fun ls hl => ?_)
  refine lv_aload_n hx hb dX5_readsPlan_15 rfl (lv_at hl 1 rfl) ?_
  refine lv_dup hx hb dX5_readsPlan_16 rfl ?_
  refine g_get S hK I k_X5 (v := .int (nI 0)) (g_at.of mG_obj) 27 (by decide) q2979 rfl rfl dX5_readsPlan_17 ?_
  refine lv_iload_n hx hb dX5_readsPlan_20 rfl (lv_at hl 0 rfl) ?_
  have J_29_0 : ∀ (x1 : Int32) (H : Heap) (locs : List Loc) (ls : Array Slot), (hx1 : x1 = (b2i (rS (a 21) (tL f) 0).1)) → g_I Γ (mG Γ mo ad (upd (upd f 26 (nI (rS (a 21) (tL f) 0).2.1)) 27 (nI 0)) (va_up (va_up (va_up a 22 (upd (a 22) 0 (rS (a 21) (tL f) 0).2.2.1)) 23 (oset (a 23) 0 (rS (a 21) (tL f) 0).2.2.2.1)) 24 (oset (a 24) 0 (rS (a 21) (tL f) 0).2.2.2.2)) rr ph) s H locs → lv_has ls 2 [(1, .int (b2i ((rS (a 21) (tL f) 0).1))), (0, .ref mo)] → W p l e (g_rm 5 0 0) s m A below meth c H locs 0 0 Q (F0 m 29 ls [.int x1, .int (nI 0), .ref mo]) := by
    intro x1 H locs ls hx1 I hl
    subst hx1
    refine lv_iadd hx hb dX5_readsPlan_29 ?_
    refine g_put S hK I k_X5 (v := .int ((nI 0) + (b2i (rS (a 21) (tL f) 0).1))) mG_obj 27 (by decide) q2979 rfl rfl rfl rfl (Nat.le_of_ble_eq_true rfl) dX5_readsPlan_30 (fun H locs I => ?_)
    have I := mI_f (f' := (upd (upd (upd f 26 (nI (rS (a 21) (tL f) 0).2.1)) 27 (nI 0)) 27 ((nI 0) + (b2i (rS (a 21) (tL f) 0).1)))) I rfl
    have I := mI_ef I (show (upd (upd (upd f 26 (nI (rS (a 21) (tL f) 0).2.1)) 27 (nI 0)) 27 ((nI 0) + (b2i (rS (a 21) (tL f) 0).1))) = upd (upd f 26 (nI (rd1 (a 21) (tL f) (0, 0, a 22, a 23, a 24)).1)) 27 (nI (rd1 (a 21) (tL f) (0, 0, a 22, a 23, a 24)).2.1) from by rw [upd_uu, n_b2i]; rfl)
    have I := mI_ea I (show (va_up (va_up (va_up a 22 (upd (a 22) 0 (rS (a 21) (tL f) 0).2.2.1)) 23 (oset (a 23) 0 (rS (a 21) (tL f) 0).2.2.2.1)) 24 (oset (a 24) 0 (rS (a 21) (tL f) 0).2.2.2.2)) = (va_up (va_up (va_up a 22 ((rd1 (a 21) (tL f) (0, 0, a 22, a 23, a 24)).2.2.1)) 23 ((rd1 (a 21) (tL f) (0, 0, a 22, a 23, a 24)).2.2.2.1)) 24 ((rd1 (a 21) (tL f) (0, 0, a 22, a 23, a 24)).2.2.2.2)) from rfl)
    have L_33 : ∀ (d : Nat) (v : Nat) (b : Bool) (Z : m_rd), (hE : (if b = true ∧ nx (a 21) (tL f) Z.1 = 59 then rdF (a 21) (tL f) v (Z.1 + 1, Z.2) else (b, Z)) = (rdP (a 21) (tL f) a)) → (hi : Z.1 ≤ tL f) → (hn : 2 * Z.2.1 ≤ Z.1 + 1) → (hdd : tL f ≤ v + Z.1) → v < d → ∀ (H : Heap) (locs : List Loc) (ls : Array Slot), g_I Γ (mG Γ mo ad (upd (upd f 26 (nI Z.1)) 27 (nI Z.2.1)) (va_up (va_up (va_up a 22 Z.2.2.1) 23 Z.2.2.2.1) 24 Z.2.2.2.2) rr ph) s H locs → lv_has ls 2 [(0, .ref mo), (1, .int (b2i b))] → W p l e (g_rm 5 0 0) s m A below meth c H locs 0 0 Q (F0 m 33 ls []) := by
      intro d
      induction d with
      | zero => intro v b Z hE hi hn hdd hd; exact absurd hd (Nat.not_lt_zero _)
      | succ d ih =>
        intro v b Z hE hi hn hdd hd H locs ls I hl
        refine lv_iload_n hx hb dX5_readsPlan_33 rfl (lv_at hl 1 rfl) ?_
        have J_82_1 : ∀ (H : Heap) (locs : List Loc) (ls : Array Slot), (hE2 : (b, Z) = (rdP (a 21) (tL f) a)) → g_I Γ (mG Γ mo ad (upd (upd f 26 (nI Z.1)) 27 (nI Z.2.1)) (va_up (va_up (va_up a 22 Z.2.2.1) 23 Z.2.2.2.1) 24 Z.2.2.2.2) rr ph) s H locs → lv_has ls 2 [(0, .ref mo), (1, .int (b2i b))] → W p l e (g_rm 5 0 0) s m A below meth c H locs 0 0 Q (F0 m 82 ls []) := by
          intro  H locs ls hE2 I hl
          refine lv_iload_n hx hb dX5_readsPlan_82 rfl (lv_at hl 1 rfl) ?_
          have J_102_2 : ∀ (x3 : Int32) (H : Heap) (locs : List Loc) (ls : Array Slot), (hx3 : x3 = b2i (rdB f a)) → g_I Γ (mG Γ mo ad (upd (upd f 26 (nI Z.1)) 27 (nI Z.2.1)) (va_up (va_up (va_up a 22 Z.2.2.1) 23 Z.2.2.2.1) 24 Z.2.2.2.2) rr ph) s H locs → lv_has ls 2 [(0, .ref mo), (1, .int (b2i b))] → W p l e (g_rm 5 0 0) s m A below meth c H locs 0 0 Q (F0 m 102 ls [.int x3]) := by
            intro x3 H locs ls hx3 I hl
            subst hx3
            refine lv_istore_n (lv' := [(1, .int (b2i (rdB f a))), (0, .ref mo)]) hx hb dX5_readsPlan_102 rfl hl (by decide) rfl (fun ls hl => ?_)
            refine lv_aload_n hx hb dX5_readsPlan_103 rfl (lv_at hl 1 rfl) ?_
            refine lv_iconst (v := 0) hx hb dX5_readsPlan_104 (by decide) ?_
            refine g_put S hK I k_X5 (v := .int 0) mG_obj 25 (by decide) q2977 rfl rfl rfl rfl (Nat.le_of_ble_eq_true rfl) dX5_readsPlan_105 (fun H locs I => ?_)
            have I := mI_f (f' := (upd (upd (upd f 26 (nI Z.1)) 27 (nI Z.2.1)) 25 0)) I rfl
            refine lv_iload_n hx hb dX5_readsPlan_108 rfl (lv_at hl 0 rfl) ?_
            refine lv_if_ne (tgt := 120) hx hb dX5_readsPlan_109 (by decide) (fun c_109 => ?_) (fun c_109 => ?_)
            · have p_109 := (b2i_ne0 _).mp c_109
              refine lv_iload_n hx hb dX5_readsPlan_120 rfl (lv_at hl 0 rfl) ?_
              exact g_zret S hr hlk I (b2i_nar _) dX5_readsPlan_121 (Nat.le_of_ble_eq_true rfl) (Nat.le_of_ble_eq_true rfl) hQ ⟨_, rfl, rfl, (mG_c (by unfold rdW rd0; rw [show rdR f a = Z from by unfold rdR; rw [← hE2], if_pos p_109]) (by rw [show rdR f a = Z from by unfold rdR; rw [← hE2]]))⟩
            · have p_109 := (b2i_eq0 _).mp c_109
              refine lv_aload_n hx hb dX5_readsPlan_112 rfl (lv_at hl 1 rfl) ?_
              refine lv_aload_n hx hb dX5_readsPlan_113 rfl (lv_at hl 1 rfl) ?_
              refine g_get S hK I k_X5 (v := .int (nI Z.1)) (g_at.of mG_obj) 26 (by decide) q2978 rfl rfl dX5_readsPlan_114 ?_
              refine g_put S hK I k_X5 (v := .int (nI Z.1)) mG_obj 28 (by decide) q2980 rfl rfl rfl rfl (Nat.le_of_ble_eq_true rfl) dX5_readsPlan_117 (fun H locs I => ?_)
              have I := mI_f (f' := (upd (upd (upd (upd f 26 (nI Z.1)) 27 (nI Z.2.1)) 25 0) 28 (nI Z.1))) I rfl
              refine lv_iload_n hx hb dX5_readsPlan_120 rfl (lv_at hl 0 rfl) ?_
              exact g_zret S hr hlk I (b2i_nar _) dX5_readsPlan_121 (Nat.le_of_ble_eq_true rfl) (Nat.le_of_ble_eq_true rfl) hQ ⟨_, rfl, rfl, (mG_c (by unfold rdW rd0; rw [show rdR f a = Z from by unfold rdR; rw [← hE2], if_neg (by rw [p_109]; decide)]) (by rw [show rdR f a = Z from by unfold rdR; rw [← hE2]]))⟩
          refine lv_if_eq (tgt := 101) hx hb dX5_readsPlan_83 (by decide) (fun c_83 => ?_) (fun c_83 => ?_)
          · have p_83 := (b2i_eq0 _).mp c_83
            refine lv_iconst (v := 0) hx hb dX5_readsPlan_101 (by decide) ?_
            exact J_102_2 0 _ _ _ (by rw [show rdB f a = false from by unfold rdB rdOk; rw [← hE2]; show (b && _) = false; rw [p_83]; rfl]; rfl) I (lv_sub hl [0, 1] rfl)
          · have p_83 := (b2i_ne0 _).mp c_83
            refine lv_aload_n hx hb dX5_readsPlan_86 rfl (lv_at hl 0 rfl) ?_
            refine g_get S hK I k_X5 (v := .int (nI Z.1)) (g_at.of mG_obj) 26 (by decide) q2978 rfl rfl dX5_readsPlan_87 ?_
            refine lv_aload_n hx hb dX5_readsPlan_90 rfl (lv_at hl 0 rfl) ?_
            refine g_get S hK I k_X5 (v := .int (f 25)) (g_at.of mG_obj) 25 (by decide) q2977 rfl rfl dX5_readsPlan_91 ?_
            refine lv_icmp_ne (tgt := 101) hx hb dX5_readsPlan_94 (by decide) (fun c_94 => ?_) (fun c_94 => ?_)
            · refine lv_iconst (v := 0) hx hb dX5_readsPlan_101 (by decide) ?_
              exact J_102_2 0 _ _ _ (by rw [show rdB f a = false from by unfold rdB rdOk; rw [← hE2]; show (b && decide (Z.1 = tL f)) = false; rw [decide_eq_false (fun q => c_94 (by rw [hL.1, q]))]; exact Bool.and_false _]; rfl) I (lv_sub hl [0, 1] rfl)
            · refine lv_iconst (v := 1) hx hb dX5_readsPlan_97 (by decide) ?_
              refine lv_goto (tgt := 102) hx hb dX5_readsPlan_98 (by decide) ?_
              exact J_102_2 1 _ _ _ (by rw [show rdB f a = true from by unfold rdB rdOk; rw [← hE2]; show (b && decide (Z.1 = tL f)) = true; rw [p_83, decide_eq_true (nI_inj (by omega) (by omega) (c_94.trans hL.1))]; rfl]; rfl) I (lv_sub hl [0, 1] rfl)
        refine lv_if_eq (tgt := 82) hx hb dX5_readsPlan_34 (by decide) (fun c_34 => ?_) (fun c_34 => ?_)
        · have p_34 := (b2i_eq0 _).mp c_34
          exact J_82_1  _ _ _ ((if_neg (fun q => absurd q.1 (by rw [p_34]; decide))).symm.trans hE) I (lv_sub hl [0, 1] rfl)
        · have p_34 := (b2i_ne0 _).mp c_34
          refine lv_aload_n hx hb dX5_readsPlan_37 rfl (lv_at hl 0 rfl) ?_
          refine g_ci (g_runV S hK I (As := []) (rest := []) (met_X5_next l Γ mo ad (upd (upd f 26 (nI Z.1)) 27 (nI Z.2.1)) (va_up (va_up (va_up a 22 Z.2.2.1) 23 Z.2.2.2.1) 24 Z.2.2.2.2) rr ph (okT_n hL (by omega) (by omega))) (cwV 0 hts (lw_V q3423 q3425 qs107 q151 q3426) rfl rfl rfl (by decide +kernel) ⟨Nat.le_of_ble_eq_true rfl, Nat.le_of_ble_eq_true rfl⟩) (g_recv hK I (g_at.of mG_obj) (ci := 4) rfl) rfl hl.1 rfl (Nat.le_of_ble_eq_true rfl) dX5_readsPlan_38 ⟨Nat.le_of_ble_eq_true rfl, Nat.le_of_ble_eq_true rfl⟩) I (fun r_38 ph1 H locs hp I => ?_)
          obtain ⟨hp, rfl⟩ := hp
          have hp : r_38 = nx (a 21) (tL (upd (upd f 26 (nI Z.1)) 27 (nI Z.2.1))) (tA (upd (upd f 26 (nI Z.1)) 27 (nI Z.2.1))) := hp
          subst hp
          rw [show (nx (a 21) (tL (upd (upd f 26 (nI Z.1)) 27 (nI Z.2.1))) (tA (upd (upd f 26 (nI Z.1)) 27 (nI Z.2.1)))) = (nx (a 21) (tL f) Z.1) from by rw [show tA (upd (upd f 26 (nI Z.1)) 27 (nI Z.2.1)) = Z.1 from tA_n (by omega)]; rfl]
          refine lv_bipush (v := 59) hx hb dX5_readsPlan_41 (by decide) ?_
          refine lv_icmp_ne (tgt := 82) hx hb dX5_readsPlan_43 (by decide) (fun c_43 => ?_) (fun c_43 => ?_)
          · exact J_82_1  _ _ _ ((if_neg (fun q => c_43 q.2)).symm.trans hE) I (lv_sub hl [0, 1] rfl)
          · have hlt : Z.1 < tL f := nx_c c_43 (by decide)
            obtain ⟨v, rfl⟩ : ∃ j, v = j + 1 := ⟨v - 1, by omega⟩
            have h1 := rd1_ok (t := a 21) (L := tL f) (S := (Z.1 + 1, Z.2)) hlt (by show 2 * Z.2.1 ≤ Z.1 + 1; exact hn)
            refine lv_aload_n hx hb dX5_readsPlan_46 rfl (lv_at hl 0 rfl) ?_
            refine lv_dup hx hb dX5_readsPlan_47 rfl ?_
            refine g_get S hK I k_X5 (v := .int (nI Z.1)) (g_at.of mG_obj) 26 (by decide) q2978 rfl rfl dX5_readsPlan_48 ?_
            refine lv_iconst (v := 1) hx hb dX5_readsPlan_51 (by decide) ?_
            refine lv_iadd hx hb dX5_readsPlan_52 ?_
            refine g_put S hK I k_X5 (v := .int ((nI Z.1) + 1)) mG_obj 26 (by decide) q2978 rfl rfl rfl rfl (Nat.le_of_ble_eq_true rfl) dX5_readsPlan_53 (fun H locs I => ?_)
            have I := mI_f (f' := (upd (upd (upd f 26 (nI Z.1)) 27 (nI Z.2.1)) 26 ((nI Z.1) + 1))) I rfl
            have I := mI_ef I (show (upd (upd (upd f 26 (nI Z.1)) 27 (nI Z.2.1)) 26 ((nI Z.1) + 1)) = (upd (upd f 26 (nI (Z.1 + 1))) 27 (nI Z.2.1)) from by rw [upd_rr (by decide), nI_1])
            refine lv_aload_n hx hb dX5_readsPlan_56 rfl (lv_at hl 0 rfl) ?_
            refine g_ci (g_runV S hK I (As := []) (rest := []) (met_X5_readsStep l Γ mo ad (upd (upd f 26 (nI (Z.1 + 1))) 27 (nI Z.2.1)) (va_up (va_up (va_up a 22 Z.2.2.1) 23 Z.2.2.2.1) 24 Z.2.2.2.2) rr ph (okT_n hL (by omega) (by omega))) (cwV 0 hts (lw_V q3419 q3421 qs106 q151 q3422) rfl rfl rfl (by decide +kernel) ⟨Nat.le_of_ble_eq_true rfl, Nat.le_of_ble_eq_true rfl⟩) (g_recv hK I (g_at.of mG_obj) (ci := 4) rfl) rfl hl.1 rfl (Nat.le_of_ble_eq_true rfl) dX5_readsPlan_57 ⟨Nat.le_of_ble_eq_true rfl, Nat.le_of_ble_eq_true rfl⟩) I (fun r_57 ph1 H locs hp I => ?_)
            obtain ⟨hp, rfl⟩ := hp
            have hp : r_57 = b2i ((rS (a 21) (tL (upd (upd f 26 (nI (Z.1 + 1))) 27 (nI Z.2.1))) (tA (upd (upd f 26 (nI (Z.1 + 1))) 27 (nI Z.2.1)))).1) := hp
            subst hp
            have I : g_I Γ (mG Γ mo ad (upd (upd (upd f 26 (nI (Z.1 + 1))) 27 (nI Z.2.1)) 26 (nI (rS (a 21) (tL (upd (upd f 26 (nI (Z.1 + 1))) 27 (nI Z.2.1))) (tA (upd (upd f 26 (nI (Z.1 + 1))) 27 (nI Z.2.1)))).2.1)) (va_up (va_up (va_up (va_up (va_up (va_up a 22 Z.2.2.1) 23 Z.2.2.2.1) 24 Z.2.2.2.2) 22 (upd Z.2.2.1 (tS (upd (upd f 26 (nI (Z.1 + 1))) 27 (nI Z.2.1))) (rS (a 21) (tL (upd (upd f 26 (nI (Z.1 + 1))) 27 (nI Z.2.1))) (tA (upd (upd f 26 (nI (Z.1 + 1))) 27 (nI Z.2.1)))).2.2.1)) 23 (oset Z.2.2.2.1 (tS (upd (upd f 26 (nI (Z.1 + 1))) 27 (nI Z.2.1))) (rS (a 21) (tL (upd (upd f 26 (nI (Z.1 + 1))) 27 (nI Z.2.1))) (tA (upd (upd f 26 (nI (Z.1 + 1))) 27 (nI Z.2.1)))).2.2.2.1)) 24 (oset Z.2.2.2.2 (tS (upd (upd f 26 (nI (Z.1 + 1))) 27 (nI Z.2.1))) (rS (a 21) (tL (upd (upd f 26 (nI (Z.1 + 1))) 27 (nI Z.2.1))) (tA (upd (upd f 26 (nI (Z.1 + 1))) 27 (nI Z.2.1)))).2.2.2.2)) rr ph) s H locs := I
            have eN : rS (a 21) (tL (upd (upd f 26 (nI (Z.1 + 1))) 27 (nI Z.2.1))) (tA (upd (upd f 26 (nI (Z.1 + 1))) 27 (nI Z.2.1))) = rS (a 21) (tL f) (Z.1 + 1) := by rw [show tA (upd (upd f 26 (nI (Z.1 + 1))) 27 (nI Z.2.1)) = (Z.1 + 1) from tA_n (by omega)]; rfl
            have eS1 : tS (upd (upd f 26 (nI (Z.1 + 1))) 27 (nI Z.2.1)) = Z.2.1 := tS_n (by omega)
            have I := mI_ef I (show (upd (upd (upd f 26 (nI (Z.1 + 1))) 27 (nI Z.2.1)) 26 (nI (rS (a 21) (tL (upd (upd f 26 (nI (Z.1 + 1))) 27 (nI Z.2.1))) (tA (upd (upd f 26 (nI (Z.1 + 1))) 27 (nI Z.2.1)))).2.1)) = upd (upd f 26 (nI (rS (a 21) (tL f) (Z.1 + 1)).2.1)) 27 (nI Z.2.1) from by rw [eN, upd_rr (by decide)])
            have I := mI_ea I (show (va_up (va_up (va_up (va_up (va_up (va_up a 22 Z.2.2.1) 23 Z.2.2.2.1) 24 Z.2.2.2.2) 22 (upd Z.2.2.1 (tS (upd (upd f 26 (nI (Z.1 + 1))) 27 (nI Z.2.1))) (rS (a 21) (tL (upd (upd f 26 (nI (Z.1 + 1))) 27 (nI Z.2.1))) (tA (upd (upd f 26 (nI (Z.1 + 1))) 27 (nI Z.2.1)))).2.2.1)) 23 (oset Z.2.2.2.1 (tS (upd (upd f 26 (nI (Z.1 + 1))) 27 (nI Z.2.1))) (rS (a 21) (tL (upd (upd f 26 (nI (Z.1 + 1))) 27 (nI Z.2.1))) (tA (upd (upd f 26 (nI (Z.1 + 1))) 27 (nI Z.2.1)))).2.2.2.1)) 24 (oset Z.2.2.2.2 (tS (upd (upd f 26 (nI (Z.1 + 1))) 27 (nI Z.2.1))) (rS (a 21) (tL (upd (upd f 26 (nI (Z.1 + 1))) 27 (nI Z.2.1))) (tA (upd (upd f 26 (nI (Z.1 + 1))) 27 (nI Z.2.1)))).2.2.2.2)) = (va_up (va_up (va_up a 22 (upd Z.2.2.1 Z.2.1 (rS (a 21) (tL f) (Z.1 + 1)).2.2.1)) 23 (oset Z.2.2.2.1 Z.2.1 (rS (a 21) (tL f) (Z.1 + 1)).2.2.2.1)) 24 (oset Z.2.2.2.2 Z.2.1 (rS (a 21) (tL f) (Z.1 + 1)).2.2.2.2)) from by rw [eN, eS1]; exact va_6)
            rw [eN]
            refine lv_istore_n (lv' := [(1, .int (b2i ((rS (a 21) (tL f) (Z.1 + 1)).1))), (0, .ref mo)]) hx hb dX5_readsPlan_60 rfl hl (by decide) rfl (fun ls hl => ?_)
            refine lv_aload_n hx hb dX5_readsPlan_61 rfl (lv_at hl 1 rfl) ?_
            refine lv_dup hx hb dX5_readsPlan_62 rfl ?_
            refine g_get S hK I k_X5 (v := .int (nI Z.2.1)) (g_at.of mG_obj) 27 (by decide) q2979 rfl rfl dX5_readsPlan_63 ?_
            refine lv_iload_n hx hb dX5_readsPlan_66 rfl (lv_at hl 0 rfl) ?_
            have J_75_3 : ∀ (x1 : Int32) (H : Heap) (locs : List Loc) (ls : Array Slot), (hx1 : x1 = (b2i (rS (a 21) (tL f) (Z.1 + 1)).1)) → g_I Γ (mG Γ mo ad (upd (upd f 26 (nI (rS (a 21) (tL f) (Z.1 + 1)).2.1)) 27 (nI Z.2.1)) (va_up (va_up (va_up a 22 (upd Z.2.2.1 Z.2.1 (rS (a 21) (tL f) (Z.1 + 1)).2.2.1)) 23 (oset Z.2.2.2.1 Z.2.1 (rS (a 21) (tL f) (Z.1 + 1)).2.2.2.1)) 24 (oset Z.2.2.2.2 Z.2.1 (rS (a 21) (tL f) (Z.1 + 1)).2.2.2.2)) rr ph) s H locs → lv_has ls 2 [(1, .int (b2i ((rS (a 21) (tL f) (Z.1 + 1)).1))), (0, .ref mo)] → W p l e (g_rm 5 0 0) s m A below meth c H locs 0 0 Q (F0 m 75 ls [.int x1, .int (nI Z.2.1), .ref mo]) := by
              intro x1 H locs ls hx1 I hl
              subst hx1
              refine lv_iadd hx hb dX5_readsPlan_75 ?_
              refine g_put S hK I k_X5 (v := .int ((nI Z.2.1) + (b2i (rS (a 21) (tL f) (Z.1 + 1)).1))) mG_obj 27 (by decide) q2979 rfl rfl rfl rfl (Nat.le_of_ble_eq_true rfl) dX5_readsPlan_76 (fun H locs I => ?_)
              have I := mI_f (f' := (upd (upd (upd f 26 (nI (rS (a 21) (tL f) (Z.1 + 1)).2.1)) 27 (nI Z.2.1)) 27 ((nI Z.2.1) + (b2i (rS (a 21) (tL f) (Z.1 + 1)).1)))) I rfl
              have I := mI_ef I (show (upd (upd (upd f 26 (nI (rS (a 21) (tL f) (Z.1 + 1)).2.1)) 27 (nI Z.2.1)) 27 ((nI Z.2.1) + (b2i (rS (a 21) (tL f) (Z.1 + 1)).1))) = upd (upd f 26 (nI (rd1 (a 21) (tL f) (Z.1 + 1, Z.2)).1)) 27 (nI (rd1 (a 21) (tL f) (Z.1 + 1, Z.2)).2.1) from by rw [upd_uu, n_b2i]; rfl)
              have I := mI_ea I (show (va_up (va_up (va_up a 22 (upd Z.2.2.1 Z.2.1 (rS (a 21) (tL f) (Z.1 + 1)).2.2.1)) 23 (oset Z.2.2.2.1 Z.2.1 (rS (a 21) (tL f) (Z.1 + 1)).2.2.2.1)) 24 (oset Z.2.2.2.2 Z.2.1 (rS (a 21) (tL f) (Z.1 + 1)).2.2.2.2)) = (va_up (va_up (va_up a 22 ((rd1 (a 21) (tL f) (Z.1 + 1, Z.2)).2.2.1)) 23 ((rd1 (a 21) (tL f) (Z.1 + 1, Z.2)).2.2.2.1)) 24 ((rd1 (a 21) (tL f) (Z.1 + 1, Z.2)).2.2.2.2)) from rfl)
              refine lv_goto (tgt := 33) hx hb dX5_readsPlan_79 (by decide) ?_
              exact ih v ((rS (a 21) (tL f) (Z.1 + 1)).1) (rd1 (a 21) (tL f) (Z.1 + 1, Z.2)) ((if_pos ⟨p_34, c_43⟩).symm.trans hE) h1.1 h1.2.1 (by have := h1.2.2; have : Z.1 + 1 ≤ (rd1 (a 21) (tL f) (Z.1 + 1, Z.2)).1 := this; omega) (by omega) _ _ _ I (lv_sub hl [1, 0] rfl)
            refine lv_if_eq (tgt := 74) hx hb dX5_readsPlan_67 (by decide) (fun c_67 => ?_) (fun c_67 => ?_)
            · have p_67 := (b2i_eq0 _).mp c_67
              refine lv_iconst (v := 0) hx hb dX5_readsPlan_74 (by decide) ?_
              exact J_75_3 0 _ _ _ (by rw [p_67]; rfl) I (lv_sub hl [0, 1] rfl)
            · have p_67 := (b2i_ne0 _).mp c_67
              refine lv_iconst (v := 1) hx hb dX5_readsPlan_70 (by decide) ?_
              refine lv_goto (tgt := 75) hx hb dX5_readsPlan_71 (by decide) ?_
              exact J_75_3 1 _ _ _ (by rw [p_67]; rfl) I (lv_sub hl [0, 1] rfl)
    exact L_33 _ (tL f) ((rS (a 21) (tL f) 0).1) (rd1 (a 21) (tL f) (0, 0, a 22, a 23, a 24)) rfl h0.1 h0.2.1 (Nat.le_add_right _ _) (Nat.lt_succ_self _) _ _ _ I (lv_sub hl [1, 0] rfl)
  refine lv_if_eq (tgt := 28) hx hb dX5_readsPlan_21 (by decide) (fun c_21 => ?_) (fun c_21 => ?_)
  · have p_21 := (b2i_eq0 _).mp c_21
    refine lv_iconst (v := 0) hx hb dX5_readsPlan_28 (by decide) ?_
    exact J_29_0 0 _ _ _ (by rw [p_21]; rfl) I (lv_sub hl [0, 1] rfl)
  · have p_21 := (b2i_ne0 _).mp c_21
    refine lv_iconst (v := 1) hx hb dX5_readsPlan_24 (by decide) ?_
    refine lv_goto (tgt := 29) hx hb dX5_readsPlan_25 (by decide) ?_
    exact J_29_0 1 _ _ _ (by rw [p_21]; rfl) I (lv_sub hl [0, 1] rfl)


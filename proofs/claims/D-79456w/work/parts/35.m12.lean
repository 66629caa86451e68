/-! THE REFERENCE: plans are carried out -/
set_option maxRecDepth 100000
set_option maxHeartbeats 4000000 in
set_option maxRecDepth 100000 in
theorem met_X5_isTold (l : Launch) (Γ : g_C) (mo : Nat) (ad : Nat → Nat) (f : Nat → Int32) (a : Nat → Nat → Int32) (rr : Nat → UInt32) (ph : g_H) (p0 : Int32) (h0 : vp_in p0 31) : g_Met l yX5_isTold (ws_ yX5_isTold cX5_isTold 2 (some .boolean)) (g_rm 3 0 0) Γ [.ref mo, .int p0] (mG Γ mo ad f a rr ph) (g_oi (fun v ph' => v = (b2i (tld (a 5) ((a 22) p0.toNatClampNeg) ((a 24) p0.toNatClampNeg))) ∧ ph' = mG Γ mo ad f a rr ph)) g_no := by
  refine g_start (y := yX5_isTold) (cc := cX5_isTold) (maxL := 2) (ret := (some .boolean)) (rm := g_rm 3 0 0) (by decide) (Nat.le_of_ble_eq_true rfl) ?_
  intro p e s m A below meth c ls Q hQ S hr hlk hex hnm hK I hl
  have hx := S.1
  have hb := S.2.1
  have hown := S.2.2.2.1
  have hts := S.2.2.2.2
  have S : CallFix p m c cX5_isTold 2 s A lw_all "CrumblingWallModel" := S
  have hl : lv_has ls 2 [(0, .ref mo), (1, .int p0)] := hl
  refine lv_aload_n hx hb dX5_isTold_0 rfl (lv_at hl 0 rfl) ?_
  refine g_get S hK I k_X5 (v := .ref (ad 22)) (g_at.of mG_obj) 22 (by decide) q2974 rfl rfl dX5_isTold_1 ?_
  refine lv_iload_n hx hb dX5_isTold_4 rfl (lv_at hl 1 rfl) ?_
  refine m_iald S hK I (f := (a 22)) (k := p0.toNatClampNeg) (g_at.of mG_22) h0 rfl dX5_isTold_5 ?_
  refine lv_bipush (v := 62) hx hb dX5_isTold_6 (by decide) ?_
  have J_75_0 : ∀ (x1 : Int32) (H : Heap) (locs : List Loc) (ls : Array Slot), (hx1 : x1 = (b2i (tld (a 5) (a 22 p0.toNatClampNeg) (a 24 p0.toNatClampNeg)))) → g_I Γ (mG Γ mo ad f a rr ph) s H locs → lv_has ls 2 [(0, .ref mo), (1, .int p0)] → W p l e (g_rm 3 0 0) s m A below meth c H locs 0 0 Q (F0 m 75 ls [.int x1]) := by
    intro x1 H locs ls hx1 I hl
    subst hx1
    exact g_zret S hr hlk I (b2i_nar _) dX5_isTold_75 (Nat.le_of_ble_eq_true rfl) (Nat.le_of_ble_eq_true rfl) hQ ⟨_, rfl, rfl, rfl⟩
  refine lv_icmp_ne (tgt := 24) hx hb dX5_isTold_8 (by decide) (fun c_8 => ?_) (fun c_8 => ?_)
  · refine lv_aload_n hx hb dX5_isTold_24 rfl (lv_at hl 0 rfl) ?_
    refine g_get S hK I k_X5 (v := .ref (ad 22)) (g_at.of mG_obj) 22 (by decide) q2974 rfl rfl dX5_isTold_25 ?_
    refine lv_iload_n hx hb dX5_isTold_28 rfl (lv_at hl 1 rfl) ?_
    refine m_iald S hK I (f := (a 22)) (k := p0.toNatClampNeg) (g_at.of mG_22) h0 rfl dX5_isTold_29 ?_
    refine lv_bipush (v := 114) hx hb dX5_isTold_30 (by decide) ?_
    refine lv_icmp_eq (tgt := 70) hx hb dX5_isTold_32 (by decide) (fun c_32 => ?_) (fun c_32 => ?_)
    · refine lv_iconst (v := 1) hx hb dX5_isTold_70 (by decide) ?_
      refine lv_goto (tgt := 75) hx hb dX5_isTold_71 (by decide) ?_
      exact J_75_0 1 _ _ _ (by simp [tld, b2i, c_8, c_32]) I (lv_sub hl [0, 1] rfl)
    · refine lv_aload_n hx hb dX5_isTold_35 rfl (lv_at hl 0 rfl) ?_
      refine g_get S hK I k_X5 (v := .ref (ad 22)) (g_at.of mG_obj) 22 (by decide) q2974 rfl rfl dX5_isTold_36 ?_
      refine lv_iload_n hx hb dX5_isTold_39 rfl (lv_at hl 1 rfl) ?_
      refine m_iald S hK I (f := (a 22)) (k := p0.toNatClampNeg) (g_at.of mG_22) h0 rfl dX5_isTold_40 ?_
      refine lv_bipush (v := 99) hx hb dX5_isTold_41 (by decide) ?_
      refine lv_icmp_eq (tgt := 70) hx hb dX5_isTold_43 (by decide) (fun c_43 => ?_) (fun c_43 => ?_)
      · refine lv_iconst (v := 1) hx hb dX5_isTold_70 (by decide) ?_
        refine lv_goto (tgt := 75) hx hb dX5_isTold_71 (by decide) ?_
        exact J_75_0 1 _ _ _ (by simp [tld, b2i, c_8, c_32, c_43]) I (lv_sub hl [0, 1] rfl)
      · refine lv_aload_n hx hb dX5_isTold_46 rfl (lv_at hl 0 rfl) ?_
        refine g_get S hK I k_X5 (v := .ref (ad 22)) (g_at.of mG_obj) 22 (by decide) q2974 rfl rfl dX5_isTold_47 ?_
        refine lv_iload_n hx hb dX5_isTold_50 rfl (lv_at hl 1 rfl) ?_
        refine m_iald S hK I (f := (a 22)) (k := p0.toNatClampNeg) (g_at.of mG_22) h0 rfl dX5_isTold_51 ?_
        refine lv_bipush (v := 117) hx hb dX5_isTold_52 (by decide) ?_
        refine lv_icmp_eq (tgt := 70) hx hb dX5_isTold_54 (by decide) (fun c_54 => ?_) (fun c_54 => ?_)
        · refine lv_iconst (v := 1) hx hb dX5_isTold_70 (by decide) ?_
          refine lv_goto (tgt := 75) hx hb dX5_isTold_71 (by decide) ?_
          exact J_75_0 1 _ _ _ (by simp [tld, b2i, c_8, c_32, c_43, c_54]) I (lv_sub hl [0, 1] rfl)
        · refine lv_aload_n hx hb dX5_isTold_57 rfl (lv_at hl 0 rfl) ?_
          refine lv_aload_n hx hb dX5_isTold_58 rfl (lv_at hl 0 rfl) ?_
          refine g_get S hK I k_X5 (v := .ref (ad 24)) (g_at.of mG_obj) 24 (by decide) q2976 rfl rfl dX5_isTold_59 ?_
          refine lv_iload_n hx hb dX5_isTold_62 rfl (lv_at hl 1 rfl) ?_
          refine m_iald S hK I (f := (a 24)) (k := p0.toNatClampNeg) (g_at.of mG_24) h0 rfl dX5_isTold_63 ?_
          refine g_ci (g_runV S hK I (As := [.int ((a 24) p0.toNatClampNeg)]) (rest := []) (met_X5_isLamp l Γ mo ad f a rr ph ((a 24) p0.toNatClampNeg)) (cwV 1 hts (lw_V q3165 q3167 qs72 q151 q3168) rfl rfl rfl (by decide +kernel) ⟨Nat.le_of_ble_eq_true rfl, Nat.le_of_ble_eq_true rfl⟩) (g_recv hK I (g_at.of mG_obj) (ci := 4) rfl) rfl hl.1 rfl (Nat.le_of_ble_eq_true rfl) dX5_isTold_64 ⟨Nat.le_of_ble_eq_true rfl, Nat.le_of_ble_eq_true rfl⟩) I (fun r_64 ph1 H locs hp I => ?_)
          obtain ⟨hp, rfl⟩ := hp
          have hp : r_64 = b2i (isLa (a 5) ((a 24) p0.toNatClampNeg)) := hp
          subst hp
          refine lv_if_eq (tgt := 74) hx hb dX5_isTold_67 (by decide) (fun c_67 => ?_) (fun c_67 => ?_)
          · have p_67 := (b2i_eq0 _).mp c_67
            refine lv_iconst (v := 0) hx hb dX5_isTold_74 (by decide) ?_
            exact J_75_0 0 _ _ _ (by simp [tld, b2i, c_8, c_32, c_43, c_54, p_67]) I (lv_sub hl [0, 1] rfl)
          · have p_67 := (b2i_ne0 _).mp c_67
            refine lv_iconst (v := 1) hx hb dX5_isTold_70 (by decide) ?_
            refine lv_goto (tgt := 75) hx hb dX5_isTold_71 (by decide) ?_
            exact J_75_0 1 _ _ _ (by simp [tld, b2i, c_8, c_32, c_43, c_54, p_67]) I (lv_sub hl [0, 1] rfl)
  · refine lv_aload_n hx hb dX5_isTold_11 rfl (lv_at hl 0 rfl) ?_
    refine lv_aload_n hx hb dX5_isTold_12 rfl (lv_at hl 0 rfl) ?_
    refine g_get S hK I k_X5 (v := .ref (ad 24)) (g_at.of mG_obj) 24 (by decide) q2976 rfl rfl dX5_isTold_13 ?_
    refine lv_iload_n hx hb dX5_isTold_16 rfl (lv_at hl 1 rfl) ?_
    refine m_iald S hK I (f := (a 24)) (k := p0.toNatClampNeg) (g_at.of mG_24) h0 rfl dX5_isTold_17 ?_
    refine g_ci (g_runV S hK I (As := [.int ((a 24) p0.toNatClampNeg)]) (rest := []) (met_X5_isPlace l Γ mo ad f a rr ph ((a 24) p0.toNatClampNeg)) (cwV 1 hts (lw_V q3157 q3159 qs71 q151 q3160) rfl rfl rfl (by decide +kernel) ⟨Nat.le_of_ble_eq_true rfl, Nat.le_of_ble_eq_true rfl⟩) (g_recv hK I (g_at.of mG_obj) (ci := 4) rfl) rfl hl.1 rfl (Nat.le_of_ble_eq_true rfl) dX5_isTold_18 ⟨Nat.le_of_ble_eq_true rfl, Nat.le_of_ble_eq_true rfl⟩) I (fun r_18 ph1 H locs hp I => ?_)
    obtain ⟨hp, rfl⟩ := hp
    have hp : r_18 = b2i (isPl (a 5) ((a 24) p0.toNatClampNeg)) := hp
    subst hp
    refine lv_goto (tgt := 75) hx hb dX5_isTold_21 (by decide) ?_
    exact J_75_0 (b2i (isPl (a 5) ((a 24) p0.toNatClampNeg))) _ _ _ (by simp [tld, b2i, c_8]) I (lv_sub hl [0, 1] rfl)

set_option maxHeartbeats 4000000 in
set_option maxRecDepth 100000 in
theorem met_X5_mayNot (l : Launch) (Γ : g_C) (mo : Nat) (ad : Nat → Nat) (f : Nat → Int32) (a : Nat → Nat → Int32) (rr : Nat → UInt32) (ph : g_H) (p0 : Int32) (hw : WF (a 5)) (h0 : vp_in p0 31) (hS : okS (a 5) ((a 22) p0.toNatClampNeg) ((a 23) p0.toNatClampNeg) ((a 24) p0.toNatClampNeg)) : g_Met l yX5_mayNot (ws_ yX5_mayNot cX5_mayNot 4 (some .boolean)) (g_rm 6 0 0) Γ [.ref mo, .int p0] (mG Γ mo ad f a rr ph) (g_oi (fun v ph' => v = (b2i ((nDo (a 5) ((a 22) p0.toNatClampNeg) ((a 23) p0.toNatClampNeg) ((a 24) p0.toNatClampNeg)).isSome)) ∧ ph' = mG Γ mo ad (m_hin f (nDo (a 5) ((a 22) p0.toNatClampNeg) ((a 23) p0.toNatClampNeg) ((a 24) p0.toNatClampNeg))) a rr ph)) g_no := by
  refine g_start (y := yX5_mayNot) (cc := cX5_mayNot) (maxL := 4) (ret := (some .boolean)) (rm := g_rm 6 0 0) (by decide) (Nat.le_of_ble_eq_true rfl) ?_
  intro p e s m A below meth c ls Q hQ S hr hlk hex hnm hK I hl
  have hx := S.1
  have hb := S.2.1
  have hown := S.2.2.2.1
  have hts := S.2.2.2.2
  have S : CallFix p m c cX5_mayNot 4 s A lw_all "CrumblingWallModel" := S
  have hl : lv_has ls 4 [(0, .ref mo), (1, .int p0)] := hl
  refine lv_aload_n hx hb dX5_mayNot_0 rfl (lv_at hl 0 rfl) ?_
  refine g_get S hK I k_X5 (v := .ref (ad 23)) (g_at.of mG_obj) 23 (by decide) q2975 rfl rfl dX5_mayNot_1 ?_
  refine lv_iload_n hx hb dX5_mayNot_4 rfl (lv_at hl 1 rfl) ?_
  refine m_iald S hK I (f := (a 23)) (k := p0.toNatClampNeg) (g_at.of mG_23) h0 rfl dX5_mayNot_5 ?_
  refine lv_istore_n (lv' := [(2, .int ((a 23) p0.toNatClampNeg)), (0, .ref mo), (1, .int p0)]) hx hb dX5_mayNot_6 rfl hl (by decide) rfl (fun ls hl => ?_)
  refine lv_aload_n hx hb dX5_mayNot_7 rfl (lv_at hl 1 rfl) ?_
  refine g_get S hK I k_X5 (v := .ref (ad 24)) (g_at.of mG_obj) 24 (by decide) q2976 rfl rfl dX5_mayNot_8 ?_
  refine lv_iload_n hx hb dX5_mayNot_11 rfl (lv_at hl 2 rfl) ?_
  refine m_iald S hK I (f := (a 24)) (k := p0.toNatClampNeg) (g_at.of mG_24) h0 rfl dX5_mayNot_12 ?_
  refine lv_istore_n (lv' := [(3, .int ((a 24) p0.toNatClampNeg)), (2, .int ((a 23) p0.toNatClampNeg)), (0, .ref mo), (1, .int p0)]) hx hb dX5_mayNot_13 rfl hl (by decide) rfl (fun ls hl => ?_)
  refine lv_aload_n hx hb dX5_mayNot_14 rfl (lv_at hl 2 rfl) ?_
  refine g_get S hK I k_X5 (v := .ref (ad 22)) (g_at.of mG_obj) 22 (by decide) q2974 rfl rfl dX5_mayNot_15 ?_
  refine lv_iload_n hx hb dX5_mayNot_18 rfl (lv_at hl 3 rfl) ?_
  refine m_iald S hK I (f := (a 22)) (k := p0.toNatClampNeg) (g_at.of mG_22) h0 rfl dX5_mayNot_19 ?_
  by_cases s20_42 : ((a 22) p0.toNatClampNeg) = 42
  · refine lv_lookup (tgt := 108) hx hb dX5_mayNot_20 (by decide) (off := 88) (by rw [s20_42]; decide) (by decide) ?_
    refine lv_aload_n hx hb dX5_mayNot_108 rfl (lv_at hl 2 rfl) ?_
    refine lv_iload_n hx hb dX5_mayNot_109 rfl (lv_at hl 1 rfl) ?_
    refine lv_iload_n hx hb dX5_mayNot_110 rfl (lv_at hl 0 rfl) ?_
    refine g_ci (g_runV S hK I (As := [.int ((a 23) p0.toNatClampNeg), .int ((a 24) p0.toNatClampNeg)]) (rest := []) (met_X5_mayNotLight l Γ mo ad f a rr ph ((a 23) p0.toNatClampNeg) ((a 24) p0.toNatClampNeg) (hS.1 (Or.inl s20_42)).1 (hw.l4 (hS.1 (Or.inl s20_42)).2)) (cwV 2 hts (lw_V q3364 q3366 qs103 q151 q3367) rfl rfl rfl (by decide +kernel) ⟨Nat.le_of_ble_eq_true rfl, Nat.le_of_ble_eq_true rfl⟩) (g_recv hK I (g_at.of mG_obj) (ci := 4) rfl) rfl hl.1 rfl (Nat.le_of_ble_eq_true rfl) dX5_mayNot_111 ⟨Nat.le_of_ble_eq_true rfl, Nat.le_of_ble_eq_true rfl⟩) I (fun r_111 ph1 H locs hp I => ?_)
    obtain ⟨hp, rfl⟩ := hp
    have hp : r_111 = b2i ((nLight (a 5) ((a 23) p0.toNatClampNeg) ((a 24) p0.toNatClampNeg)).isSome) := hp
    subst hp
    have I : g_I Γ (mG Γ mo ad (m_hin f (nLight (a 5) ((a 23) p0.toNatClampNeg) ((a 24) p0.toNatClampNeg))) a rr ph) s H locs := I
    have eN : (nDo (a 5) (a 22 p0.toNatClampNeg) (a 23 p0.toNatClampNeg) (a 24 p0.toNatClampNeg)) = nLight (a 5) (a 23 p0.toNatClampNeg) (a 24 p0.toNatClampNeg) := by rw [s20_42]; rfl
    exact g_zret S hr hlk I (b2i_nar _) dX5_mayNot_114 (Nat.le_of_ble_eq_true rfl) (Nat.le_of_ble_eq_true rfl) hQ ⟨_, rfl, (by rw [eN]), (by rw [eN])⟩
  by_cases s20_43 : ((a 22) p0.toNatClampNeg) = 43
  · refine lv_lookup (tgt := 94) hx hb dX5_mayNot_20 (by decide) (off := 74) (by rw [s20_43]; decide) (by decide) ?_
    refine lv_aload_n hx hb dX5_mayNot_94 rfl (lv_at hl 2 rfl) ?_
    refine lv_iload_n hx hb dX5_mayNot_95 rfl (lv_at hl 1 rfl) ?_
    refine lv_iload_n hx hb dX5_mayNot_96 rfl (lv_at hl 0 rfl) ?_
    refine g_ci (g_runV S hK I (As := [.int ((a 23) p0.toNatClampNeg), .int ((a 24) p0.toNatClampNeg)]) (rest := []) (met_X5_mayNotTake l Γ mo ad f a rr ph ((a 23) p0.toNatClampNeg) ((a 24) p0.toNatClampNeg) hw (hS.1 (Or.inr (Or.inl s20_43))).1 (hw.l4 (hS.1 (Or.inr (Or.inl s20_43))).2)) (cwV 2 hts (lw_V q3340 q3342 qs99 q151 q3343) rfl rfl rfl (by decide +kernel) ⟨Nat.le_of_ble_eq_true rfl, Nat.le_of_ble_eq_true rfl⟩) (g_recv hK I (g_at.of mG_obj) (ci := 4) rfl) rfl hl.1 rfl (Nat.le_of_ble_eq_true rfl) dX5_mayNot_97 ⟨Nat.le_of_ble_eq_true rfl, Nat.le_of_ble_eq_true rfl⟩) I (fun r_97 ph1 H locs hp I => ?_)
    obtain ⟨hp, rfl⟩ := hp
    have hp : r_97 = b2i ((nTake (a 5) ((a 23) p0.toNatClampNeg) ((a 24) p0.toNatClampNeg)).isSome) := hp
    subst hp
    have I : g_I Γ (mG Γ mo ad (m_hin f (nTake (a 5) ((a 23) p0.toNatClampNeg) ((a 24) p0.toNatClampNeg))) a rr ph) s H locs := I
    have eN : (nDo (a 5) (a 22 p0.toNatClampNeg) (a 23 p0.toNatClampNeg) (a 24 p0.toNatClampNeg)) = nTake (a 5) (a 23 p0.toNatClampNeg) (a 24 p0.toNatClampNeg) := by rw [s20_43]; rfl
    exact g_zret S hr hlk I (b2i_nar _) dX5_mayNot_100 (Nat.le_of_ble_eq_true rfl) (Nat.le_of_ble_eq_true rfl) hQ ⟨_, rfl, (by rw [eN]), (by rw [eN])⟩
  by_cases s20_45 : ((a 22) p0.toNatClampNeg) = 45
  · refine lv_lookup (tgt := 101) hx hb dX5_mayNot_20 (by decide) (off := 81) (by rw [s20_45]; decide) (by decide) ?_
    refine lv_aload_n hx hb dX5_mayNot_101 rfl (lv_at hl 2 rfl) ?_
    refine lv_iload_n hx hb dX5_mayNot_102 rfl (lv_at hl 1 rfl) ?_
    refine lv_iload_n hx hb dX5_mayNot_103 rfl (lv_at hl 0 rfl) ?_
    refine g_ci (g_runV S hK I (As := [.int ((a 23) p0.toNatClampNeg), .int ((a 24) p0.toNatClampNeg)]) (rest := []) (met_X5_mayNotPut l Γ mo ad f a rr ph ((a 23) p0.toNatClampNeg) ((a 24) p0.toNatClampNeg) (hS.1 (Or.inr (Or.inr s20_45))).1 (hw.l4 (hS.1 (Or.inr (Or.inr s20_45))).2)) (cwV 2 hts (lw_V q3352 q3354 qs101 q151 q3355) rfl rfl rfl (by decide +kernel) ⟨Nat.le_of_ble_eq_true rfl, Nat.le_of_ble_eq_true rfl⟩) (g_recv hK I (g_at.of mG_obj) (ci := 4) rfl) rfl hl.1 rfl (Nat.le_of_ble_eq_true rfl) dX5_mayNot_104 ⟨Nat.le_of_ble_eq_true rfl, Nat.le_of_ble_eq_true rfl⟩) I (fun r_104 ph1 H locs hp I => ?_)
    obtain ⟨hp, rfl⟩ := hp
    have hp : r_104 = b2i ((nPut (a 5) ((a 23) p0.toNatClampNeg) ((a 24) p0.toNatClampNeg)).isSome) := hp
    subst hp
    have I : g_I Γ (mG Γ mo ad (m_hin f (nPut (a 5) ((a 23) p0.toNatClampNeg) ((a 24) p0.toNatClampNeg))) a rr ph) s H locs := I
    have eN : (nDo (a 5) (a 22 p0.toNatClampNeg) (a 23 p0.toNatClampNeg) (a 24 p0.toNatClampNeg)) = nPut (a 5) (a 23 p0.toNatClampNeg) (a 24 p0.toNatClampNeg) := by rw [s20_45]; rfl
    exact g_zret S hr hlk I (b2i_nar _) dX5_mayNot_107 (Nat.le_of_ble_eq_true rfl) (Nat.le_of_ble_eq_true rfl) hQ ⟨_, rfl, (by rw [eN]), (by rw [eN])⟩
  by_cases s20_62 : ((a 22) p0.toNatClampNeg) = 62
  · refine lv_lookup (tgt := 80) hx hb dX5_mayNot_20 (by decide) (off := 60) (by rw [s20_62]; decide) (by decide) ?_
    refine lv_aload_n hx hb dX5_mayNot_80 rfl (lv_at hl 2 rfl) ?_
    refine lv_iload_n hx hb dX5_mayNot_81 rfl (lv_at hl 1 rfl) ?_
    refine lv_iload_n hx hb dX5_mayNot_82 rfl (lv_at hl 0 rfl) ?_
    refine g_ci (g_runV S hK I (As := [.int ((a 23) p0.toNatClampNeg), .int ((a 24) p0.toNatClampNeg)]) (rest := []) (met_X5_mayNotMove l Γ mo ad f a rr ph ((a 23) p0.toNatClampNeg) ((a 24) p0.toNatClampNeg) hw (hS.2.1 s20_62).1 (hS.2.1 s20_62).2) (cwV 2 hts (lw_V q3232 q3234 qs80 q151 q3235) rfl rfl rfl (by decide +kernel) ⟨Nat.le_of_ble_eq_true rfl, Nat.le_of_ble_eq_true rfl⟩) (g_recv hK I (g_at.of mG_obj) (ci := 4) rfl) rfl hl.1 rfl (Nat.le_of_ble_eq_true rfl) dX5_mayNot_83 ⟨Nat.le_of_ble_eq_true rfl, Nat.le_of_ble_eq_true rfl⟩) I (fun r_83 ph1 H locs hp I => ?_)
    obtain ⟨hp, rfl⟩ := hp
    have hp : r_83 = b2i ((nMove (a 5) ((a 23) p0.toNatClampNeg) ((a 24) p0.toNatClampNeg)).isSome) := hp
    subst hp
    have I : g_I Γ (mG Γ mo ad (m_hin f (nMove (a 5) ((a 23) p0.toNatClampNeg) ((a 24) p0.toNatClampNeg))) a rr ph) s H locs := I
    have eN : (nDo (a 5) (a 22 p0.toNatClampNeg) (a 23 p0.toNatClampNeg) (a 24 p0.toNatClampNeg)) = nMove (a 5) (a 23 p0.toNatClampNeg) (a 24 p0.toNatClampNeg) := by rw [s20_62]; rfl
    exact g_zret S hr hlk I (b2i_nar _) dX5_mayNot_86 (Nat.le_of_ble_eq_true rfl) (Nat.le_of_ble_eq_true rfl) hQ ⟨_, rfl, (by rw [eN]), (by rw [eN])⟩
  by_cases s20_99 : ((a 22) p0.toNatClampNeg) = 99
  · refine lv_lookup (tgt := 115) hx hb dX5_mayNot_20 (by decide) (off := 95) (by rw [s20_99]; decide) (by decide) ?_
    refine lv_aload_n hx hb dX5_mayNot_115 rfl (lv_at hl 2 rfl) ?_
    refine g_ci (g_runV S hK I (As := []) (rest := []) (met_X5_mayNotClip l Γ mo ad f a rr ph hw) (cwV 0 hts (lw_V q3173 q3175 qs73 q151 q3176) rfl rfl rfl (by decide +kernel) ⟨Nat.le_of_ble_eq_true rfl, Nat.le_of_ble_eq_true rfl⟩) (g_recv hK I (g_at.of mG_obj) (ci := 4) rfl) rfl hl.1 rfl (Nat.le_of_ble_eq_true rfl) dX5_mayNot_116 ⟨Nat.le_of_ble_eq_true rfl, Nat.le_of_ble_eq_true rfl⟩) I (fun r_116 ph1 H locs hp I => ?_)
    obtain ⟨hp, rfl⟩ := hp
    have hp : r_116 = b2i ((nClip (a 5)).isSome) := hp
    subst hp
    have I : g_I Γ (mG Γ mo ad (m_hin f (nClip (a 5))) a rr ph) s H locs := I
    have eN : (nDo (a 5) (a 22 p0.toNatClampNeg) (a 23 p0.toNatClampNeg) (a 24 p0.toNatClampNeg)) = nClip (a 5) := by rw [s20_99]; rfl
    exact g_zret S hr hlk I (b2i_nar _) dX5_mayNot_119 (Nat.le_of_ble_eq_true rfl) (Nat.le_of_ble_eq_true rfl) hQ ⟨_, rfl, (by rw [eN]), (by rw [eN])⟩
  by_cases s20_114 : ((a 22) p0.toNatClampNeg) = 114
  · refine lv_lookup (tgt := 87) hx hb dX5_mayNot_20 (by decide) (off := 67) (by rw [s20_114]; decide) (by decide) ?_
    refine lv_aload_n hx hb dX5_mayNot_87 rfl (lv_at hl 2 rfl) ?_
    refine lv_iload_n hx hb dX5_mayNot_88 rfl (lv_at hl 1 rfl) ?_
    refine lv_iconst (v := 1) hx hb dX5_mayNot_89 (by decide) ?_
    refine g_ci (g_runV S hK I (As := [.int ((a 23) p0.toNatClampNeg), .int 1]) (rest := []) (met_X5_mayNotAct l Γ mo ad f a rr ph ((a 23) p0.toNatClampNeg) 1 (hS.2.2 s20_114)) (cwV 2 hts (lw_V q3177 q3179 qs74 q151 q3180) rfl rfl rfl (by decide +kernel) ⟨Nat.le_of_ble_eq_true rfl, Nat.le_of_ble_eq_true rfl⟩) (g_recv hK I (g_at.of mG_obj) (ci := 4) rfl) rfl hl.1 rfl (Nat.le_of_ble_eq_true rfl) dX5_mayNot_90 ⟨Nat.le_of_ble_eq_true rfl, Nat.le_of_ble_eq_true rfl⟩) I (fun r_90 ph1 H locs hp I => ?_)
    obtain ⟨hp, rfl⟩ := hp
    have hp : r_90 = b2i ((nAct (a 5) ((a 23) p0.toNatClampNeg) true).isSome) := hp
    subst hp
    have I : g_I Γ (mG Γ mo ad (m_hin f (nAct (a 5) ((a 23) p0.toNatClampNeg) true)) a rr ph) s H locs := I
    have eN : (nDo (a 5) (a 22 p0.toNatClampNeg) (a 23 p0.toNatClampNeg) (a 24 p0.toNatClampNeg)) = nAct (a 5) (a 23 p0.toNatClampNeg) true := by rw [s20_114]; rfl
    exact g_zret S hr hlk I (b2i_nar _) dX5_mayNot_93 (Nat.le_of_ble_eq_true rfl) (Nat.le_of_ble_eq_true rfl) hQ ⟨_, rfl, (by rw [eN]), (by rw [eN])⟩
  refine lv_lookup (tgt := 120) hx hb dX5_mayNot_20 (by decide) (off := 100) (by show Op.lookupswitch.offset [(42, 88), (43, 74), (45, 81), (62, 60), (99, 95), (114, 67)] _ _ = _; rw [lv_osw (a := 42) s20_42 rfl, lv_osw (a := 43) s20_43 rfl, lv_osw (a := 45) s20_45 rfl, lv_osw (a := 62) s20_62 rfl, lv_osw (a := 99) s20_99 rfl, lv_osw (a := 114) s20_114 rfl]; rfl) (by decide) ?_
  refine lv_aload_n hx hb dX5_mayNot_120 rfl (lv_at hl 2 rfl) ?_
  refine g_ci (g_runV S hK I (As := []) (rest := []) (met_X5_mayNotUnclip l Γ mo ad f a rr ph ) (cwV 0 hts (lw_V q3189 q3191 qs76 q151 q3192) rfl rfl rfl (by decide +kernel) ⟨Nat.le_of_ble_eq_true rfl, Nat.le_of_ble_eq_true rfl⟩) (g_recv hK I (g_at.of mG_obj) (ci := 4) rfl) rfl hl.1 rfl (Nat.le_of_ble_eq_true rfl) dX5_mayNot_121 ⟨Nat.le_of_ble_eq_true rfl, Nat.le_of_ble_eq_true rfl⟩) I (fun r_121 ph1 H locs hp I => ?_)
  obtain ⟨hp, rfl⟩ := hp
  have hp : r_121 = b2i ((nUncl (a 5)).isSome) := hp
  subst hp
  have I : g_I Γ (mG Γ mo ad (m_hin f (nUncl (a 5))) a rr ph) s H locs := I
  have eN : (nDo (a 5) (a 22 p0.toNatClampNeg) (a 23 p0.toNatClampNeg) (a 24 p0.toNatClampNeg)) = nUncl (a 5) := nDo_d ⟨s20_42, s20_43, s20_45, s20_62, s20_99, s20_114⟩
  exact g_zret S hr hlk I (b2i_nar _) dX5_mayNot_124 (Nat.le_of_ble_eq_true rfl) (Nat.le_of_ble_eq_true rfl) hQ ⟨_, rfl, (by rw [eN]), (by rw [eN])⟩

set_option maxHeartbeats 4000000 in
set_option maxRecDepth 100000 in
theorem met_X5_carriesOut (l : Launch) (Γ : g_C) (mo : Nat) (ad : Nat → Nat) (f : Nat → Int32) (a : Nat → Nat → Int32) (rr : Nat → UInt32) (ph : g_H) (p0 : Int32) (hw : WF (a 5)) (h0 : vp_in p0 31) (hS : okS (a 5) ((a 22) p0.toNatClampNeg) ((a 23) p0.toNatClampNeg) ((a 24) p0.toNatClampNeg)) (hN : nDo (a 5) ((a 22) p0.toNatClampNeg) ((a 23) p0.toNatClampNeg) ((a 24) p0.toNatClampNeg) = none) (hC : f 13 = nI (nCr f)) (hC9 : nCr f ≤ 9) : g_Met l yX5_carriesOut (ws_ yX5_carriesOut cX5_carriesOut 4 none) (g_rm 9 0 0) Γ [.ref mo, .int p0] (mG Γ mo ad f a rr ph) (g_ov (fun ph' => ph' = mG Γ mo ad (upd f 13 (nI (doF ((a 5), (a 12), nCr f) ((a 22) p0.toNatClampNeg) ((a 23) p0.toNatClampNeg) ((a 24) p0.toNatClampNeg)).2.2)) (va_up (va_up a 12 ((doF ((a 5), (a 12), nCr f) ((a 22) p0.toNatClampNeg) ((a 23) p0.toNatClampNeg) ((a 24) p0.toNatClampNeg)).2.1)) 5 ((doF ((a 5), (a 12), nCr f) ((a 22) p0.toNatClampNeg) ((a 23) p0.toNatClampNeg) ((a 24) p0.toNatClampNeg)).1)) rr ph)) g_no := by
  refine g_start (y := yX5_carriesOut) (cc := cX5_carriesOut) (maxL := 4) (ret := none) (rm := g_rm 9 0 0) (by decide) (Nat.le_of_ble_eq_true rfl) ?_
  intro p e s m A below meth c ls Q hQ S hr hlk hex hnm hK I hl
  have hx := S.1
  have hb := S.2.1
  have hown := S.2.2.2.1
  have hts := S.2.2.2.2
  have S : CallFix p m c cX5_carriesOut 4 s A lw_all "CrumblingWallModel" := S
  have hl : lv_has ls 4 [(0, .ref mo), (1, .int p0)] := hl
  refine lv_aload_n hx hb dX5_carriesOut_0 rfl (lv_at hl 0 rfl) ?_
  refine g_get S hK I k_X5 (v := .ref (ad 23)) (g_at.of mG_obj) 23 (by decide) q2975 rfl rfl dX5_carriesOut_1 ?_
  refine lv_iload_n hx hb dX5_carriesOut_4 rfl (lv_at hl 1 rfl) ?_
  refine m_iald S hK I (f := (a 23)) (k := p0.toNatClampNeg) (g_at.of mG_23) h0 rfl dX5_carriesOut_5 ?_
  refine lv_istore_n (lv' := [(2, .int ((a 23) p0.toNatClampNeg)), (0, .ref mo), (1, .int p0)]) hx hb dX5_carriesOut_6 rfl hl (by decide) rfl (fun ls hl => ?_)
  refine lv_aload_n hx hb dX5_carriesOut_7 rfl (lv_at hl 1 rfl) ?_
  refine g_get S hK I k_X5 (v := .ref (ad 24)) (g_at.of mG_obj) 24 (by decide) q2976 rfl rfl dX5_carriesOut_8 ?_
  refine lv_iload_n hx hb dX5_carriesOut_11 rfl (lv_at hl 2 rfl) ?_
  refine m_iald S hK I (f := (a 24)) (k := p0.toNatClampNeg) (g_at.of mG_24) h0 rfl dX5_carriesOut_12 ?_
  refine lv_istore_n (lv' := [(3, .int ((a 24) p0.toNatClampNeg)), (2, .int ((a 23) p0.toNatClampNeg)), (0, .ref mo), (1, .int p0)]) hx hb dX5_carriesOut_13 rfl hl (by decide) rfl (fun ls hl => ?_)
  refine lv_aload_n hx hb dX5_carriesOut_14 rfl (lv_at hl 2 rfl) ?_
  refine g_get S hK I k_X5 (v := .ref (ad 22)) (g_at.of mG_obj) 22 (by decide) q2974 rfl rfl dX5_carriesOut_15 ?_
  refine lv_iload_n hx hb dX5_carriesOut_18 rfl (lv_at hl 3 rfl) ?_
  refine m_iald S hK I (f := (a 22)) (k := p0.toNatClampNeg) (g_at.of mG_22) h0 rfl dX5_carriesOut_19 ?_
  by_cases s20_42 : ((a 22) p0.toNatClampNeg) = 42
  · refine lv_lookup (tgt := 120) hx hb dX5_carriesOut_20 (by decide) (off := 100) (by rw [s20_42]; decide) (by decide) ?_
    have hl4 : vp_in (a 24 p0.toNatClampNeg) 4 := hw.l4 (hS.1 (Or.inl s20_42)).2
    refine lv_aload_n hx hb dX5_carriesOut_120 rfl (lv_at hl 2 rfl) ?_
    refine g_get S hK I k_X5 (v := .ref (ad 5)) (g_at.of mG_obj) 5 (by decide) q2957 rfl rfl dX5_carriesOut_121 ?_
    refine lv_iload_n hx hb dX5_carriesOut_124 rfl (lv_at hl 0 rfl) ?_
    refine lv_iconst (v := 4) hx hb dX5_carriesOut_125 (by decide) ?_
    refine g_ci (g_runS S hK I (As := [.int ((a 24) p0.toNatClampNeg), .int 4]) (rest := [.ref (ad 5)]) (met_X5_atLamp l Γ (mG Γ mo ad f a rr ph) ((a 24) p0.toNatClampNeg) 4) (va_cwS 2 hts (lw_S q3134 q3135 q151 q3136) rfl rfl rfl (by decide +kernel) ⟨Nat.le_of_ble_eq_true rfl, Nat.le_of_ble_eq_true rfl⟩) rfl hl.1 rfl (Nat.le_of_ble_eq_true rfl) dX5_carriesOut_126 ⟨Nat.le_of_ble_eq_true rfl, Nat.le_of_ble_eq_true rfl⟩) I (fun r_126 ph1 H locs hp I => ?_)
    obtain ⟨hp, rfl⟩ := hp
    have hp : r_126 = 105 + 5 * ((a 24) p0.toNatClampNeg) + 4 := hp
    subst hp
    refine lv_iconst (v := 1) hx hb dX5_carriesOut_129 (by decide) ?_
    refine lv_aload_n hx hb dX5_carriesOut_130 rfl (lv_at hl 2 rfl) ?_
    refine lv_iload_n hx hb dX5_carriesOut_131 rfl (lv_at hl 0 rfl) ?_
    refine lv_iconst (v := 4) hx hb dX5_carriesOut_132 (by decide) ?_
    refine g_ci (g_runV S hK I (As := [.int ((a 24) p0.toNatClampNeg), .int 4]) (rest := [.int 1, .int (105 + 5 * ((a 24) p0.toNatClampNeg) + 4), .ref (ad 5)]) (met_X5_ofLamp l Γ mo ad f a rr ph ((a 24) p0.toNatClampNeg) 4 hl4 (vp_lit (by decide))) (cwV 2 hts (lw_V q3130 q3132 qs66 q151 q3133) rfl rfl rfl (by decide +kernel) ⟨Nat.le_of_ble_eq_true rfl, Nat.le_of_ble_eq_true rfl⟩) (g_recv hK I (g_at.of mG_obj) (ci := 4) rfl) rfl hl.1 rfl (Nat.le_of_ble_eq_true rfl) dX5_carriesOut_133 ⟨Nat.le_of_ble_eq_true rfl, Nat.le_of_ble_eq_true rfl⟩) I (fun r_133 ph1 H locs hp I => ?_)
    obtain ⟨hp, rfl⟩ := hp
    have hp : r_133 = lX (a 5) ((a 24) p0.toNatClampNeg) 4 := hp
    subst hp
    refine lv_isub hx hb dX5_carriesOut_136 ?_
    refine m_iast S hK I (f := (a 5)) (k := (105 + 5 * (a 24 p0.toNatClampNeg).toNatClampNeg + 4)) mG_5 (ix_l (t := 4) hl4 (vp_lit (by decide))).1 (ix_l (t := 4) hl4 (vp_lit (by decide))).2 dX5_carriesOut_137 (fun H locs I => ?_)
    have I := mI_5 I
    refine lv_goto (tgt := 152) hx hb dX5_carriesOut_138 (by decide) ?_
    have eD : (doF (a 5, a 12, nCr f) (a 22 p0.toNatClampNeg) (a 23 p0.toNatClampNeg) (a 24 p0.toNatClampNeg)) = (litW (a 5) (a 24 p0.toNatClampNeg), (a 12, nCr f)) := by rw [s20_42]; rfl
    exact g_vret S hr hlk I dX5_carriesOut_152 (Nat.le_of_ble_eq_true rfl) (Nat.le_of_ble_eq_true rfl) hQ ⟨rfl, (mG_c (by rw [eD]; exact (upd_id hC).symm) (by rw [eD, va_upI a 12 rfl]; first | done | rfl))⟩
  by_cases s20_43 : ((a 22) p0.toNatClampNeg) = 43
  · refine lv_lookup (tgt := 97) hx hb dX5_carriesOut_20 (by decide) (off := 77) (by rw [s20_43]; decide) (by decide) ?_
    have hl4 : vp_in (a 24 p0.toNatClampNeg) 4 := hw.l4 (hS.1 (Or.inr (Or.inl s20_43))).2
    refine lv_aload_n hx hb dX5_carriesOut_97 rfl (lv_at hl 2 rfl) ?_
    refine g_get S hK I k_X5 (v := .ref (ad 5)) (g_at.of mG_obj) 5 (by decide) q2957 rfl rfl dX5_carriesOut_98 ?_
    refine lv_iload_n hx hb dX5_carriesOut_101 rfl (lv_at hl 0 rfl) ?_
    refine lv_iconst (v := 1) hx hb dX5_carriesOut_102 (by decide) ?_
    refine g_ci (g_runS S hK I (As := [.int ((a 24) p0.toNatClampNeg), .int 1]) (rest := [.ref (ad 5)]) (met_X5_atLamp l Γ (mG Γ mo ad f a rr ph) ((a 24) p0.toNatClampNeg) 1) (va_cwS 2 hts (lw_S q3134 q3135 q151 q3136) rfl rfl rfl (by decide +kernel) ⟨Nat.le_of_ble_eq_true rfl, Nat.le_of_ble_eq_true rfl⟩) rfl hl.1 rfl (Nat.le_of_ble_eq_true rfl) dX5_carriesOut_103 ⟨Nat.le_of_ble_eq_true rfl, Nat.le_of_ble_eq_true rfl⟩) I (fun r_103 ph1 H locs hp I => ?_)
    obtain ⟨hp, rfl⟩ := hp
    have hp : r_103 = 105 + 5 * ((a 24) p0.toNatClampNeg) + 1 := hp
    subst hp
    refine lv_iload_n hx hb dX5_carriesOut_106 rfl (lv_at hl 1 rfl) ?_
    refine m_iast S hK I (f := (a 5)) (k := (105 + 5 * (a 24 p0.toNatClampNeg).toNatClampNeg + 1)) mG_5 (ix_l (t := 1) hl4 (vp_lit (by decide))).1 (ix_l (t := 1) hl4 (vp_lit (by decide))).2 dX5_carriesOut_107 (fun H locs I => ?_)
    have I := mI_5 I
    refine lv_goto (tgt := 152) hx hb dX5_carriesOut_108 (by decide) ?_
    have eD : (doF (a 5, a 12, nCr f) (a 22 p0.toNatClampNeg) (a 23 p0.toNatClampNeg) (a 24 p0.toNatClampNeg)) = (takeW (a 5) (a 23 p0.toNatClampNeg) (a 24 p0.toNatClampNeg), (a 12, nCr f)) := by rw [s20_43]; rfl
    exact g_vret S hr hlk I dX5_carriesOut_152 (Nat.le_of_ble_eq_true rfl) (Nat.le_of_ble_eq_true rfl) hQ ⟨rfl, (mG_c (by rw [eD]; exact (upd_id hC).symm) (by rw [eD, va_upI a 12 rfl]; first | done | rfl))⟩
  by_cases s20_45 : ((a 22) p0.toNatClampNeg) = 45
  · refine lv_lookup (tgt := 111) hx hb dX5_carriesOut_20 (by decide) (off := 91) (by rw [s20_45]; decide) (by decide) ?_
    refine lv_aload_n hx hb dX5_carriesOut_111 rfl (lv_at hl 2 rfl) ?_
    refine lv_iload_n hx hb dX5_carriesOut_112 rfl (lv_at hl 1 rfl) ?_
    refine lv_iload_n hx hb dX5_carriesOut_113 rfl (lv_at hl 0 rfl) ?_
    refine g_cv (g_runV S hK I (As := [.int ((a 23) p0.toNatClampNeg), .int ((a 24) p0.toNatClampNeg)]) (rest := []) (met_X5_puts l Γ mo ad f a rr ph ((a 23) p0.toNatClampNeg) ((a 24) p0.toNatClampNeg) (hS.1 (Or.inr (Or.inr s20_45))).1 (hw.l4 (hS.1 (Or.inr (Or.inr s20_45))).2)) (cwV 2 hts (lw_V q3356 q3358 qs102 q151 q3359) rfl rfl rfl (by decide +kernel) ⟨Nat.le_of_ble_eq_true rfl, Nat.le_of_ble_eq_true rfl⟩) (g_recv hK I (g_at.of mG_obj) (ci := 4) rfl) rfl hl.1 rfl (Nat.le_of_ble_eq_true rfl) dX5_carriesOut_114 ⟨Nat.le_of_ble_eq_true rfl, Nat.le_of_ble_eq_true rfl⟩) I (fun ph1 H locs hp I => ?_)
    subst hp
    have I : g_I Γ (mG Γ mo ad f (va_up a 5 (putW (a 5) ((a 23) p0.toNatClampNeg) ((a 24) p0.toNatClampNeg))) rr ph) s H locs := I
    refine lv_goto (tgt := 152) hx hb dX5_carriesOut_117 (by decide) ?_
    have eD : (doF (a 5, a 12, nCr f) (a 22 p0.toNatClampNeg) (a 23 p0.toNatClampNeg) (a 24 p0.toNatClampNeg)) = (putW (a 5) (a 23 p0.toNatClampNeg) (a 24 p0.toNatClampNeg), (a 12, nCr f)) := by rw [s20_45]; rfl
    exact g_vret S hr hlk I dX5_carriesOut_152 (Nat.le_of_ble_eq_true rfl) (Nat.le_of_ble_eq_true rfl) hQ ⟨rfl, (mG_c (by rw [eD]; exact (upd_id hC).symm) (by rw [eD, va_upI a 12 rfl]; first | done | rfl))⟩
  by_cases s20_62 : ((a 22) p0.toNatClampNeg) = 62
  · refine lv_lookup (tgt := 80) hx hb dX5_carriesOut_20 (by decide) (off := 60) (by rw [s20_62]; decide) (by decide) ?_
    refine lv_aload_n hx hb dX5_carriesOut_80 rfl (lv_at hl 2 rfl) ?_
    refine lv_iload_n hx hb dX5_carriesOut_81 rfl (lv_at hl 1 rfl) ?_
    refine lv_iload_n hx hb dX5_carriesOut_82 rfl (lv_at hl 0 rfl) ?_
    refine g_cv (g_runV S hK I (As := [.int ((a 23) p0.toNatClampNeg), .int ((a 24) p0.toNatClampNeg)]) (rest := []) (met_X5_movesTo l Γ mo ad f a rr ph ((a 23) p0.toNatClampNeg) ((a 24) p0.toNatClampNeg) hw (hS.2.1 s20_62).1 (hS.2.1 s20_62).2 (by have q := hN; rw [s20_62] at q; exact q) hC hC9) (cwV 2 hts (lw_V q3243 q3245 qs82 q151 q3246) rfl rfl rfl (by decide +kernel) ⟨Nat.le_of_ble_eq_true rfl, Nat.le_of_ble_eq_true rfl⟩) (g_recv hK I (g_at.of mG_obj) (ci := 4) rfl) rfl hl.1 rfl (Nat.le_of_ble_eq_true rfl) dX5_carriesOut_83 ⟨Nat.le_of_ble_eq_true rfl, Nat.le_of_ble_eq_true rfl⟩) I (fun ph1 H locs hp I => ?_)
    subst hp
    have I : g_I Γ (mG Γ mo ad (upd f 13 (nI (mvFl (a 5) (a 12) (nCr f) ((a 23) p0.toNatClampNeg) ((a 24) p0.toNatClampNeg)).2.2)) (va_up (va_up a 12 ((mvFl (a 5) (a 12) (nCr f) ((a 23) p0.toNatClampNeg) ((a 24) p0.toNatClampNeg)).2.1)) 5 (minW (mvFl (a 5) (a 12) (nCr f) ((a 23) p0.toNatClampNeg) ((a 24) p0.toNatClampNeg)).1)) rr ph) s H locs := I
    refine lv_goto (tgt := 152) hx hb dX5_carriesOut_86 (by decide) ?_
    have eD : (doF (a 5, a 12, nCr f) (a 22 p0.toNatClampNeg) (a 23 p0.toNatClampNeg) (a 24 p0.toNatClampNeg)) = (minW (mvFl (a 5) (a 12) (nCr f) (a 23 p0.toNatClampNeg) (a 24 p0.toNatClampNeg)).1, (mvFl (a 5) (a 12) (nCr f) (a 23 p0.toNatClampNeg) (a 24 p0.toNatClampNeg)).2) := by rw [s20_62]; rfl
    exact g_vret S hr hlk I dX5_carriesOut_152 (Nat.le_of_ble_eq_true rfl) (Nat.le_of_ble_eq_true rfl) hQ ⟨rfl, (mG_c (by rw [eD]) (by rw [eD]))⟩
  by_cases s20_99 : ((a 22) p0.toNatClampNeg) = 99
  · refine lv_lookup (tgt := 141) hx hb dX5_carriesOut_20 (by decide) (off := 121) (by rw [s20_99]; decide) (by decide) ?_
    have hcl : nAn (a 5) < 8 ∧ ¬ plc (a 5) 0 = -1 := cl_ok hw (by have q := hN; rw [s20_99] at q; exact q)
    refine lv_aload_n hx hb dX5_carriesOut_141 rfl (lv_at hl 2 rfl) ?_
    refine g_cv (g_runV S hK I (As := []) (rest := []) (met_X5_clips l Γ mo ad f a rr ph hw) (cwV 0 hts (lw_V q3181 q3183 qs75 q151 q3184) rfl rfl rfl (by decide +kernel) ⟨Nat.le_of_ble_eq_true rfl, Nat.le_of_ble_eq_true rfl⟩) (g_recv hK I (g_at.of mG_obj) (ci := 4) rfl) rfl hl.1 rfl (Nat.le_of_ble_eq_true rfl) dX5_carriesOut_142 ⟨Nat.le_of_ble_eq_true rfl, Nat.le_of_ble_eq_true rfl⟩) I (fun ph1 H locs hp I => ?_)
    subst hp
    have I : g_I Γ (mG Γ mo ad f (va_up a 5 (clipW (a 5))) rr ph) s H locs := I
    refine lv_goto (tgt := 152) hx hb dX5_carriesOut_145 (by decide) ?_
    have eD : (doF (a 5, a 12, nCr f) (a 22 p0.toNatClampNeg) (a 23 p0.toNatClampNeg) (a 24 p0.toNatClampNeg)) = (clipW (a 5), (a 12, nCr f)) := by rw [s20_99]; rfl
    exact g_vret S hr hlk I dX5_carriesOut_152 (Nat.le_of_ble_eq_true rfl) (Nat.le_of_ble_eq_true rfl) hQ ⟨rfl, (mG_c (by rw [eD]; exact (upd_id hC).symm) (by rw [eD, va_upI a 12 rfl]; first | done | rfl))⟩
  by_cases s20_114 : ((a 22) p0.toNatClampNeg) = 114
  · refine lv_lookup (tgt := 89) hx hb dX5_carriesOut_20 (by decide) (off := 69) (by rw [s20_114]; decide) (by decide) ?_
    refine lv_aload_n hx hb dX5_carriesOut_89 rfl (lv_at hl 2 rfl) ?_
    refine lv_iload_n hx hb dX5_carriesOut_90 rfl (lv_at hl 1 rfl) ?_
    refine g_cv (g_runV S hK I (As := [.int ((a 23) p0.toNatClampNeg)]) (rest := []) (met_X5_rests l Γ mo ad f a rr ph ((a 23) p0.toNatClampNeg) hw (hS.2.2 s20_114)) (cwV 1 hts (lw_V q3297 q3299 qs94 q151 q3300) rfl rfl rfl (by decide +kernel) ⟨Nat.le_of_ble_eq_true rfl, Nat.le_of_ble_eq_true rfl⟩) (g_recv hK I (g_at.of mG_obj) (ci := 4) rfl) rfl hl.1 rfl (Nat.le_of_ble_eq_true rfl) dX5_carriesOut_91 ⟨Nat.le_of_ble_eq_true rfl, Nat.le_of_ble_eq_true rfl⟩) I (fun ph1 H locs hp I => ?_)
    subst hp
    have I : g_I Γ (mG Γ mo ad f (va_up a 5 (restW (a 5) ((a 23) p0.toNatClampNeg))) rr ph) s H locs := I
    refine lv_goto (tgt := 152) hx hb dX5_carriesOut_94 (by decide) ?_
    have eD : (doF (a 5, a 12, nCr f) (a 22 p0.toNatClampNeg) (a 23 p0.toNatClampNeg) (a 24 p0.toNatClampNeg)) = (restW (a 5) (a 23 p0.toNatClampNeg), (a 12, nCr f)) := by rw [s20_114]; rfl
    exact g_vret S hr hlk I dX5_carriesOut_152 (Nat.le_of_ble_eq_true rfl) (Nat.le_of_ble_eq_true rfl) hQ ⟨rfl, (mG_c (by rw [eD]; exact (upd_id hC).symm) (by rw [eD, va_upI a 12 rfl]; first | done | rfl))⟩
  refine lv_lookup (tgt := 148) hx hb dX5_carriesOut_20 (by decide) (off := 128) (by show Op.lookupswitch.offset [(42, 100), (43, 77), (45, 91), (62, 60), (99, 121), (114, 69)] _ _ = _; rw [lv_osw (a := 42) s20_42 rfl, lv_osw (a := 43) s20_43 rfl, lv_osw (a := 45) s20_45 rfl, lv_osw (a := 62) s20_62 rfl, lv_osw (a := 99) s20_99 rfl, lv_osw (a := 114) s20_114 rfl]; rfl) (by decide) ?_
  refine lv_aload_n hx hb dX5_carriesOut_148 rfl (lv_at hl 2 rfl) ?_
  refine g_cv (g_runV S hK I (As := []) (rest := []) (met_X5_unclips l Γ mo ad f a rr ph hw (un_pos hw ((nDo_d ⟨s20_42, s20_43, s20_45, s20_62, s20_99, s20_114⟩).symm.trans hN))) (cwV 0 hts (lw_V q3193 q3195 qs77 q151 q3196) rfl rfl rfl (by decide +kernel) ⟨Nat.le_of_ble_eq_true rfl, Nat.le_of_ble_eq_true rfl⟩) (g_recv hK I (g_at.of mG_obj) (ci := 4) rfl) rfl hl.1 rfl (Nat.le_of_ble_eq_true rfl) dX5_carriesOut_149 ⟨Nat.le_of_ble_eq_true rfl, Nat.le_of_ble_eq_true rfl⟩) I (fun ph1 H locs hp I => ?_)
  subst hp
  have I : g_I Γ (mG Γ mo ad f (va_up a 5 (unclW (a 5))) rr ph) s H locs := I
  have eD : (doF (a 5, a 12, nCr f) (a 22 p0.toNatClampNeg) (a 23 p0.toNatClampNeg) (a 24 p0.toNatClampNeg)) = (unclW (a 5), (a 12, nCr f)) := doF_d ⟨s20_42, s20_43, s20_45, s20_62, s20_99, s20_114⟩
  exact g_vret S hr hlk I dX5_carriesOut_152 (Nat.le_of_ble_eq_true rfl) (Nat.le_of_ble_eq_true rfl) hQ ⟨rfl, (mG_c (by rw [eD]; exact (upd_id hC).symm) (by rw [eD, va_upI a 12 rfl]; first | done | rfl))⟩

set_option maxHeartbeats 4000000 in
set_option maxRecDepth 100000 in
theorem met_X5_harms (l : Launch) (Γ : g_C) (mo : Nat) (ad : Nat → Nat) (f : Nat → Int32) (a : Nat → Nat → Int32) (rr : Nat → UInt32) (ph : g_H) (p0 : Int32) (hw : WF (a 5)) (h0 : vp_in p0 31) (hS : okS (a 5) ((a 22) p0.toNatClampNeg) ((a 23) p0.toNatClampNeg) ((a 24) p0.toNatClampNeg)) (hN : nDo (a 5) ((a 22) p0.toNatClampNeg) ((a 23) p0.toNatClampNeg) ((a 24) p0.toNatClampNeg) = none) (hC : f 13 = nI (nCr f)) (hC9 : nCr f ≤ 9) : g_Met l yX5_harms (ws_ yX5_harms cX5_harms 4 (some .boolean)) (g_rm 10 0 0) Γ [.ref mo, .int p0] (mG Γ mo ad f a rr ph) (g_oi (fun v ph' => v = (b2i ((hrm (a 5) (doF ((a 5), (a 12), nCr f) ((a 22) p0.toNatClampNeg) ((a 23) p0.toNatClampNeg) ((a 24) p0.toNatClampNeg)).1).isSome)) ∧ ph' = mG Γ mo ad (m_hin (upd f 13 (nI (doF ((a 5), (a 12), nCr f) ((a 22) p0.toNatClampNeg) ((a 23) p0.toNatClampNeg) ((a 24) p0.toNatClampNeg)).2.2)) (hrm (a 5) (doF ((a 5), (a 12), nCr f) ((a 22) p0.toNatClampNeg) ((a 23) p0.toNatClampNeg) ((a 24) p0.toNatClampNeg)).1)) (va_up (va_up a 12 ((doF ((a 5), (a 12), nCr f) ((a 22) p0.toNatClampNeg) ((a 23) p0.toNatClampNeg) ((a 24) p0.toNatClampNeg)).2.1)) 5 ((doF ((a 5), (a 12), nCr f) ((a 22) p0.toNatClampNeg) ((a 23) p0.toNatClampNeg) ((a 24) p0.toNatClampNeg)).1)) rr ph)) g_no := by
  refine g_start (y := yX5_harms) (cc := cX5_harms) (maxL := 4) (ret := (some .boolean)) (rm := g_rm 10 0 0) (by decide) (Nat.le_of_ble_eq_true rfl) ?_
  intro p e s m A below meth c ls Q hQ S hr hlk hex hnm hK I hl
  have hx := S.1
  have hb := S.2.1
  have hown := S.2.2.2.1
  have hts := S.2.2.2.2
  have S : CallFix p m c cX5_harms 4 s A lw_all "CrumblingWallModel" := S
  have hl : lv_has ls 4 [(0, .ref mo), (1, .int p0)] := hl
  refine lv_aload_n hx hb dX5_harms_0 rfl (lv_at hl 0 rfl) ?_
  refine lv_iconst (v := 0) hx hb dX5_harms_1 (by decide) ?_
  refine lv_iconst (v := 1) hx hb dX5_harms_2 (by decide) ?_
  refine g_ci (g_runV S hK I (As := [.int 0, .int 1]) (rest := []) (met_X5_ofClimber l Γ mo ad f a rr ph 0 1 (vp_lit (by decide)) (vp_lit (by decide))) (cwV 2 hts (lw_V q3099 q3101 qs60 q151 q3102) rfl rfl rfl (by decide +kernel) ⟨Nat.le_of_ble_eq_true rfl, Nat.le_of_ble_eq_true rfl⟩) (g_recv hK I (g_at.of mG_obj) (ci := 4) rfl) rfl hl.1 rfl (Nat.le_of_ble_eq_true rfl) dX5_harms_3 ⟨Nat.le_of_ble_eq_true rfl, Nat.le_of_ble_eq_true rfl⟩) I (fun r_3 ph1 H locs hp I => ?_)
  obtain ⟨hp, rfl⟩ := hp
  have hp : r_3 = cX (a 5) 0 1 := hp
  subst hp
  refine lv_istore_n (lv' := [(2, .int (cX (a 5) 0 1)), (0, .ref mo), (1, .int p0)]) hx hb dX5_harms_6 rfl hl (by decide) rfl (fun ls hl => ?_)
  refine lv_aload_n hx hb dX5_harms_7 rfl (lv_at hl 1 rfl) ?_
  refine lv_iconst (v := 1) hx hb dX5_harms_8 (by decide) ?_
  refine lv_iconst (v := 1) hx hb dX5_harms_9 (by decide) ?_
  refine g_ci (g_runV S hK I (As := [.int 1, .int 1]) (rest := []) (met_X5_ofClimber l Γ mo ad f a rr ph 1 1 (vp_lit (by decide)) (vp_lit (by decide))) (cwV 2 hts (lw_V q3099 q3101 qs60 q151 q3102) rfl rfl rfl (by decide +kernel) ⟨Nat.le_of_ble_eq_true rfl, Nat.le_of_ble_eq_true rfl⟩) (g_recv hK I (g_at.of mG_obj) (ci := 4) rfl) rfl hl.1 rfl (Nat.le_of_ble_eq_true rfl) dX5_harms_10 ⟨Nat.le_of_ble_eq_true rfl, Nat.le_of_ble_eq_true rfl⟩) I (fun r_10 ph1 H locs hp I => ?_)
  obtain ⟨hp, rfl⟩ := hp
  have hp : r_10 = cX (a 5) 1 1 := hp
  subst hp
  refine lv_istore_n (lv' := [(3, .int (cX (a 5) 1 1)), (2, .int (cX (a 5) 0 1)), (0, .ref mo), (1, .int p0)]) hx hb dX5_harms_13 rfl hl (by decide) rfl (fun ls hl => ?_)
  refine lv_aload_n hx hb dX5_harms_14 rfl (lv_at hl 2 rfl) ?_
  refine lv_iload_n hx hb dX5_harms_15 rfl (lv_at hl 3 rfl) ?_
  refine g_cv (g_runV S hK I (As := [.int p0]) (rest := []) (met_X5_carriesOut l Γ mo ad f a rr ph p0 hw h0 hS hN hC hC9) (cwV 1 hts (lw_V q3455 q3457 qs115 q151 q3458) rfl rfl rfl (by decide +kernel) ⟨Nat.le_of_ble_eq_true rfl, Nat.le_of_ble_eq_true rfl⟩) (g_recv hK I (g_at.of mG_obj) (ci := 4) rfl) rfl hl.1 rfl (Nat.le_of_ble_eq_true rfl) dX5_harms_16 ⟨Nat.le_of_ble_eq_true rfl, Nat.le_of_ble_eq_true rfl⟩) I (fun ph1 H locs hp I => ?_)
  subst hp
  have I : g_I Γ (mG Γ mo ad (upd f 13 (nI (doF ((a 5), (a 12), nCr f) ((a 22) p0.toNatClampNeg) ((a 23) p0.toNatClampNeg) ((a 24) p0.toNatClampNeg)).2.2)) (va_up (va_up a 12 ((doF ((a 5), (a 12), nCr f) ((a 22) p0.toNatClampNeg) ((a 23) p0.toNatClampNeg) ((a 24) p0.toNatClampNeg)).2.1)) 5 ((doF ((a 5), (a 12), nCr f) ((a 22) p0.toNatClampNeg) ((a 23) p0.toNatClampNeg) ((a 24) p0.toNatClampNeg)).1)) rr ph) s H locs := I
  refine lv_aload_n hx hb dX5_harms_19 rfl (lv_at hl 2 rfl) ?_
  refine lv_iconst (v := 0) hx hb dX5_harms_20 (by decide) ?_
  refine lv_iconst (v := 1) hx hb dX5_harms_21 (by decide) ?_
  refine g_ci (g_runV S hK I (As := [.int 0, .int 1]) (rest := []) (met_X5_ofClimber l Γ mo ad (upd f 13 (nI (doF ((a 5), (a 12), nCr f) ((a 22) p0.toNatClampNeg) ((a 23) p0.toNatClampNeg) ((a 24) p0.toNatClampNeg)).2.2)) (va_up (va_up a 12 ((doF ((a 5), (a 12), nCr f) ((a 22) p0.toNatClampNeg) ((a 23) p0.toNatClampNeg) ((a 24) p0.toNatClampNeg)).2.1)) 5 ((doF ((a 5), (a 12), nCr f) ((a 22) p0.toNatClampNeg) ((a 23) p0.toNatClampNeg) ((a 24) p0.toNatClampNeg)).1)) rr ph 0 1 (vp_lit (by decide)) (vp_lit (by decide))) (cwV 2 hts (lw_V q3099 q3101 qs60 q151 q3102) rfl rfl rfl (by decide +kernel) ⟨Nat.le_of_ble_eq_true rfl, Nat.le_of_ble_eq_true rfl⟩) (g_recv hK I (g_at.of mG_obj) (ci := 4) rfl) rfl hl.1 rfl (Nat.le_of_ble_eq_true rfl) dX5_harms_22 ⟨Nat.le_of_ble_eq_true rfl, Nat.le_of_ble_eq_true rfl⟩) I (fun r_22 ph1 H locs hp I => ?_)
  obtain ⟨hp, rfl⟩ := hp
  have hp : r_22 = cX ((doF ((a 5), (a 12), nCr f) ((a 22) p0.toNatClampNeg) ((a 23) p0.toNatClampNeg) ((a 24) p0.toNatClampNeg)).1) 0 1 := hp
  subst hp
  have J_46_0 : ∀ (H : Heap) (locs : List Loc) (ls : Array Slot), (h19 : ¬ (¬ cX (doF (a 5, a 12, nCr f) (a 22 p0.toNatClampNeg) (a 23 p0.toNatClampNeg) (a 24 p0.toNatClampNeg)).1 0 1 = 0 ∧ ¬ cX (doF (a 5, a 12, nCr f) (a 22 p0.toNatClampNeg) (a 23 p0.toNatClampNeg) (a 24 p0.toNatClampNeg)).1 0 1 = cX (a 5) 0 1)) → g_I Γ (mG Γ mo ad (upd f 13 (nI (doF ((a 5), (a 12), nCr f) ((a 22) p0.toNatClampNeg) ((a 23) p0.toNatClampNeg) ((a 24) p0.toNatClampNeg)).2.2)) (va_up (va_up a 12 ((doF ((a 5), (a 12), nCr f) ((a 22) p0.toNatClampNeg) ((a 23) p0.toNatClampNeg) ((a 24) p0.toNatClampNeg)).2.1)) 5 ((doF ((a 5), (a 12), nCr f) ((a 22) p0.toNatClampNeg) ((a 23) p0.toNatClampNeg) ((a 24) p0.toNatClampNeg)).1)) rr ph) s H locs → lv_has ls 4 [(3, .int (cX (a 5) 1 1)), (2, .int (cX (a 5) 0 1)), (0, .ref mo), (1, .int p0)] → W p l e (g_rm 10 0 0) s m A below meth c H locs 0 0 Q (F0 m 46 ls []) := by
    intro  H locs ls h19 I hl
    refine lv_aload_n hx hb dX5_harms_46 rfl (lv_at hl 2 rfl) ?_
    refine lv_iconst (v := 1) hx hb dX5_harms_47 (by decide) ?_
    refine lv_iconst (v := 1) hx hb dX5_harms_48 (by decide) ?_
    refine g_ci (g_runV S hK I (As := [.int 1, .int 1]) (rest := []) (met_X5_ofClimber l Γ mo ad (upd f 13 (nI (doF ((a 5), (a 12), nCr f) ((a 22) p0.toNatClampNeg) ((a 23) p0.toNatClampNeg) ((a 24) p0.toNatClampNeg)).2.2)) (va_up (va_up a 12 ((doF ((a 5), (a 12), nCr f) ((a 22) p0.toNatClampNeg) ((a 23) p0.toNatClampNeg) ((a 24) p0.toNatClampNeg)).2.1)) 5 ((doF ((a 5), (a 12), nCr f) ((a 22) p0.toNatClampNeg) ((a 23) p0.toNatClampNeg) ((a 24) p0.toNatClampNeg)).1)) rr ph 1 1 (vp_lit (by decide)) (vp_lit (by decide))) (cwV 2 hts (lw_V q3099 q3101 qs60 q151 q3102) rfl rfl rfl (by decide +kernel) ⟨Nat.le_of_ble_eq_true rfl, Nat.le_of_ble_eq_true rfl⟩) (g_recv hK I (g_at.of mG_obj) (ci := 4) rfl) rfl hl.1 rfl (Nat.le_of_ble_eq_true rfl) dX5_harms_49 ⟨Nat.le_of_ble_eq_true rfl, Nat.le_of_ble_eq_true rfl⟩) I (fun r_49 ph1 H locs hp I => ?_)
    obtain ⟨hp, rfl⟩ := hp
    have hp : r_49 = cX ((doF ((a 5), (a 12), nCr f) ((a 22) p0.toNatClampNeg) ((a 23) p0.toNatClampNeg) ((a 24) p0.toNatClampNeg)).1) 1 1 := hp
    subst hp
    refine lv_if_eq (tgt := 79) hx hb dX5_harms_52 (by decide) (fun c_52 => ?_) (fun c_52 => ?_)
    · refine lv_iconst (v := 0) hx hb dX5_harms_79 (by decide) ?_
      have eH : (hrm (a 5) (doF (a 5, a 12, nCr f) (a 22 p0.toNatClampNeg) (a 23 p0.toNatClampNeg) (a 24 p0.toNatClampNeg)).1) = none := (if_neg h19).trans (if_neg (fun q => q.1 c_52))
      exact g_zret S hr hlk I rfl dX5_harms_80 (Nat.le_of_ble_eq_true rfl) (Nat.le_of_ble_eq_true rfl) hQ ⟨_, rfl, (by rw [eH]; rfl), (by rw [eH]; rfl)⟩
    · refine lv_aload_n hx hb dX5_harms_55 rfl (lv_at hl 2 rfl) ?_
      refine lv_iconst (v := 1) hx hb dX5_harms_56 (by decide) ?_
      refine lv_iconst (v := 1) hx hb dX5_harms_57 (by decide) ?_
      refine g_ci (g_runV S hK I (As := [.int 1, .int 1]) (rest := []) (met_X5_ofClimber l Γ mo ad (upd f 13 (nI (doF ((a 5), (a 12), nCr f) ((a 22) p0.toNatClampNeg) ((a 23) p0.toNatClampNeg) ((a 24) p0.toNatClampNeg)).2.2)) (va_up (va_up a 12 ((doF ((a 5), (a 12), nCr f) ((a 22) p0.toNatClampNeg) ((a 23) p0.toNatClampNeg) ((a 24) p0.toNatClampNeg)).2.1)) 5 ((doF ((a 5), (a 12), nCr f) ((a 22) p0.toNatClampNeg) ((a 23) p0.toNatClampNeg) ((a 24) p0.toNatClampNeg)).1)) rr ph 1 1 (vp_lit (by decide)) (vp_lit (by decide))) (cwV 2 hts (lw_V q3099 q3101 qs60 q151 q3102) rfl rfl rfl (by decide +kernel) ⟨Nat.le_of_ble_eq_true rfl, Nat.le_of_ble_eq_true rfl⟩) (g_recv hK I (g_at.of mG_obj) (ci := 4) rfl) rfl hl.1 rfl (Nat.le_of_ble_eq_true rfl) dX5_harms_58 ⟨Nat.le_of_ble_eq_true rfl, Nat.le_of_ble_eq_true rfl⟩) I (fun r_58 ph1 H locs hp I => ?_)
      obtain ⟨hp, rfl⟩ := hp
      have hp : r_58 = cX ((doF ((a 5), (a 12), nCr f) ((a 22) p0.toNatClampNeg) ((a 23) p0.toNatClampNeg) ((a 24) p0.toNatClampNeg)).1) 1 1 := hp
      subst hp
      refine lv_iload_n hx hb dX5_harms_61 rfl (lv_at hl 0 rfl) ?_
      refine lv_icmp_eq (tgt := 79) hx hb dX5_harms_62 (by decide) (fun c_62 => ?_) (fun c_62 => ?_)
      · refine lv_iconst (v := 0) hx hb dX5_harms_79 (by decide) ?_
        have eH : (hrm (a 5) (doF (a 5, a 12, nCr f) (a 22 p0.toNatClampNeg) (a 23 p0.toNatClampNeg) (a 24 p0.toNatClampNeg)).1) = none := (if_neg h19).trans (if_neg (fun q => q.2 c_62))
        exact g_zret S hr hlk I rfl dX5_harms_80 (Nat.le_of_ble_eq_true rfl) (Nat.le_of_ble_eq_true rfl) hQ ⟨_, rfl, (by rw [eH]; rfl), (by rw [eH]; rfl)⟩
      · refine lv_aload_n hx hb dX5_harms_65 rfl (lv_at hl 2 rfl) ?_
        refine lv_bipush (v := 19) hx hb dX5_harms_66 (by decide) ?_
        refine lv_iconst (v := 1) hx hb dX5_harms_68 (by decide) ?_
        refine g_ci (g_runV S hK I (As := [.int 19, .int 1]) (rest := []) (met_X5_hinders l Γ mo ad (upd f 13 (nI (doF ((a 5), (a 12), nCr f) ((a 22) p0.toNatClampNeg) ((a 23) p0.toNatClampNeg) ((a 24) p0.toNatClampNeg)).2.2)) (va_up (va_up a 12 ((doF ((a 5), (a 12), nCr f) ((a 22) p0.toNatClampNeg) ((a 23) p0.toNatClampNeg) ((a 24) p0.toNatClampNeg)).2.1)) 5 ((doF ((a 5), (a 12), nCr f) ((a 22) p0.toNatClampNeg) ((a 23) p0.toNatClampNeg) ((a 24) p0.toNatClampNeg)).1)) rr ph 19 1) (cwV 2 hts (lw_V q3071 q3073 qs54 q151 q3074) rfl rfl rfl (by decide +kernel) ⟨Nat.le_of_ble_eq_true rfl, Nat.le_of_ble_eq_true rfl⟩) (g_recv hK I (g_at.of mG_obj) (ci := 4) rfl) rfl hl.1 rfl (Nat.le_of_ble_eq_true rfl) dX5_harms_69 ⟨Nat.le_of_ble_eq_true rfl, Nat.le_of_ble_eq_true rfl⟩) I (fun r_69 ph1 H locs hp I => ?_)
        obtain ⟨hp, rfl⟩ := hp
        have hp : r_69 = b2i true := hp
        subst hp
        have I : g_I Γ (mG Γ mo ad (upd (upd (upd f 13 (nI (doF ((a 5), (a 12), nCr f) ((a 22) p0.toNatClampNeg) ((a 23) p0.toNatClampNeg) ((a 24) p0.toNatClampNeg)).2.2)) 3 19) 4 1) (va_up (va_up a 12 ((doF ((a 5), (a 12), nCr f) ((a 22) p0.toNatClampNeg) ((a 23) p0.toNatClampNeg) ((a 24) p0.toNatClampNeg)).2.1)) 5 ((doF ((a 5), (a 12), nCr f) ((a 22) p0.toNatClampNeg) ((a 23) p0.toNatClampNeg) ((a 24) p0.toNatClampNeg)).1)) rr ph) s H locs := I
        refine lv_if_eq (tgt := 79) hx hb dX5_harms_72 (by decide) (fun q => absurd q (by decide)) (fun _ => ?_)
        refine lv_iconst (v := 1) hx hb dX5_harms_75 (by decide) ?_
        refine lv_goto (tgt := 80) hx hb dX5_harms_76 (by decide) ?_
        have eH : (hrm (a 5) (doF (a 5, a 12, nCr f) (a 22 p0.toNatClampNeg) (a 23 p0.toNatClampNeg) (a 24 p0.toNatClampNeg)).1) = some (19, 1) := (if_neg h19).trans (if_pos ⟨c_52, c_62⟩)
        exact g_zret S hr hlk I rfl dX5_harms_80 (Nat.le_of_ble_eq_true rfl) (Nat.le_of_ble_eq_true rfl) hQ ⟨_, rfl, (by rw [eH]; rfl), (by rw [eH]; rfl)⟩
  refine lv_if_eq (tgt := 46) hx hb dX5_harms_25 (by decide) (fun c_25 => ?_) (fun c_25 => ?_)
  · exact J_46_0  _ _ _ (fun q => q.1 c_25) I (lv_sub hl [0, 1, 2, 3] rfl)
  · refine lv_aload_n hx hb dX5_harms_28 rfl (lv_at hl 2 rfl) ?_
    refine lv_iconst (v := 0) hx hb dX5_harms_29 (by decide) ?_
    refine lv_iconst (v := 1) hx hb dX5_harms_30 (by decide) ?_
    refine g_ci (g_runV S hK I (As := [.int 0, .int 1]) (rest := []) (met_X5_ofClimber l Γ mo ad (upd f 13 (nI (doF ((a 5), (a 12), nCr f) ((a 22) p0.toNatClampNeg) ((a 23) p0.toNatClampNeg) ((a 24) p0.toNatClampNeg)).2.2)) (va_up (va_up a 12 ((doF ((a 5), (a 12), nCr f) ((a 22) p0.toNatClampNeg) ((a 23) p0.toNatClampNeg) ((a 24) p0.toNatClampNeg)).2.1)) 5 ((doF ((a 5), (a 12), nCr f) ((a 22) p0.toNatClampNeg) ((a 23) p0.toNatClampNeg) ((a 24) p0.toNatClampNeg)).1)) rr ph 0 1 (vp_lit (by decide)) (vp_lit (by decide))) (cwV 2 hts (lw_V q3099 q3101 qs60 q151 q3102) rfl rfl rfl (by decide +kernel) ⟨Nat.le_of_ble_eq_true rfl, Nat.le_of_ble_eq_true rfl⟩) (g_recv hK I (g_at.of mG_obj) (ci := 4) rfl) rfl hl.1 rfl (Nat.le_of_ble_eq_true rfl) dX5_harms_31 ⟨Nat.le_of_ble_eq_true rfl, Nat.le_of_ble_eq_true rfl⟩) I (fun r_31 ph1 H locs hp I => ?_)
    obtain ⟨hp, rfl⟩ := hp
    have hp : r_31 = cX ((doF ((a 5), (a 12), nCr f) ((a 22) p0.toNatClampNeg) ((a 23) p0.toNatClampNeg) ((a 24) p0.toNatClampNeg)).1) 0 1 := hp
    subst hp
    refine lv_iload_n hx hb dX5_harms_34 rfl (lv_at hl 1 rfl) ?_
    refine lv_icmp_eq (tgt := 46) hx hb dX5_harms_35 (by decide) (fun c_35 => ?_) (fun c_35 => ?_)
    · exact J_46_0  _ _ _ (fun q => q.2 c_35) I (lv_sub hl [0, 1, 2, 3] rfl)
    · refine lv_aload_n hx hb dX5_harms_38 rfl (lv_at hl 2 rfl) ?_
      refine lv_bipush (v := 19) hx hb dX5_harms_39 (by decide) ?_
      refine lv_iconst (v := 0) hx hb dX5_harms_41 (by decide) ?_
      refine g_ci (g_runV S hK I (As := [.int 19, .int 0]) (rest := []) (met_X5_hinders l Γ mo ad (upd f 13 (nI (doF ((a 5), (a 12), nCr f) ((a 22) p0.toNatClampNeg) ((a 23) p0.toNatClampNeg) ((a 24) p0.toNatClampNeg)).2.2)) (va_up (va_up a 12 ((doF ((a 5), (a 12), nCr f) ((a 22) p0.toNatClampNeg) ((a 23) p0.toNatClampNeg) ((a 24) p0.toNatClampNeg)).2.1)) 5 ((doF ((a 5), (a 12), nCr f) ((a 22) p0.toNatClampNeg) ((a 23) p0.toNatClampNeg) ((a 24) p0.toNatClampNeg)).1)) rr ph 19 0) (cwV 2 hts (lw_V q3071 q3073 qs54 q151 q3074) rfl rfl rfl (by decide +kernel) ⟨Nat.le_of_ble_eq_true rfl, Nat.le_of_ble_eq_true rfl⟩) (g_recv hK I (g_at.of mG_obj) (ci := 4) rfl) rfl hl.1 rfl (Nat.le_of_ble_eq_true rfl) dX5_harms_42 ⟨Nat.le_of_ble_eq_true rfl, Nat.le_of_ble_eq_true rfl⟩) I (fun r_42 ph1 H locs hp I => ?_)
      obtain ⟨hp, rfl⟩ := hp
      have hp : r_42 = b2i true := hp
      subst hp
      have I : g_I Γ (mG Γ mo ad (upd (upd (upd f 13 (nI (doF ((a 5), (a 12), nCr f) ((a 22) p0.toNatClampNeg) ((a 23) p0.toNatClampNeg) ((a 24) p0.toNatClampNeg)).2.2)) 3 19) 4 0) (va_up (va_up a 12 ((doF ((a 5), (a 12), nCr f) ((a 22) p0.toNatClampNeg) ((a 23) p0.toNatClampNeg) ((a 24) p0.toNatClampNeg)).2.1)) 5 ((doF ((a 5), (a 12), nCr f) ((a 22) p0.toNatClampNeg) ((a 23) p0.toNatClampNeg) ((a 24) p0.toNatClampNeg)).1)) rr ph) s H locs := I
      have eH : (hrm (a 5) (doF (a 5, a 12, nCr f) (a 22 p0.toNatClampNeg) (a 23 p0.toNatClampNeg) (a 24 p0.toNatClampNeg)).1) = some (19, 0) := if_pos ⟨c_25, c_35⟩
      exact g_zret S hr hlk I (b2i_nar _) dX5_harms_45 (Nat.le_of_ble_eq_true rfl) (Nat.le_of_ble_eq_true rfl) hQ ⟨_, rfl, (by rw [eH]; rfl), (by rw [eH]; rfl)⟩


/-! THE REFERENCE: forces, falls, moves -/
set_option maxRecDepth 100000
set_option maxHeartbeats 4000000 in
set_option maxRecDepth 100000 in
theorem met_J37_isNaN (l : Launch) (Γ : g_C) (ph : g_H) (p0 : UInt32) (hf : FP.fcmp p0 p0 = some .eq) : g_Met l yJ37_isNaN (ws_ yJ37_isNaN cJ37_isNaN 1 (some .boolean)) (g_rm 1 0 0) Γ [.float p0] (ph) (g_oi (fun v ph' => v = (b2i false) ∧ ph' = ph)) g_no := by
  refine g_startF (y := yJ37_isNaN) (cc := cJ37_isNaN) (maxL := 1) (ret := (some .boolean)) (rm := g_rm 1 0 0) (by decide +kernel) (Nat.le_of_ble_eq_true rfl) ?_
  intro p e s m A below meth c ls Q hQ S hr hlk hex hnm hK I hl
  have hx := S.1
  have hb := S.2.1
  have hown := S.2.2.2.1
  have hts := S.2.2.2.2
  have S : CallFix p m c cJ37_isNaN 1 s A lw_all "java/lang/Float" := S
  have hl : lv_has ls 1 [(0, .float p0)] := hl
  refine lv_fload_n hx hb dJ37_isNaN_0 rfl (lv_at hl 0 rfl) ?_
  refine lv_fload_n hx hb dJ37_isNaN_1 rfl (lv_at hl 0 rfl) ?_
  refine lv_fcmp hx hb dJ37_isNaN_2 ?_
  refine lv_if_eq (tgt := 10) hx hb dJ37_isNaN_3 (by decide) (fun _ => ?_) (fun c_3 => absurd (by rw [hf]; rfl) c_3)
  refine lv_iconst (v := 0) hx hb dJ37_isNaN_10 (by decide) ?_
  exact g_zret S hr hlk I rfl dJ37_isNaN_11 (Nat.le_of_ble_eq_true rfl) (Nat.le_of_ble_eq_true rfl) hQ ⟨_, rfl, rfl, rfl⟩

set_option maxHeartbeats 4000000 in
set_option maxRecDepth 100000 in
theorem met_J37_floatToIntBits (l : Launch) (Γ : g_C) (ph : g_H) (p0 : UInt32) (hf : FP.fcmp p0 p0 = some .eq) : g_Met l yJ37_floatToIntBits (ws_ yJ37_floatToIntBits cJ37_floatToIntBits 1 (some .int)) (g_rm 2 0 0) Γ [.float p0] (ph) (g_oi (fun v ph' => v = p0.toInt32 ∧ ph' = ph)) g_no := by
  refine g_startF (y := yJ37_floatToIntBits) (cc := cJ37_floatToIntBits) (maxL := 1) (ret := (some .int)) (rm := g_rm 2 0 0) (by decide +kernel) (Nat.le_of_ble_eq_true rfl) ?_
  intro p e s m A below meth c ls Q hQ S hr hlk hex hnm hK I hl
  have hx := S.1
  have hb := S.2.1
  have hown := S.2.2.2.1
  have hts := S.2.2.2.2
  have S : CallFix p m c cJ37_floatToIntBits 1 s A lw_all "java/lang/Float" := S
  have hl : lv_has ls 1 [(0, .float p0)] := hl
  refine lv_fload_n hx hb dJ37_floatToIntBits_0 rfl (lv_at hl 0 rfl) ?_
  refine g_ci (g_runS S hK I (As := [.float p0]) (rest := []) (met_J37_isNaN l Γ (ph) p0 (by assumption)) (va_cwS 1 hts (lw_S q2487 q2488 q174 q2489) rfl rfl rfl (by decide +kernel) ⟨Nat.le_of_ble_eq_true rfl, Nat.le_of_ble_eq_true rfl⟩) rfl hl.1 rfl (Nat.le_of_ble_eq_true rfl) dJ37_floatToIntBits_1 ⟨Nat.le_of_ble_eq_true rfl, Nat.le_of_ble_eq_true rfl⟩) I (fun r_1 ph1 H locs hp I => ?_)
  obtain ⟨hp, hph⟩ := hp
  rw [hph] at I
  have hp : r_1 = b2i false := hp
  subst hp
  refine lv_if_ne (tgt := 12) hx hb dJ37_floatToIntBits_4 (by decide) (fun q => absurd q (by decide)) (fun _ => ?_)
  refine lv_fload_n hx hb dJ37_floatToIntBits_7 rfl (lv_at hl 0 rfl) ?_
  refine vn_f2i hx hb (S.2.2.1.trans hl.1.symm) hown (hts _ q2490) (hts _ q2492) (hts _ q2491) (hts _ q174) (Nat.le_of_ble_eq_true rfl) (by decide) dJ37_floatToIntBits_8 ?_
  exact g_iret S hr hlk I dJ37_floatToIntBits_11 (Nat.le_of_ble_eq_true rfl) (Nat.le_of_ble_eq_true rfl) hQ ⟨_, rfl, rfl, rfl⟩

theorem sh_ix {k : Nat} (h : k + 1 ≤ 15) : vp_in (146 + nI (k + 1) - 1) 170 ∧ (146 + nI (k + 1) - 1).toNatClampNeg = 146 + k ∧ vp_in (146 + nI (k + 1)) 170 ∧ (146 + nI (k + 1)).toNatClampNeg = 146 + k + 1 := by
  rw [show (146 : Int32) = nI 146 from rfl, nI_add, show 146 + (k + 1) = (146 + k) + 1 by omega, nI_pred]
  exact ⟨vp_in_nI (by omega) (by decide), nI_clamp (by omega), vp_in_nI (by omega) (by decide), nI_clamp (by omega)⟩
set_option maxHeartbeats 4000000 in
set_option maxRecDepth 100000 in
theorem met_X5_keeps (l : Launch) (Γ : g_C) (mo : Nat) (ad : Nat → Nat) (f : Nat → Int32) (a : Nat → Nat → Int32) (rr : Nat → UInt32) (ph : g_H) (p0 : UInt32) (hw : WF (a 5)) (hf : fb 7 p0) : g_Met l yX5_keeps (ws_ yX5_keeps cX5_keeps 3 none) (g_rm 3 0 0) Γ [.ref mo, .float p0] (mG Γ mo ad f a rr ph) (g_ov (fun ph' => ph' = mG Γ mo ad f (va_up a 5 (keepW (a 5) p0)) rr ph)) g_no := by
  refine g_start (y := yX5_keeps) (cc := cX5_keeps) (maxL := 3) (ret := none) (rm := g_rm 3 0 0) (by decide) (Nat.le_of_ble_eq_true rfl) ?_
  intro p e s m A below meth c ls Q hQ S hr hlk hex hnm hK I hl
  have hx := S.1
  have hb := S.2.1
  have hown := S.2.2.2.1
  have hts := S.2.2.2.2
  have S : CallFix p m c cX5_keeps 3 s A lw_all "CrumblingWallModel" := S
  have hl : lv_has ls 3 [(0, .ref mo), (1, .float p0)] := hl
  refine lv_aload_n hx hb dX5_keeps_0 rfl (lv_at hl 0 rfl) ?_
  refine g_get S hK I k_X5 (v := .ref (ad 5)) (g_at.of mG_obj) 5 (by decide) q2957 rfl rfl dX5_keeps_1 ?_
  refine lv_sipush (v := 145) hx hb dX5_keeps_4 (by decide) ?_
  refine m_iald S hK I (f := (a 5)) (k := 145) (g_at.of mG_5) (vp_lit (by decide)) (by decide) dX5_keeps_7 ?_
  refine lv_bipush (v := 16) hx hb dX5_keeps_8 (by decide) ?_
  have J_61_0 : ∀ (H : Heap) (locs : List Loc) (ls : Array Slot), g_I Γ (mG Γ mo ad f (va_up a 5 (keep1 (a 5))) rr ph) s H locs → lv_has ls 3 [(0, .ref mo), (1, .float p0)] → W p l e (g_rm 3 0 0) s m A below meth c H locs 0 0 Q (F0 m 61 ls []) := by
    intro  H locs ls  I hl
    refine lv_aload_n hx hb dX5_keeps_61 rfl (lv_at hl 0 rfl) ?_
    refine g_get S hK I k_X5 (v := .ref (ad 5)) (g_at.of mG_obj) 5 (by decide) q2957 rfl rfl dX5_keeps_62 ?_
    refine lv_sipush (v := 146) hx hb dX5_keeps_65 (by decide) ?_
    refine lv_aload_n hx hb dX5_keeps_68 rfl (lv_at hl 0 rfl) ?_
    refine g_get S hK I k_X5 (v := .ref (ad 5)) (g_at.of mG_obj) 5 (by decide) q2957 rfl rfl dX5_keeps_69 ?_
    refine lv_sipush (v := 145) hx hb dX5_keeps_72 (by decide) ?_
    refine m_iald S hK I (f := (keep1 (a 5))) (k := 145) (g_at.of mG_5) (vp_lit (by decide)) (by decide) dX5_keeps_75 ?_
    refine lv_iadd hx hb dX5_keeps_76 ?_
    refine lv_fload_n hx hb dX5_keeps_77 rfl (lv_at hl 1 rfl) ?_
    refine g_ci (g_runS S hK I (As := [.float p0]) (rest := [.int (146 + ((keep1 (a 5)) 145)), .ref (ad 5)]) (met_J37_floatToIntBits l Γ (mG Γ mo ad f (va_up a 5 (keep1 (a 5))) rr ph) p0 (f_cmp hf)) (va_cwS 1 hts (lw_S q3279 q2485 q174 q2486) rfl rfl rfl (by decide +kernel) ⟨Nat.le_of_ble_eq_true rfl, Nat.le_of_ble_eq_true rfl⟩) rfl hl.1 rfl (Nat.le_of_ble_eq_true rfl) dX5_keeps_78 ⟨Nat.le_of_ble_eq_true rfl, Nat.le_of_ble_eq_true rfl⟩) I (fun r_78 ph1 H locs hp I => ?_)
    obtain ⟨hp, rfl⟩ := hp
    have hp : r_78 = p0.toInt32 := hp
    subst hp
    refine m_iast S hK I (f := (keep1 (a 5))) (k := (146 + nFo (keep1 (a 5)))) mG_5 (kfx hw).1 (kfx hw).2 dX5_keeps_81 (fun H locs I => ?_)
    have I := mI_5 I
    rw [bx_uu] at I
    refine lv_aload_n hx hb dX5_keeps_82 rfl (lv_at hl 0 rfl) ?_
    refine g_get S hK I k_X5 (v := .ref (ad 5)) (g_at.of mG_obj) 5 (by decide) q2957 rfl rfl dX5_keeps_83 ?_
    refine lv_sipush (v := 145) hx hb dX5_keeps_86 (by decide) ?_
    refine lv_dup2_11 hx hb dX5_keeps_89 rfl rfl ?_
    refine m_iald S hK I (f := (upd (keep1 (a 5)) (146 + nFo (keep1 (a 5))) p0.toInt32)) (k := 145) (g_at.of mG_5) (vp_lit (by decide)) (by decide) dX5_keeps_90 ?_
    refine lv_iconst (v := 1) hx hb dX5_keeps_91 (by decide) ?_
    refine lv_iadd hx hb dX5_keeps_92 ?_
    refine m_iast S hK I (f := (upd (keep1 (a 5)) (146 + nFo (keep1 (a 5))) p0.toInt32)) (k := 145) mG_5 (vp_lit (by decide)) (by decide) dX5_keeps_93 (fun H locs I => ?_)
    have I := mI_5 I
    rw [bx_uu] at I
    exact g_vret S hr hlk I dX5_keeps_94 (Nat.le_of_ble_eq_true rfl) (Nat.le_of_ble_eq_true rfl) hQ ⟨rfl, rfl⟩
  refine lv_icmp_ne (tgt := 61) hx hb dX5_keeps_10 (by decide) (fun c_10 => ?_) (fun c_10 => ?_)
  · have I := mI_ea I (va_upI a 5 (v := keep1 (a 5)) (if_neg c_10)).symm
    exact J_61_0  _ _ _  I (lv_sub hl [0, 1] rfl)
  · refine lv_iconst (v := 1) hx hb dX5_keeps_13 (by decide) ?_
    refine lv_istore_n (lv' := [(2, .int 1), (0, .ref mo), (1, .float p0)]) hx hb dX5_keeps_14 rfl hl (by decide) rfl (fun ls hl => ?_)
    have I := mI_ea I (va_upI a 5 (v := shF (a 5) 0) rfl).symm
    have L_15 : ∀ (d : Nat) (k : Nat), (hk : k ≤ 15) → 15 - k < d → ∀ (H : Heap) (locs : List Loc) (ls : Array Slot), g_I Γ (mG Γ mo ad f (va_up a 5 (shF (a 5) k)) rr ph) s H locs → lv_has ls 3 [(0, .ref mo), (1, .float p0), (2, .int (nI (k + 1)))] → W p l e (g_rm 3 0 0) s m A below meth c H locs 0 0 Q (F0 m 15 ls []) := by
      intro d
      induction d with
      | zero => intro k hk hd; exact absurd hd (Nat.not_lt_zero _)
      | succ d ih =>
        intro k hk hd H locs ls I hl
        refine lv_iload_n hx hb dX5_keeps_15 rfl (lv_at hl 2 rfl) ?_
        refine lv_bipush (v := 16) hx hb dX5_keeps_16 (by decide) ?_
        refine lv_icmp_ge (tgt := 49) hx hb dX5_keeps_18 (by decide) (fun c_18 => ?_) (fun c_18 => ?_)
        · have n_18 := Int32.not_lt.mpr c_18
          have e15 : k + 1 = 16 := k_ge (x := 16) (n := 16) rfl (by decide) (by omega) c_18
          obtain rfl : k = 15 := by omega
          refine lv_aload_n hx hb dX5_keeps_49 rfl (lv_at hl 0 rfl) ?_
          refine g_get S hK I k_X5 (v := .ref (ad 5)) (g_at.of mG_obj) 5 (by decide) q2957 rfl rfl dX5_keeps_50 ?_
          refine lv_sipush (v := 145) hx hb dX5_keeps_53 (by decide) ?_
          refine lv_dup2_11 hx hb dX5_keeps_56 rfl rfl ?_
          refine m_iald S hK I (f := (shF (a 5) 15)) (k := 145) (g_at.of mG_5) (vp_lit (by decide)) (by decide) dX5_keeps_57 ?_
          refine lv_iconst (v := 1) hx hb dX5_keeps_58 (by decide) ?_
          refine lv_isub hx hb dX5_keeps_59 ?_
          refine m_iast S hK I (f := (shF (a 5) 15)) (k := 145) mG_5 (vp_lit (by decide)) (by decide) dX5_keeps_60 (fun H locs I => ?_)
          have I := mI_5 I
          rw [bx_uu] at I
          have I := mI_ea I (show (va_up a 5 (upd (shF (a 5) 15) 145 (((shF (a 5) 15) 145) - 1))) = va_up a 5 (keep1 (a 5)) from congrArg (va_up a 5) (by unfold keep1; rw [if_pos c_10, shF_n (by omega)]))
          exact J_61_0  _ _ _  I (lv_sub hl [0, 1] rfl)
        · have n_18 := Int32.not_le.mp c_18
          have e15 : k + 1 < 16 := k_lt (x := 16) (n := 16) rfl (by decide) (by omega) c_18
          have hkl : k + 1 ≤ 15 := by omega
          refine lv_aload_n hx hb dX5_keeps_21 rfl (lv_at hl 0 rfl) ?_
          refine g_get S hK I k_X5 (v := .ref (ad 5)) (g_at.of mG_obj) 5 (by decide) q2957 rfl rfl dX5_keeps_22 ?_
          refine lv_sipush (v := 146) hx hb dX5_keeps_25 (by decide) ?_
          refine lv_iload_n hx hb dX5_keeps_28 rfl (lv_at hl 2 rfl) ?_
          refine lv_iadd hx hb dX5_keeps_29 ?_
          refine lv_iconst (v := 1) hx hb dX5_keeps_30 (by decide) ?_
          refine lv_isub hx hb dX5_keeps_31 ?_
          refine lv_aload_n hx hb dX5_keeps_32 rfl (lv_at hl 0 rfl) ?_
          refine g_get S hK I k_X5 (v := .ref (ad 5)) (g_at.of mG_obj) 5 (by decide) q2957 rfl rfl dX5_keeps_33 ?_
          refine lv_sipush (v := 146) hx hb dX5_keeps_36 (by decide) ?_
          refine lv_iload_n hx hb dX5_keeps_39 rfl (lv_at hl 2 rfl) ?_
          refine lv_iadd hx hb dX5_keeps_40 ?_
          refine m_iald S hK I (f := (shF (a 5) k)) (k := (146 + k + 1)) (g_at.of mG_5) (sh_ix hkl).2.2.1 (sh_ix hkl).2.2.2 dX5_keeps_41 ?_
          refine m_iast S hK I (f := (shF (a 5) k)) (k := (146 + k)) mG_5 (sh_ix hkl).1 (sh_ix hkl).2.1 dX5_keeps_42 (fun H locs I => ?_)
          have I := mI_5 I
          rw [bx_uu] at I
          refine lv_iinc (v := nI (k + 1 + 1)) (lv' := [(2, .int (nI (k + 1 + 1))), (0, .ref mo), (1, .float p0)]) hx hb dX5_keeps_43 hl (k := 2) rfl (nI_1 (k + 1)) (by decide) rfl (fun ls hl => ?_)
          refine lv_goto (tgt := 15) hx hb dX5_keeps_46 (by decide) ?_
          exact ih (k + 1) hkl (by omega) _ _ _ I (lv_sub hl [1, 2, 0] rfl)
    exact L_15 _ 0 (Nat.zero_le _) (Nat.lt_succ_self _) _ _ _ I (lv_sub hl [1, 2, 0] rfl)

theorem upd_id {f : Nat → Int32} {i : Nat} {x : Int32} (h : f i = x) : upd f i x = f := by
  funext j
  unfold upd
  by_cases e : j = i
  · subst e; rw [if_pos rfl, h]
  · rw [if_neg e]
set_option maxHeartbeats 4000000 in
set_option maxRecDepth 100000 in
theorem met_X5_leaderFalls (l : Launch) (Γ : g_C) (mo : Nat) (ad : Nat → Nat) (f : Nat → Int32) (a : Nat → Nat → Int32) (rr : Nat → UInt32) (ph : g_H) (p0 : Int32) (hw : WF (a 5)) (h0 : vp_in p0 (nN (a 5))) (hC : f 13 = nI (nCr f) ∧ nCr f + nAn (a 5) ≤ 24) : g_Met l yX5_leaderFalls (ws_ yX5_leaderFalls cX5_leaderFalls 7 none) (g_rm 5 0 0) Γ [.ref mo, .int p0] (mG Γ mo ad f a rr ph) (g_ov (fun ph' => ph' = mG Γ mo ad (upd f 13 (nI (ldL p0 ((a 5), (a 12), nCr f)).2.2)) (va_up (va_up a 12 ((ldL p0 ((a 5), (a 12), nCr f)).2.1)) 5 ((ldL p0 ((a 5), (a 12), nCr f)).1)) rr ph)) g_no := by
  refine g_start (y := yX5_leaderFalls) (cc := cX5_leaderFalls) (maxL := 7) (ret := none) (rm := g_rm 5 0 0) (by decide) (Nat.le_of_ble_eq_true rfl) ?_
  intro p e s m A below meth c ls Q hQ S hr hlk hex hnm hK I hl
  have hx := S.1
  have hb := S.2.1
  have hown := S.2.2.2.1
  have hts := S.2.2.2.2
  have S : CallFix p m c cX5_leaderFalls 7 s A lw_all "CrumblingWallModel" := S
  have hl : lv_has ls 7 [(0, .ref mo), (1, .int p0)] := hl
  refine lv_iconst (v := 0) hx hb dX5_leaderFalls_0 (by decide) ?_
  refine lv_istore_n (lv' := [(2, .int 0), (0, .ref mo), (1, .int p0)]) hx hb dX5_leaderFalls_1 rfl hl (by decide) rfl (fun ls hl => ?_)
  have I := mI_ef I (show f = upd f 13 (nI (nCr f)) from (upd_id hC.1).symm)
  have I := mI_ea I (show a = va_up (va_up a 12 (a 12)) 5 (a 5) from by rw [va_upI a 12 rfl, va_upI a 5 rfl])
  have L_2 : ∀ (d : Nat) (k : Nat) (w1 : m_w) (cr : Nat → Int32) (n : Nat), (hk : nAn w1 < k) → (hW : WF w1) → (hN : nN w1 = nN (a 5)) → (hc : n + nAn w1 ≤ 24) → (hE : ldF p0 k (w1, cr, n) = (ldL p0 (a 5, a 12, nCr f))) → k < d → ∀ (H : Heap) (locs : List Loc) (ls : Array Slot), g_I Γ (mG Γ mo ad (upd f 13 (nI n)) (va_up (va_up a 12 cr) 5 w1) rr ph) s H locs → lv_has ls 7 [(0, .ref mo), (1, .int p0), (2, .int 0)] → W p l e (g_rm 5 0 0) s m A below meth c H locs 0 0 Q (F0 m 2 ls []) := by
    intro d
    induction d with
    | zero => intro k w1 cr n hk hW hN hc hE hd; exact absurd hd (Nat.not_lt_zero _)
    | succ d ih =>
      intro k w1 cr n hk hW hN hc hE hd H locs ls I hl
      obtain ⟨k, rfl⟩ : ∃ j, k = j + 1 := ⟨k - 1, by omega⟩
      refine lv_iload_n hx hb dX5_leaderFalls_2 rfl (lv_at hl 2 rfl) ?_
      refine lv_if_ne (tgt := 177) hx hb dX5_leaderFalls_3 (by decide) (fun c_3 => absurd c_3 (by decide)) (fun _ => ?_)
      refine lv_iconst (v := 1) hx hb dX5_leaderFalls_6 (by decide) ?_
      refine lv_istore_n (lv' := [(2, .int 1), (0, .ref mo), (1, .int p0)]) hx hb dX5_leaderFalls_7 rfl hl (by decide) rfl (fun ls hl => ?_)
      refine lv_aload_n hx hb dX5_leaderFalls_8 rfl (lv_at hl 1 rfl) ?_
      refine lv_iconst (v := 1) hx hb dX5_leaderFalls_9 (by decide) ?_
      refine g_ci (g_runV S hK I (As := [.int 1]) (rest := []) (met_X5_isSecure l Γ mo ad (upd f 13 (nI n)) (va_up (va_up a 12 cr) 5 w1) rr ph 1 hW (vp_lit (by decide))) (cwV 1 hts (lw_V q3224 q3226 qs79 q151 q3227) rfl rfl rfl (by decide +kernel) ⟨Nat.le_of_ble_eq_true rfl, Nat.le_of_ble_eq_true rfl⟩) (g_recv hK I (g_at.of mG_obj) (ci := 4) rfl) rfl hl.1 rfl (Nat.le_of_ble_eq_true rfl) dX5_leaderFalls_10 ⟨Nat.le_of_ble_eq_true rfl, Nat.le_of_ble_eq_true rfl⟩) I (fun r_10 ph1 H locs hp I => ?_)
      obtain ⟨hp, rfl⟩ := hp
      have hp : r_10 = b2i (isSe w1 1) := hp
      subst hp
      refine lv_if_eq (tgt := 27) hx hb dX5_leaderFalls_13 (by decide) (fun c_13 => ?_) (fun c_13 => ?_)
      · have p_13 := (b2i_eq0 _).mp c_13
        refine lv_aload_n hx hb dX5_leaderFalls_27 rfl (lv_at hl 1 rfl) ?_
        refine lv_iconst (v := 0) hx hb dX5_leaderFalls_28 (by decide) ?_
        refine g_cv (g_runV S hK I (As := [.int 0]) (rest := []) (met_X5_toGround l Γ mo ad (upd f 13 (nI n)) (va_up (va_up a 12 cr) 5 w1) rr ph 0 hW (vp_lit (by decide))) (cwV 1 hts (lw_V q3271 q3273 qs89 q151 q3274) rfl rfl rfl (by decide +kernel) ⟨Nat.le_of_ble_eq_true rfl, Nat.le_of_ble_eq_true rfl⟩) (g_recv hK I (g_at.of mG_obj) (ci := 4) rfl) rfl hl.1 rfl (Nat.le_of_ble_eq_true rfl) dX5_leaderFalls_29 ⟨Nat.le_of_ble_eq_true rfl, Nat.le_of_ble_eq_true rfl⟩) I (fun ph1 H locs hp I => ?_)
        subst hp
        rw [bx_uu] at I
        have I : g_I Γ (mG Γ mo ad (upd f 13 (nI n)) (va_up (va_up a 12 cr) 5 (toGr w1 0)) rr ph) s H locs := I
        refine lv_goto (tgt := 2) hx hb dX5_leaderFalls_32 (by decide) ?_
        refine lv_iload_n hx hb dX5_leaderFalls_2 rfl (lv_at hl 0 rfl) ?_
        refine lv_if_ne (tgt := 177) hx hb dX5_leaderFalls_3 (by decide) (fun _ => ?_) (fun c_3 => absurd c_3 (by decide))
        exact g_vret S hr hlk I dX5_leaderFalls_177 (Nat.le_of_ble_eq_true rfl) (Nat.le_of_ble_eq_true rfl) hQ ⟨rfl, (by rw [show (ldL p0 (a 5, a 12, nCr f)) = ((toGr w1 0), cr, n) from hE.symm.trans (if_pos (Or.inl p_13))])⟩
      · have p_13 := (b2i_ne0 _).mp c_13
        refine lv_aload_n hx hb dX5_leaderFalls_16 rfl (lv_at hl 1 rfl) ?_
        refine g_get S hK I k_X5 (v := .ref (ad 5)) (g_at.of mG_obj) 5 (by decide) q2957 rfl rfl dX5_leaderFalls_17 ?_
        refine lv_sipush (v := 131) hx hb dX5_leaderFalls_20 (by decide) ?_
        refine m_iald S hK I (f := w1) (k := 131) (g_at.of mG_5) (vp_lit (by decide)) (by decide) dX5_leaderFalls_23 ?_
        refine lv_if_ne (tgt := 35) hx hb dX5_leaderFalls_24 (by decide) (fun c_24 => ?_) (fun c_24 => ?_)
        · have hz0 : ¬ w1 131 = 0 := c_24
          have hz : ¬ (isSe w1 1 = false ∨ w1 131 = 0) := fun q => q.elim (fun q => absurd q (by rw [p_13]; decide)) hz0
          have hA := ldA_ok hW hz0
          have ha20 := hW.h20 hA.1
          have hP : okP w1 p0 := Or.inr (by rw [hN]; exact h0)
          have hs := ld_step hW (h := p0) hz0
          refine lv_aload_n hx hb dX5_leaderFalls_35 rfl (lv_at hl 1 rfl) ?_
          refine g_get S hK I k_X5 (v := .ref (ad 5)) (g_at.of mG_obj) 5 (by decide) q2957 rfl rfl dX5_leaderFalls_36 ?_
          refine lv_sipush (v := 132) hx hb dX5_leaderFalls_39 (by decide) ?_
          refine lv_aload_n hx hb dX5_leaderFalls_42 rfl (lv_at hl 1 rfl) ?_
          refine g_get S hK I k_X5 (v := .ref (ad 5)) (g_at.of mG_obj) 5 (by decide) q2957 rfl rfl dX5_leaderFalls_43 ?_
          refine lv_sipush (v := 131) hx hb dX5_leaderFalls_46 (by decide) ?_
          refine m_iald S hK I (f := w1) (k := 131) (g_at.of mG_5) (vp_lit (by decide)) (by decide) dX5_leaderFalls_49 ?_
          refine lv_iadd hx hb dX5_leaderFalls_50 ?_
          refine lv_iconst (v := 1) hx hb dX5_leaderFalls_51 (by decide) ?_
          refine lv_isub hx hb dX5_leaderFalls_52 ?_
          refine m_iald S hK I (f := w1) (k := (131 + nAn w1)) (g_at.of mG_5) (ldx hW hz0).1 (ldx hW hz0).2 dX5_leaderFalls_53 ?_
          refine lv_istore_n (lv' := [(3, .int (ldA w1)), (2, .int 1), (0, .ref mo), (1, .int p0)]) hx hb dX5_leaderFalls_54 rfl hl (by decide) rfl (fun ls hl => ?_)
          refine lv_iconst (v := 2) hx hb dX5_leaderFalls_55 (by decide) ?_
          refine lv_aload_n hx hb dX5_leaderFalls_56 rfl (lv_at hl 2 rfl) ?_
          refine lv_iload_n hx hb dX5_leaderFalls_57 rfl (lv_at hl 0 rfl) ?_
          refine lv_iload_n hx hb dX5_leaderFalls_58 rfl (lv_at hl 3 rfl) ?_
          refine g_ci (g_runV S hK I (As := [.int (ldA w1), .int p0]) (rest := [.int 2]) (met_X5_distance l Γ mo ad (upd f 13 (nI n)) (va_up (va_up a 12 cr) 5 w1) rr ph (ldA w1) p0 (Or.inr ha20) (Or.inr (hw.h20 h0))) (cwV 2 hts (lw_V q3107 q3109 qs62 q151 q3110) rfl rfl rfl (by decide +kernel) ⟨Nat.le_of_ble_eq_true rfl, Nat.le_of_ble_eq_true rfl⟩) (g_recv hK I (g_at.of mG_obj) (ci := 4) rfl) rfl hl.1 rfl (Nat.le_of_ble_eq_true rfl) dX5_leaderFalls_59 ⟨Nat.le_of_ble_eq_true rfl, Nat.le_of_ble_eq_true rfl⟩) I (fun r_59 ph1 H locs hp I => ?_)
          obtain ⟨hp, rfl⟩ := hp
          have hp : r_59 = dst w1 (ldA w1) p0 := hp
          subst hp
          refine lv_imul hx hb dX5_leaderFalls_62 ?_
          refine lv_istore (lv' := [(4, .int (2 * (dst w1 (ldA w1) p0))), (3, .int (ldA w1)), (2, .int 1), (0, .ref mo), (1, .int p0)]) hx hb dX5_leaderFalls_63 hl (by decide) rfl (fun ls hl => ?_)
          refine lv_aload_n hx hb dX5_leaderFalls_65 rfl (lv_at hl 3 rfl) ?_
          refine lv_aload_n hx hb dX5_leaderFalls_66 rfl (lv_at hl 3 rfl) ?_
          refine lv_iconst (v := 1) hx hb dX5_leaderFalls_67 (by decide) ?_
          refine g_ci (g_runV S hK I (As := [.int 1]) (rest := [.ref mo]) (met_X5_place l Γ mo ad (upd f 13 (nI n)) (va_up (va_up a 12 cr) 5 w1) rr ph 1 (vp_lit (by decide))) (cwV 1 hts (lw_V q3095 q3097 qs59 q151 q3098) rfl rfl rfl (by decide +kernel) ⟨Nat.le_of_ble_eq_true rfl, Nat.le_of_ble_eq_true rfl⟩) (g_recv hK I (g_at.of mG_obj) (ci := 4) rfl) rfl hl.1 rfl (Nat.le_of_ble_eq_true rfl) dX5_leaderFalls_68 ⟨Nat.le_of_ble_eq_true rfl, Nat.le_of_ble_eq_true rfl⟩) I (fun r_68 ph1 H locs hp I => ?_)
          obtain ⟨hp, rfl⟩ := hp
          have hp : r_68 = plc w1 1 := hp
          subst hp
          refine lv_iload_n hx hb dX5_leaderFalls_71 rfl (lv_at hl 4 rfl) ?_
          refine g_ci (g_runV S hK I (As := [.int (plc w1 1), .int p0]) (rest := []) (met_X5_ropeWith l Γ mo ad (upd f 13 (nI n)) (va_up (va_up a 12 cr) 5 w1) rr ph (plc w1 1) p0 hW (hW.pl (vp_lit (by decide))) hP) (cwV 2 hts (lw_V q3103 q3105 qs61 q151 q3106) rfl rfl rfl (by decide +kernel) ⟨Nat.le_of_ble_eq_true rfl, Nat.le_of_ble_eq_true rfl⟩) (g_recv hK I (g_at.of mG_obj) (ci := 4) rfl) rfl hl.1 rfl (Nat.le_of_ble_eq_true rfl) dX5_leaderFalls_72 ⟨Nat.le_of_ble_eq_true rfl, Nat.le_of_ble_eq_true rfl⟩) I (fun r_72 ph1 H locs hp I => ?_)
          obtain ⟨hp, rfl⟩ := hp
          have hp : r_72 = rope w1 (plc w1 1) p0 := hp
          subst hp
          refine lv_istore (lv' := [(5, .int (rope w1 (plc w1 1) p0)), (4, .int (2 * (dst w1 (ldA w1) p0))), (3, .int (ldA w1)), (2, .int 1), (0, .ref mo), (1, .int p0)]) hx hb dX5_leaderFalls_75 hl (by decide) rfl (fun ls hl => ?_)
          refine lv_iload hx hb dX5_leaderFalls_77 (lv_at hl 0 rfl) ?_
          have J_93_0 : ∀ (x1 : UInt32) (H : Heap) (locs : List Loc) (ls : Array Slot), (hx1 : x1 = (frc w1 (ldA w1) p0)) → g_I Γ (mG Γ mo ad (upd f 13 (nI n)) (va_up (va_up a 12 cr) 5 w1) rr ph) s H locs → lv_has ls 7 [(5, .int (rope w1 (plc w1 1) p0)), (4, .int (2 * (dst w1 (ldA w1) p0))), (3, .int (ldA w1)), (2, .int 1), (0, .ref mo), (1, .int p0)] → W p l e (g_rm 5 0 0) s m A below meth c H locs 0 0 Q (F0 m 93 ls [.float x1]) := by
            intro x1 H locs ls hx1 I hl
            subst hx1
            refine lv_fstore (lv' := [(6, .float (frc w1 (ldA w1) p0)), (5, .int (rope w1 (plc w1 1) p0)), (4, .int (2 * (dst w1 (ldA w1) p0))), (3, .int (ldA w1)), (2, .int 1), (0, .ref mo), (1, .int p0)]) hx hb dX5_leaderFalls_93 hl (by decide) rfl (fun ls hl => ?_)
            refine lv_aload_n hx hb dX5_leaderFalls_95 rfl (lv_at hl 5 rfl) ?_
            refine lv_fload hx hb dX5_leaderFalls_96 (lv_at hl 0 rfl) ?_
            refine g_cv (g_runV S hK I (As := [.float (frc w1 (ldA w1) p0)]) (rest := []) (met_X5_keeps l Γ mo ad (upd f 13 (nI n)) (va_up (va_up a 12 cr) 5 w1) rr ph (frc w1 (ldA w1) p0) hW (fb_frc hW (Or.inr hA.1) hP)) (cwV 1 hts (lw_V q3275 q3277 qs90 q151 q3278) rfl rfl rfl (by decide +kernel) ⟨Nat.le_of_ble_eq_true rfl, Nat.le_of_ble_eq_true rfl⟩) (g_recv hK I (g_at.of mG_obj) (ci := 4) rfl) rfl hl.1 rfl (Nat.le_of_ble_eq_true rfl) dX5_leaderFalls_98 ⟨Nat.le_of_ble_eq_true rfl, Nat.le_of_ble_eq_true rfl⟩) I (fun ph1 H locs hp I => ?_)
            subst hp
            rw [bx_uu] at I
            have I : g_I Γ (mG Γ mo ad (upd f 13 (nI n)) (va_up (va_up a 12 cr) 5 (keepW w1 (frc w1 (ldA w1) p0))) rr ph) s H locs := I
            refine lv_aload_n hx hb dX5_leaderFalls_101 rfl (lv_at hl 5 rfl) ?_
            refine lv_iload_n hx hb dX5_leaderFalls_102 rfl (lv_at hl 3 rfl) ?_
            refine lv_iconst (v := 2) hx hb dX5_leaderFalls_103 (by decide) ?_
            refine g_ci (g_runV S hK I (As := [.int (ldA w1), .int 2]) (rest := []) (met_X5_ofHold l Γ mo ad (upd f 13 (nI n)) (va_up (va_up a 12 cr) 5 (keepW w1 (frc w1 (ldA w1) p0))) rr ph (ldA w1) 2 ha20 (vp_lit (by decide))) (cwV 2 hts (lw_V q3064 q3066 qs53 q151 q3067) rfl rfl rfl (by decide +kernel) ⟨Nat.le_of_ble_eq_true rfl, Nat.le_of_ble_eq_true rfl⟩) (g_recv hK I (g_at.of mG_obj) (ci := 4) rfl) rfl hl.1 rfl (Nat.le_of_ble_eq_true rfl) dX5_leaderFalls_104 ⟨Nat.le_of_ble_eq_true rfl, Nat.le_of_ble_eq_true rfl⟩) I (fun r_104 ph1 H locs hp I => ?_)
            obtain ⟨hp, rfl⟩ := hp
            have hp : r_104 = hX (keepW w1 (frc w1 (ldA w1) p0)) (ldA w1) 2 := hp
            subst hp
            refine lv_iconst (v := 3) hx hb dX5_leaderFalls_107 (by decide) ?_
            have J_130_1 : ∀ (H : Heap) (locs : List Loc) (ls : Array Slot), g_I Γ (mG Γ mo ad (upd f 13 (nI n)) (va_up (va_up a 12 cr) 5 (ldW w1 p0)) rr ph) s H locs → lv_has ls 7 [(6, .float (frc w1 (ldA w1) p0)), (5, .int (rope w1 (plc w1 1) p0)), (4, .int (2 * (dst w1 (ldA w1) p0))), (3, .int (ldA w1)), (2, .int 1), (0, .ref mo), (1, .int p0)] → W p l e (g_rm 5 0 0) s m A below meth c H locs 0 0 Q (F0 m 130 ls []) := by
              intro  H locs ls  I hl
              refine lv_aload_n hx hb dX5_leaderFalls_130 rfl (lv_at hl 5 rfl) ?_
              refine lv_iload_n hx hb dX5_leaderFalls_131 rfl (lv_at hl 3 rfl) ?_
              refine g_ci (g_runV S hK I (As := [.int (ldA w1)]) (rest := []) (met_X5_hasCrumbled l Γ mo ad (upd f 13 (nI n)) (va_up (va_up a 12 cr) 5 (ldW w1 p0)) rr ph (ldA w1) ha20) (cwV 1 hts (lw_V q3122 q3124 qs64 q151 q3125) rfl rfl rfl (by decide +kernel) ⟨Nat.le_of_ble_eq_true rfl, Nat.le_of_ble_eq_true rfl⟩) (g_recv hK I (g_at.of mG_obj) (ci := 4) rfl) rfl hl.1 rfl (Nat.le_of_ble_eq_true rfl) dX5_leaderFalls_132 ⟨Nat.le_of_ble_eq_true rfl, Nat.le_of_ble_eq_true rfl⟩) I (fun r_132 ph1 H locs hp I => ?_)
              obtain ⟨hp, rfl⟩ := hp
              have hp : r_132 = b2i (hasCr (ldW w1 p0) (ldA w1)) := hp
              subst hp
              refine lv_if_eq (tgt := 168) hx hb dX5_leaderFalls_135 (by decide) (fun c_135 => ?_) (fun c_135 => ?_)
              · have p_135 := (b2i_eq0 _).mp c_135
                refine lv_aload_n hx hb dX5_leaderFalls_168 rfl (lv_at hl 5 rfl) ?_
                refine lv_iconst (v := 0) hx hb dX5_leaderFalls_169 (by decide) ?_
                refine lv_iload_n hx hb dX5_leaderFalls_170 rfl (lv_at hl 3 rfl) ?_
                refine g_cv (g_runV S hK I (As := [.int 0, .int (ldA w1)]) (rest := []) (met_X5_hangs l Γ mo ad (upd f 13 (nI n)) (va_up (va_up a 12 cr) 5 (ldW w1 p0)) rr ph 0 (ldA w1) (vp_lit (by decide))) (cwV 2 hts (lw_V q3281 q3283 qs91 q151 q3284) rfl rfl rfl (by decide +kernel) ⟨Nat.le_of_ble_eq_true rfl, Nat.le_of_ble_eq_true rfl⟩) (g_recv hK I (g_at.of mG_obj) (ci := 4) rfl) rfl hl.1 rfl (Nat.le_of_ble_eq_true rfl) dX5_leaderFalls_171 ⟨Nat.le_of_ble_eq_true rfl, Nat.le_of_ble_eq_true rfl⟩) I (fun ph1 H locs hp I => ?_)
                subst hp
                rw [bx_uu] at I
                have I : g_I Γ (mG Γ mo ad (upd f 13 (nI n)) (va_up (va_up a 12 cr) 5 (hangW (ldW w1 p0) 0 (ldA w1))) rr ph) s H locs := I
                refine lv_goto (tgt := 2) hx hb dX5_leaderFalls_174 (by decide) ?_
                refine lv_iload_n hx hb dX5_leaderFalls_2 rfl (lv_at hl 4 rfl) ?_
                refine lv_if_ne (tgt := 177) hx hb dX5_leaderFalls_3 (by decide) (fun _ => ?_) (fun c_3 => absurd c_3 (by decide))
                exact g_vret S hr hlk I dX5_leaderFalls_177 (Nat.le_of_ble_eq_true rfl) (Nat.le_of_ble_eq_true rfl) hQ ⟨rfl, (by rw [show (ldL p0 (a 5, a 12, nCr f)) = ((hangW (ldW w1 p0) 0 (ldA w1)), cr, n) from hE.symm.trans ((if_neg hz).trans (if_neg (by rw [p_135]; decide)))])⟩
              · have p_135 := (b2i_ne0 _).mp c_135
                refine lv_aload_n hx hb dX5_leaderFalls_138 rfl (lv_at hl 5 rfl) ?_
                refine lv_iload_n hx hb dX5_leaderFalls_139 rfl (lv_at hl 3 rfl) ?_
                refine g_cv (g_runV S hK I (As := [.int (ldA w1)]) (rest := []) (met_X5_takesOut l Γ mo ad (upd f 13 (nI n)) (va_up (va_up a 12 cr) 5 (ldW w1 p0)) rr ph (ldA w1) hs.1) (cwV 1 hts (lw_V q3263 q3265 qs87 q151 q3266) rfl rfl rfl (by decide +kernel) ⟨Nat.le_of_ble_eq_true rfl, Nat.le_of_ble_eq_true rfl⟩) (g_recv hK I (g_at.of mG_obj) (ci := 4) rfl) rfl hl.1 rfl (Nat.le_of_ble_eq_true rfl) dX5_leaderFalls_140 ⟨Nat.le_of_ble_eq_true rfl, Nat.le_of_ble_eq_true rfl⟩) I (fun ph1 H locs hp I => ?_)
                subst hp
                rw [bx_uu] at I
                have I : g_I Γ (mG Γ mo ad (upd f 13 (nI n)) (va_up (va_up a 12 cr) 5 (tkW (ldW w1 p0) (ldA w1))) rr ph) s H locs := I
                refine lv_aload_n hx hb dX5_leaderFalls_143 rfl (lv_at hl 5 rfl) ?_
                refine g_get S hK I k_X5 (v := .ref (ad 12)) (g_at.of mG_obj) 12 (by decide) q2964 rfl rfl dX5_leaderFalls_144 ?_
                refine lv_aload_n hx hb dX5_leaderFalls_147 rfl (lv_at hl 5 rfl) ?_
                refine g_get S hK I k_X5 (v := .int (nI n)) (g_at.of mG_obj) 13 (by decide) q2965 rfl rfl dX5_leaderFalls_148 ?_
                refine lv_iload_n hx hb dX5_leaderFalls_151 rfl (lv_at hl 3 rfl) ?_
                refine m_iast S hK I (f := cr) (k := n) mG_12 (vp_in_nI (by omega) (by decide)) (nI_clamp (by omega)) dX5_leaderFalls_152 (fun H locs I => ?_)
                have I := mI_12 I
                refine lv_aload_n hx hb dX5_leaderFalls_153 rfl (lv_at hl 5 rfl) ?_
                refine lv_dup hx hb dX5_leaderFalls_154 rfl ?_
                refine g_get S hK I k_X5 (v := .int (nI n)) (g_at.of mG_obj) 13 (by decide) q2965 rfl rfl dX5_leaderFalls_155 ?_
                refine lv_iconst (v := 1) hx hb dX5_leaderFalls_158 (by decide) ?_
                refine lv_iadd hx hb dX5_leaderFalls_159 ?_
                refine g_put S hK I k_X5 (v := .int ((nI n) + 1)) mG_obj 13 (by decide) q2965 rfl rfl rfl rfl (Nat.le_of_ble_eq_true rfl) dX5_leaderFalls_160 (fun H locs I => ?_)
                have I := mI_f (f' := (upd (upd f 13 (nI n)) 13 ((nI n) + 1))) I rfl
                refine lv_iconst (v := 0) hx hb dX5_leaderFalls_163 (by decide) ?_
                refine lv_istore_n (lv' := [(2, .int 0), (6, .float (frc w1 (ldA w1) p0)), (5, .int (rope w1 (plc w1 1) p0)), (4, .int (2 * (dst w1 (ldA w1) p0))), (3, .int (ldA w1)), (0, .ref mo), (1, .int p0)]) hx hb dX5_leaderFalls_164 rfl hl (by decide) rfl (fun ls hl => ?_)
                refine lv_goto (tgt := 174) hx hb dX5_leaderFalls_165 (by decide) ?_
                refine lv_goto (tgt := 2) hx hb dX5_leaderFalls_174 (by decide) ?_
                have I := mI_ef I (show (upd (upd f 13 (nI n)) 13 ((nI n) + 1)) = upd f 13 (nI (n + 1)) from by rw [upd_uu, nI_1])
                have I := mI_ea I (show (va_up (va_up (va_up a 12 cr) 5 (tkW (ldW w1 p0) (ldA w1))) 12 (upd cr n (ldA w1))) = va_up (va_up a 12 (upd cr n (ldA w1))) 5 (tkW (ldW w1 p0) (ldA w1)) from va_125)
                exact ih k (tkW (ldW w1 p0) (ldA w1)) (upd cr n (ldA w1)) (n + 1) (Nat.lt_of_lt_of_le hs.2.2.2.2.2 (Nat.le_of_lt_succ hk)) hs.2.2.2.1 (hs.2.2.2.2.1.trans hN) (by have := hs.2.2.2.2.2; omega) (((if_neg hz).trans (if_pos p_135)).symm.trans hE) (by omega) _ _ _ I (lv_sub hl [5, 6, 0] rfl)
            refine lv_icmp_eq (tgt := 130) hx hb dX5_leaderFalls_108 (by decide) (fun c_108 => ?_) (fun c_108 => ?_)
            · have I := mI_ea I (show (va_up (va_up a 12 cr) 5 (keepW w1 (frc w1 (ldA w1) p0))) = (va_up (va_up a 12 cr) 5 (ldW w1 p0)) from congrArg (va_up _ 5) ((if_pos c_108).symm))
              exact J_130_1  _ _ _  I (lv_sub hl [0, 1, 2, 3, 4, 5, 6] rfl)
            · refine lv_aload_n hx hb dX5_leaderFalls_111 rfl (lv_at hl 5 rfl) ?_
              refine g_get S hK I k_X5 (v := .ref (ad 5)) (g_at.of mG_obj) 5 (by decide) q2957 rfl rfl dX5_leaderFalls_112 ?_
              refine lv_iload_n hx hb dX5_leaderFalls_115 rfl (lv_at hl 3 rfl) ?_
              refine lv_iconst (v := 4) hx hb dX5_leaderFalls_116 (by decide) ?_
              refine g_ci (g_runS S hK I (As := [.int (ldA w1), .int 4]) (rest := [.ref (ad 5)]) (met_X5_atHold l Γ (mG Γ mo ad (upd f 13 (nI n)) (va_up (va_up a 12 cr) 5 (keepW w1 (frc w1 (ldA w1) p0))) rr ph) (ldA w1) 4) (va_cwS 2 hts (lw_S q3068 q3069 q151 q3070) rfl rfl rfl (by decide +kernel) ⟨Nat.le_of_ble_eq_true rfl, Nat.le_of_ble_eq_true rfl⟩) rfl hl.1 rfl (Nat.le_of_ble_eq_true rfl) dX5_leaderFalls_117 ⟨Nat.le_of_ble_eq_true rfl, Nat.le_of_ble_eq_true rfl⟩) I (fun r_117 ph1 H locs hp I => ?_)
              obtain ⟨hp, rfl⟩ := hp
              have hp : r_117 = 1 + 5 * (ldA w1) + 4 := hp
              subst hp
              refine lv_dup2_11 hx hb dX5_leaderFalls_120 rfl rfl ?_
              refine m_iald S hK I (f := (keepW w1 (frc w1 (ldA w1) p0))) (k := (1 + 5 * (ldA w1).toNatClampNeg + 4)) (g_at.of mG_5) (ix_h (t := 4) ha20 (vp_lit (by decide))).1 (ix_h (t := 4) ha20 (vp_lit (by decide))).2 dX5_leaderFalls_121 ?_
              refine lv_fload hx hb dX5_leaderFalls_122 (lv_at hl 0 rfl) ?_
              refine lv_ldcf hx hb hown (hts _ q3280) dX5_leaderFalls_124 ?_
              refine lv_fmul hx hb dX5_leaderFalls_126 (n32_frc3 hW (Or.inr hA.1) hP) ?_
              refine lv_f2i hx hb dX5_leaderFalls_127 ?_
              refine lv_iadd hx hb dX5_leaderFalls_128 ?_
              refine m_iast S hK I (f := (keepW w1 (frc w1 (ldA w1) p0))) (k := (1 + 5 * (ldA w1).toNatClampNeg + 4)) mG_5 (ix_h (t := 4) ha20 (vp_lit (by decide))).1 (ix_h (t := 4) ha20 (vp_lit (by decide))).2 dX5_leaderFalls_129 (fun H locs I => ?_)
              have I := mI_5 I
              rw [bx_uu] at I
              have I := mI_ea I (show (va_up (va_up a 12 cr) 5 (upd (keepW w1 (frc w1 (ldA w1) p0)) (1 + 5 * (ldA w1).toNatClampNeg + 4) (((keepW w1 (frc w1 (ldA w1) p0)) (1 + 5 * (ldA w1).toNatClampNeg + 4)) + (FP.f2i (FP.fmul (frc w1 (ldA w1) p0) 1077936128))))) = (va_up (va_up a 12 cr) 5 (ldW w1 p0)) from congrArg (va_up _ 5) ((if_neg c_108).symm))
              exact J_130_1  _ _ _  I (lv_sub hl [0, 1, 2, 3, 4, 5, 6] rfl)
          refine lv_if_ne (tgt := 86) hx hb dX5_leaderFalls_79 (by decide) (fun c_79 => ?_) (fun c_79 => ?_)
          · refine lv_iload hx hb dX5_leaderFalls_86 (lv_at hl 1 rfl) ?_
            refine lv_i2f hx hb dX5_leaderFalls_88 ?_
            refine lv_iload hx hb dX5_leaderFalls_89 (lv_at hl 0 rfl) ?_
            refine lv_i2f hx hb dX5_leaderFalls_91 ?_
            refine lv_fdiv hx hb dX5_leaderFalls_92 (fb_n32 (fb_frc' hW (Or.inr hA.1) hP c_79)) ?_
            exact J_93_0 (FP.fdiv (FP.i2f (2 * (dst w1 (ldA w1) p0))) (FP.i2f (rope w1 (plc w1 1) p0))) _ _ _ (by unfold frc; rw [if_neg c_79]) I (lv_sub hl [0, 1, 2, 3, 4, 5] rfl)
          · refine lv_fconst0 hx hb dX5_leaderFalls_82 ?_
            refine lv_goto (tgt := 93) hx hb dX5_leaderFalls_83 (by decide) ?_
            exact J_93_0 0 _ _ _ (by unfold frc; rw [if_pos c_79]) I (lv_sub hl [0, 1, 2, 3, 4, 5] rfl)
        · refine lv_aload_n hx hb dX5_leaderFalls_27 rfl (lv_at hl 1 rfl) ?_
          refine lv_iconst (v := 0) hx hb dX5_leaderFalls_28 (by decide) ?_
          refine g_cv (g_runV S hK I (As := [.int 0]) (rest := []) (met_X5_toGround l Γ mo ad (upd f 13 (nI n)) (va_up (va_up a 12 cr) 5 w1) rr ph 0 hW (vp_lit (by decide))) (cwV 1 hts (lw_V q3271 q3273 qs89 q151 q3274) rfl rfl rfl (by decide +kernel) ⟨Nat.le_of_ble_eq_true rfl, Nat.le_of_ble_eq_true rfl⟩) (g_recv hK I (g_at.of mG_obj) (ci := 4) rfl) rfl hl.1 rfl (Nat.le_of_ble_eq_true rfl) dX5_leaderFalls_29 ⟨Nat.le_of_ble_eq_true rfl, Nat.le_of_ble_eq_true rfl⟩) I (fun ph1 H locs hp I => ?_)
          subst hp
          rw [bx_uu] at I
          have I : g_I Γ (mG Γ mo ad (upd f 13 (nI n)) (va_up (va_up a 12 cr) 5 (toGr w1 0)) rr ph) s H locs := I
          refine lv_goto (tgt := 2) hx hb dX5_leaderFalls_32 (by decide) ?_
          refine lv_iload_n hx hb dX5_leaderFalls_2 rfl (lv_at hl 0 rfl) ?_
          refine lv_if_ne (tgt := 177) hx hb dX5_leaderFalls_3 (by decide) (fun _ => ?_) (fun c_3 => absurd c_3 (by decide))
          exact g_vret S hr hlk I dX5_leaderFalls_177 (Nat.le_of_ble_eq_true rfl) (Nat.le_of_ble_eq_true rfl) hQ ⟨rfl, (by rw [show (ldL p0 (a 5, a 12, nCr f)) = ((toGr w1 0), cr, n) from hE.symm.trans (if_pos (Or.inr c_24))])⟩
  exact L_2 _ (nAn (a 5) + 1) (a 5) (a 12) (nCr f) (Nat.lt_succ_self _) hw rfl hC.2 rfl (Nat.lt_succ_self _) _ _ _ I (lv_sub hl [1, 2, 0] rfl)


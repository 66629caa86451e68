/-! THE REFERENCE: public methods -/
set_option maxRecDepth 100000
set_option maxHeartbeats 4000000 in
set_option maxRecDepth 100000 in
theorem met_X5_remembers (l : Launch) (Γ : g_C) (mo : Nat) (ad : Nat → Nat) (f : Nat → Int32) (a : Nat → Nat → Int32) (rr : Nat → UInt32) (ph : g_H)  (hU : okU f) : g_Met l yX5_remembers (ws_ yX5_remembers cX5_remembers 3 none) (g_rm 1 0 0) Γ [.ref mo] (mG Γ mo ad f a rr ph) (g_ov (fun ph' => ph' = mG Γ mo ad (remF f) (va_up a 6 (va_cpy (a 8) (a 6) 0 (170 * rSl f) 170)) rr ph)) g_no := by
  refine g_start (y := yX5_remembers) (cc := cX5_remembers) (maxL := 3) (ret := none) (rm := g_rm 1 0 0) (by decide) (Nat.le_of_ble_eq_true rfl) ?_
  intro p e s m A below meth c ls Q hQ S hr hlk hex hnm hK I hl
  have hx := S.1
  have hb := S.2.1
  have hown := S.2.2.2.1
  have hts := S.2.2.2.2
  have S : CallFix p m c cX5_remembers 3 s A lw_all "CrumblingWallModel" := S
  have hl : lv_has ls 3 [(0, .ref mo)] := hl
  refine lv_aload_n hx hb dX5_remembers_0 rfl (lv_at hl 0 rfl) ?_
  refine g_get S hK I k_X5 (v := .int (f 9)) (g_at.of mG_obj) 9 (by decide) q2961 rfl rfl dX5_remembers_1 ?_
  refine lv_bipush (v := 8) hx hb dX5_remembers_4 (by decide) ?_
  have J_32_0 : ∀ (f1 : Nat → Int32) (H : Heap) (locs : List Loc) (ls : Array Slot), (hf1 : f1 = rem1 f) → g_I Γ (mG Γ mo ad f1 a rr ph) s H locs → lv_has ls 3 [(0, .ref mo)] → W p l e (g_rm 1 0 0) s m A below meth c H locs 0 0 Q (F0 m 32 ls []) := by
    intro f1 H locs ls hf1 I hl
    refine lv_sipush (v := 170) hx hb dX5_remembers_32 (by decide) ?_
    refine lv_aload_n hx hb dX5_remembers_35 rfl (lv_at hl 0 rfl) ?_
    refine g_get S hK I k_X5 (v := .int (f1 10)) (g_at.of mG_obj) 10 (by decide) q2962 rfl rfl dX5_remembers_36 ?_
    refine lv_aload_n hx hb dX5_remembers_39 rfl (lv_at hl 0 rfl) ?_
    refine g_get S hK I k_X5 (v := .int (f1 9)) (g_at.of mG_obj) 9 (by decide) q2961 rfl rfl dX5_remembers_40 ?_
    refine lv_iadd hx hb dX5_remembers_43 ?_
    refine lv_bipush (v := 8) hx hb dX5_remembers_44 (by decide) ?_
    refine lv_irem hx hb dX5_remembers_46 (by decide) ?_
    refine lv_imul hx hb dX5_remembers_47 ?_
    rw [show (170 * (((f1 10) + (f1 9)) - ((f1 10) + (f1 9)) / 8 * 8)) = nI (170 * rSl f) from by rw [hf1]; exact rem_s hU]
    refine lv_istore_n (lv' := [(1, .int (nI (170 * rSl f))), (0, .ref mo)]) hx hb dX5_remembers_48 rfl hl (by decide) rfl (fun ls hl => ?_)
    refine lv_iconst (v := 0) hx hb dX5_remembers_49 (by decide) ?_
    refine lv_istore_n (lv' := [(2, .int 0), (1, .int (nI (170 * rSl f))), (0, .ref mo)]) hx hb dX5_remembers_50 rfl hl (by decide) rfl (fun ls hl => ?_)
    have I := mI_ea I (show a = (va_up a 6 (va_cpy (a 8) (a 6) 0 (170 * rSl f) 0)) from by rw [cpy_0]; exact (va_upI _ _ rfl).symm)
    have L_51 : ∀ (d : Nat) (k : Nat), (hk : k ≤ 170) → 170 - k < d → ∀ (H : Heap) (locs : List Loc) (ls : Array Slot), g_I Γ (mG Γ mo ad f1 (va_up a 6 (va_cpy (a 8) (a 6) 0 (170 * rSl f) k)) rr ph) s H locs → lv_has ls 3 [(0, .ref mo), (1, .int (nI (170 * rSl f))), (2, .int (nI k))] → W p l e (g_rm 1 0 0) s m A below meth c H locs 0 0 Q (F0 m 51 ls []) := by
      intro d
      induction d with
      | zero => intro k hk hd; exact absurd hd (Nat.not_lt_zero _)
      | succ d ih =>
        intro k hk hd H locs ls I hl
        refine lv_iload_n hx hb dX5_remembers_51 rfl (lv_at hl 2 rfl) ?_
        refine lv_sipush (v := 170) hx hb dX5_remembers_52 (by decide) ?_
        refine lv_icmp_ge (tgt := 78) hx hb dX5_remembers_55 (by decide) (fun c_55 => ?_) (fun c_55 => ?_)
        · have n_55 := Int32.not_lt.mpr c_55
          obtain rfl : k = 170 := k_ge (x := 170) rfl (by decide) hk c_55
          refine lv_aload_n hx hb dX5_remembers_78 rfl (lv_at hl 0 rfl) ?_
          refine lv_dup hx hb dX5_remembers_79 rfl ?_
          refine g_get S hK I k_X5 (v := .int (f1 9)) (g_at.of mG_obj) 9 (by decide) q2961 rfl rfl dX5_remembers_80 ?_
          refine lv_iconst (v := 1) hx hb dX5_remembers_83 (by decide) ?_
          refine lv_iadd hx hb dX5_remembers_84 ?_
          refine g_put S hK I k_X5 (v := .int ((f1 9) + 1)) mG_obj 9 (by decide) q2961 rfl rfl rfl rfl (Nat.le_of_ble_eq_true rfl) dX5_remembers_85 (fun H locs I => ?_)
          have I := mI_f (f' := (upd f1 9 ((f1 9) + 1))) I rfl
          exact g_vret S hr hlk I dX5_remembers_88 (Nat.le_of_ble_eq_true rfl) (Nat.le_of_ble_eq_true rfl) hQ ⟨rfl, (by rw [hf1, rem_e])⟩
        · have n_55 := Int32.not_le.mp c_55
          have hkl : k < 170 := k_lt (x := 170) rfl (by decide) hk c_55
          refine lv_aload_n hx hb dX5_remembers_58 rfl (lv_at hl 0 rfl) ?_
          refine g_get S hK I k_X5 (v := .ref (ad 6)) (g_at.of mG_obj) 6 (by decide) q2958 rfl rfl dX5_remembers_59 ?_
          refine lv_iload_n hx hb dX5_remembers_62 rfl (lv_at hl 1 rfl) ?_
          refine lv_iload_n hx hb dX5_remembers_63 rfl (lv_at hl 2 rfl) ?_
          refine lv_iadd hx hb dX5_remembers_64 ?_
          refine lv_aload_n hx hb dX5_remembers_65 rfl (lv_at hl 0 rfl) ?_
          refine g_get S hK I k_X5 (v := .ref (ad 8)) (g_at.of mG_obj) 8 (by decide) q2960 rfl rfl dX5_remembers_66 ?_
          refine lv_iload_n hx hb dX5_remembers_69 rfl (lv_at hl 2 rfl) ?_
          refine m_iald S hK I (f := (a 8)) (k := k) (g_at.of mG_8) (lt170 rfl hkl).1 (lt170 rfl hkl).2 dX5_remembers_70 ?_
          refine m_iast S hK I (f := (va_cpy (a 8) (a 6) 0 (170 * rSl f) k)) (k := (170 * rSl f + k)) mG_6 (rs_in hkl).1 (rs_in hkl).2 dX5_remembers_71 (fun H locs I => ?_)
          have I := mI_6 I
          rw [bx_uu] at I
          rw [cpy_s0] at I
          refine lv_iinc (v := nI (k + 1)) (lv' := [(2, .int (nI (k + 1))), (0, .ref mo), (1, .int (nI (170 * rSl f)))]) hx hb dX5_remembers_72 hl (k := 2) rfl (nI_1 k) (by decide) rfl (fun ls hl => ?_)
          refine lv_goto (tgt := 51) hx hb dX5_remembers_75 (by decide) ?_
          exact ih (k + 1) hkl (by omega) _ _ _ I (lv_sub hl [1, 2, 0] rfl)
    exact L_51 _ 0 (Nat.zero_le _) (Nat.lt_succ_self _) _ _ _ I (lv_sub hl [2, 1, 0] rfl)
  refine lv_icmp_ne (tgt := 32) hx hb dX5_remembers_6 (by decide) (fun c_6 => ?_) (fun c_6 => ?_)
  · exact J_32_0 f _ _ _ (rem_b hU c_6) I (lv_sub hl [0] rfl)
  · refine lv_aload_n hx hb dX5_remembers_9 rfl (lv_at hl 0 rfl) ?_
    refine lv_aload_n hx hb dX5_remembers_10 rfl (lv_at hl 0 rfl) ?_
    refine g_get S hK I k_X5 (v := .int (f 10)) (g_at.of mG_obj) 10 (by decide) q2962 rfl rfl dX5_remembers_11 ?_
    refine lv_iconst (v := 1) hx hb dX5_remembers_14 (by decide) ?_
    refine lv_iadd hx hb dX5_remembers_15 ?_
    refine lv_bipush (v := 8) hx hb dX5_remembers_16 (by decide) ?_
    refine lv_irem hx hb dX5_remembers_18 (by decide) ?_
    refine g_put S hK I k_X5 (v := .int (((f 10) + 1) - ((f 10) + 1) / 8 * 8)) mG_obj 10 (by decide) q2962 rfl rfl rfl rfl (Nat.le_of_ble_eq_true rfl) dX5_remembers_19 (fun H locs I => ?_)
    have I := mI_f (f' := (upd f 10 (((f 10) + 1) - ((f 10) + 1) / 8 * 8))) I rfl
    refine lv_aload_n hx hb dX5_remembers_22 rfl (lv_at hl 0 rfl) ?_
    refine lv_dup hx hb dX5_remembers_23 rfl ?_
    refine g_get S hK I k_X5 (v := .int (f 9)) (g_at.of mG_obj) 9 (by decide) q2961 rfl rfl dX5_remembers_24 ?_
    refine lv_iconst (v := 1) hx hb dX5_remembers_27 (by decide) ?_
    refine lv_isub hx hb dX5_remembers_28 ?_
    refine g_put S hK I k_X5 (v := .int ((f 9) - 1)) mG_obj 9 (by decide) q2961 rfl rfl rfl rfl (Nat.le_of_ble_eq_true rfl) dX5_remembers_29 (fun H locs I => ?_)
    have I := mI_f (f' := (upd (upd f 10 (((f 10) + 1) - ((f 10) + 1) / 8 * 8)) 9 ((f 9) - 1))) I rfl
    exact J_32_0 (upd (upd f 10 (((f 10) + 1) - ((f 10) + 1) / 8 * 8)) 9 ((f 9) - 1)) _ _ _ (rem_a hU c_6) I (lv_sub hl [0] rfl)

set_option maxHeartbeats 4000000 in
set_option maxRecDepth 100000 in
theorem met_X5_why (l : Launch) (Γ : g_C) (mo : Nat) (ad : Nat → Nat) (f : Nat → Int32) (a : Nat → Nat → Int32) (rr : Nat → UInt32) (ph : g_H) (p0 : Int32) (p1 : Int32) (p2 : Int32) (hw : WF (a 5)) : g_Met l yX5_why (ws_ yX5_why cX5_why 4 (some .int)) (g_rm 6 0 0) Γ [.ref mo, .int p0, .int p1, .int p2] (mG Γ mo ad f a rr ph) (g_oi (fun v ph' => v = (if (isCl p0 && isPl (a 5) p1) = false then 0 else match nMove (a 5) p0 p1 with | none => 0 | some q => if ¬ p2 = 0 then q.2 else q.1) ∧ ph' = mG Γ mo ad (if (isCl p0 && isPl (a 5) p1) = false then upd f 0 1 else m_hin (upd f 0 0) (nMove (a 5) p0 p1)) a rr ph)) g_no := by
  refine g_start (y := yX5_why) (cc := cX5_why) (maxL := 4) (ret := (some .int)) (rm := g_rm 6 0 0) (by decide) (Nat.le_of_ble_eq_true rfl) ?_
  intro p e s m A below meth c ls Q hQ S hr hlk hex hnm hK I hl
  have hx := S.1
  have hb := S.2.1
  have hown := S.2.2.2.1
  have hts := S.2.2.2.2
  have S : CallFix p m c cX5_why 4 s A lw_all "CrumblingWallModel" := S
  have hl : lv_has ls 4 [(0, .ref mo), (1, .int p0), (2, .int p1), (3, .int p2)] := hl
  refine lv_iload_n hx hb dX5_why_0 rfl (lv_at hl 1 rfl) ?_
  refine g_ci (g_runS S hK I (As := [.int p0]) (rest := []) (met_X5_isClimber l Γ (mG Γ mo ad f a rr ph) p0) (va_cwS 1 hts (lw_S q3217 q3218 q151 q3219) rfl rfl rfl (by decide +kernel) ⟨Nat.le_of_ble_eq_true rfl, Nat.le_of_ble_eq_true rfl⟩) rfl hl.1 rfl (Nat.le_of_ble_eq_true rfl) dX5_why_1 ⟨Nat.le_of_ble_eq_true rfl, Nat.le_of_ble_eq_true rfl⟩) I (fun r_1 ph1 H locs hp I => ?_)
  obtain ⟨hp, rfl⟩ := hp
  have hp : r_1 = b2i (isCl p0) := hp
  subst hp
  refine lv_if_eq (tgt := 15) hx hb dX5_why_4 (by decide) (fun c_4 => ?_) (fun c_4 => ?_)
  · have p_4 := (b2i_eq0 _).mp c_4
    refine lv_aload_n hx hb dX5_why_15 rfl (lv_at hl 0 rfl) ?_
    refine lv_iconst (v := 1) hx hb dX5_why_16 (by decide) ?_
    refine g_ci (g_runV S hK I (As := [.int 1]) (rest := []) (met_X5_fails l Γ mo ad f a rr ph 1) (cwV 1 hts (lw_V q3056 q3058 qs51 q151 q3059) rfl rfl rfl (by decide +kernel) ⟨Nat.le_of_ble_eq_true rfl, Nat.le_of_ble_eq_true rfl⟩) (g_recv hK I (g_at.of mG_obj) (ci := 4) rfl) rfl hl.1 rfl (Nat.le_of_ble_eq_true rfl) dX5_why_17 ⟨Nat.le_of_ble_eq_true rfl, Nat.le_of_ble_eq_true rfl⟩) I (fun r_17 ph1 H locs hp I => ?_)
    obtain ⟨hp, rfl⟩ := hp
    have hp : r_17 = 0 := hp
    subst hp
    have I : g_I Γ (mG Γ mo ad (upd f 0 1) a rr ph) s H locs := I
    exact g_iret S hr hlk I dX5_why_20 (Nat.le_of_ble_eq_true rfl) (Nat.le_of_ble_eq_true rfl) hQ ⟨_, rfl, (by (try simp only [p_4]); (try simp [m_hin, upd, p_4])), (by (try simp only [p_4]); (try simp [m_hin, upd, p_4]))⟩
  · have p_4 := (b2i_ne0 _).mp c_4
    have hc := isCl_iff.mp p_4
    refine lv_aload_n hx hb dX5_why_7 rfl (lv_at hl 0 rfl) ?_
    refine lv_iload_n hx hb dX5_why_8 rfl (lv_at hl 2 rfl) ?_
    refine g_ci (g_runV S hK I (As := [.int p1]) (rest := []) (met_X5_isPlace l Γ mo ad f a rr ph p1) (cwV 1 hts (lw_V q3157 q3159 qs71 q151 q3160) rfl rfl rfl (by decide +kernel) ⟨Nat.le_of_ble_eq_true rfl, Nat.le_of_ble_eq_true rfl⟩) (g_recv hK I (g_at.of mG_obj) (ci := 4) rfl) rfl hl.1 rfl (Nat.le_of_ble_eq_true rfl) dX5_why_9 ⟨Nat.le_of_ble_eq_true rfl, Nat.le_of_ble_eq_true rfl⟩) I (fun r_9 ph1 H locs hp I => ?_)
    obtain ⟨hp, rfl⟩ := hp
    have hp : r_9 = b2i (isPl (a 5) p1) := hp
    subst hp
    refine lv_if_ne (tgt := 21) hx hb dX5_why_12 (by decide) (fun c_12 => ?_) (fun c_12 => ?_)
    · have p_12 := (b2i_ne0 _).mp c_12
      have hv := (isPl_iff hw).mp p_12
      refine lv_aload_n hx hb dX5_why_21 rfl (lv_at hl 0 rfl) ?_
      refine lv_iconst (v := 0) hx hb dX5_why_22 (by decide) ?_
      refine g_put S hK I k_X5 (v := .int 0) mG_obj 0 (by decide) q2952 rfl rfl rfl rfl (Nat.le_of_ble_eq_true rfl) dX5_why_23 (fun H locs I => ?_)
      have I := mI_f (f' := (upd f 0 0)) I rfl
      refine lv_aload_n hx hb dX5_why_26 rfl (lv_at hl 0 rfl) ?_
      refine lv_iload_n hx hb dX5_why_27 rfl (lv_at hl 1 rfl) ?_
      refine lv_iload_n hx hb dX5_why_28 rfl (lv_at hl 2 rfl) ?_
      refine g_ci (g_runV S hK I (As := [.int p0, .int p1]) (rest := []) (met_X5_mayNotMove l Γ mo ad (upd f 0 0) a rr ph p0 p1 hw hc hv) (cwV 2 hts (lw_V q3232 q3234 qs80 q151 q3235) rfl rfl rfl (by decide +kernel) ⟨Nat.le_of_ble_eq_true rfl, Nat.le_of_ble_eq_true rfl⟩) (g_recv hK I (g_at.of mG_obj) (ci := 4) rfl) rfl hl.1 rfl (Nat.le_of_ble_eq_true rfl) dX5_why_29 ⟨Nat.le_of_ble_eq_true rfl, Nat.le_of_ble_eq_true rfl⟩) I (fun r_29 ph1 H locs hp I => ?_)
      obtain ⟨hp, rfl⟩ := hp
      have hp : r_29 = b2i ((nMove (a 5) p0 p1).isSome) := hp
      subst hp
      have I : g_I Γ (mG Γ mo ad (m_hin (upd f 0 0) (nMove (a 5) p0 p1)) a rr ph) s H locs := I
      refine lv_if_ne (tgt := 37) hx hb dX5_why_32 (by decide) (fun c_32 => ?_) (fun c_32 => ?_)
      · have p_32 := (b2i_ne0 _).mp c_32
        obtain ⟨q_32, hq_32⟩ := wk_some p_32
        refine lv_iload_n hx hb dX5_why_37 rfl (lv_at hl 3 rfl) ?_
        refine lv_if_eq (tgt := 48) hx hb dX5_why_38 (by decide) (fun c_38 => ?_) (fun c_38 => ?_)
        · refine lv_aload_n hx hb dX5_why_48 rfl (lv_at hl 0 rfl) ?_
          refine g_get S hK I k_X5 (v := .int ((m_hin (upd f 0 0) (nMove (a 5) p0 p1)) 3)) (g_at.of mG_obj) 3 (by decide) q2955 rfl rfl dX5_why_49 ?_
          exact g_iret S hr hlk I dX5_why_52 (Nat.le_of_ble_eq_true rfl) (Nat.le_of_ble_eq_true rfl) hQ ⟨_, rfl, (by (try simp only [p_4, p_12, p_32, hq_32]); (try simp [m_hin, upd, p_4, p_12, p_32, hq_32, c_38])), (by (try simp only [p_4, p_12, p_32, hq_32]); (try simp [m_hin, upd, p_4, p_12, p_32, hq_32, c_38]))⟩
        · refine lv_aload_n hx hb dX5_why_41 rfl (lv_at hl 0 rfl) ?_
          refine g_get S hK I k_X5 (v := .int ((m_hin (upd f 0 0) (nMove (a 5) p0 p1)) 4)) (g_at.of mG_obj) 4 (by decide) q2956 rfl rfl dX5_why_42 ?_
          refine lv_goto (tgt := 52) hx hb dX5_why_45 (by decide) ?_
          exact g_iret S hr hlk I dX5_why_52 (Nat.le_of_ble_eq_true rfl) (Nat.le_of_ble_eq_true rfl) hQ ⟨_, rfl, (by (try simp only [p_4, p_12, p_32, hq_32]); (try simp [m_hin, upd, p_4, p_12, p_32, hq_32, c_38])), (by (try simp only [p_4, p_12, p_32, hq_32]); (try simp [m_hin, upd, p_4, p_12, p_32, hq_32, c_38]))⟩
      · have p_32 := (b2i_eq0 _).mp c_32
        have z_32 := wk_none p_32
        refine lv_iconst (v := 0) hx hb dX5_why_35 (by decide) ?_
        exact g_iret S hr hlk I dX5_why_36 (Nat.le_of_ble_eq_true rfl) (Nat.le_of_ble_eq_true rfl) hQ ⟨_, rfl, (by (try simp only [p_4, p_12, z_32]); (try simp [m_hin, upd, p_4, p_12, z_32])), (by (try simp only [p_4, p_12, z_32]); (try simp [m_hin, upd, p_4, p_12, z_32]))⟩
    · have p_12 := (b2i_eq0 _).mp c_12
      refine lv_aload_n hx hb dX5_why_15 rfl (lv_at hl 0 rfl) ?_
      refine lv_iconst (v := 1) hx hb dX5_why_16 (by decide) ?_
      refine g_ci (g_runV S hK I (As := [.int 1]) (rest := []) (met_X5_fails l Γ mo ad f a rr ph 1) (cwV 1 hts (lw_V q3056 q3058 qs51 q151 q3059) rfl rfl rfl (by decide +kernel) ⟨Nat.le_of_ble_eq_true rfl, Nat.le_of_ble_eq_true rfl⟩) (g_recv hK I (g_at.of mG_obj) (ci := 4) rfl) rfl hl.1 rfl (Nat.le_of_ble_eq_true rfl) dX5_why_17 ⟨Nat.le_of_ble_eq_true rfl, Nat.le_of_ble_eq_true rfl⟩) I (fun r_17 ph1 H locs hp I => ?_)
      obtain ⟨hp, rfl⟩ := hp
      have hp : r_17 = 0 := hp
      subst hp
      have I : g_I Γ (mG Γ mo ad (upd f 0 1) a rr ph) s H locs := I
      exact g_iret S hr hlk I dX5_why_20 (Nat.le_of_ble_eq_true rfl) (Nat.le_of_ble_eq_true rfl) hQ ⟨_, rfl, (by (try simp only [p_4, p_12]); (try simp [m_hin, upd, p_4, p_12])), (by (try simp only [p_4, p_12]); (try simp [m_hin, upd, p_4, p_12]))⟩

set_option maxHeartbeats 4000000 in
set_option maxRecDepth 100000 in
theorem met_X5_wearOf (l : Launch) (Γ : g_C) (mo : Nat) (ad : Nat → Nat) (f : Nat → Int32) (a : Nat → Nat → Int32) (rr : Nat → UInt32) (ph : g_H) (p0 : Int32) (p1 : Int32) (hw : WF (a 5)) (h0 : vp_in p0 20) : g_Met l yX5_wearOf (ws_ yX5_wearOf cX5_wearOf 5 (some .int)) (g_rm 4 0 0) Γ [.ref mo, .int p0, .int p1] (mG Γ mo ad f a rr ph) (g_oi (fun v ph' => v = (wearO (a 5) p0 p1) ∧ ph' = mG Γ mo ad f a rr ph)) g_no := by
  refine g_start (y := yX5_wearOf) (cc := cX5_wearOf) (maxL := 5) (ret := (some .int)) (rm := g_rm 4 0 0) (by decide) (Nat.le_of_ble_eq_true rfl) ?_
  intro p e s m A below meth c ls Q hQ S hr hlk hex hnm hK I hl
  have hx := S.1
  have hb := S.2.1
  have hown := S.2.2.2.1
  have hts := S.2.2.2.2
  have S : CallFix p m c cX5_wearOf 5 s A lw_all "CrumblingWallModel" := S
  have hl : lv_has ls 5 [(0, .ref mo), (1, .int p0), (2, .int p1)] := hl
  refine lv_aload_n hx hb dX5_wearOf_0 rfl (lv_at hl 0 rfl) ?_
  refine lv_iload_n hx hb dX5_wearOf_1 rfl (lv_at hl 1 rfl) ?_
  refine lv_iconst (v := 2) hx hb dX5_wearOf_2 (by decide) ?_
  refine g_ci (g_runV S hK I (As := [.int p0, .int 2]) (rest := []) (met_X5_ofHold l Γ mo ad f a rr ph p0 2 h0 (vp_lit (by decide))) (cwV 2 hts (lw_V q3064 q3066 qs53 q151 q3067) rfl rfl rfl (by decide +kernel) ⟨Nat.le_of_ble_eq_true rfl, Nat.le_of_ble_eq_true rfl⟩) (g_recv hK I (g_at.of mG_obj) (ci := 4) rfl) rfl hl.1 rfl (Nat.le_of_ble_eq_true rfl) dX5_wearOf_3 ⟨Nat.le_of_ble_eq_true rfl, Nat.le_of_ble_eq_true rfl⟩) I (fun r_3 ph1 H locs hp I => ?_)
  obtain ⟨hp, rfl⟩ := hp
  have hp : r_3 = hX (a 5) p0 2 := hp
  subst hp
  refine lv_istore_n (lv' := [(3, .int (hX (a 5) p0 2)), (0, .ref mo), (1, .int p0), (2, .int p1)]) hx hb dX5_wearOf_6 rfl hl (by decide) rfl (fun ls hl => ?_)
  refine lv_iload_n hx hb dX5_wearOf_7 rfl (lv_at hl 0 rfl) ?_
  refine lv_iconst (v := 3) hx hb dX5_wearOf_8 (by decide) ?_
  have J_29_0 : ∀ (x1 : Int32) (H : Heap) (locs : List Loc) (ls : Array Slot), (hx1 : x1 = (if ¬ hX (a 5) p0 2 = 3 ∧ bits (carr (a 5) p1) = 2 then 1 else 0)) → g_I Γ (mG Γ mo ad f a rr ph) s H locs → lv_has ls 5 [(3, .int (hX (a 5) p0 2)), (0, .ref mo), (1, .int p0), (2, .int p1)] → W p l e (g_rm 4 0 0) s m A below meth c H locs 0 0 Q (F0 m 29 ls [.int x1]) := by
    intro x1 H locs ls hx1 I hl
    subst hx1
    refine lv_istore (lv' := [(4, .int (if ¬ hX (a 5) p0 2 = 3 ∧ bits (carr (a 5) p1) = 2 then 1 else 0)), (3, .int (hX (a 5) p0 2)), (0, .ref mo), (1, .int p0), (2, .int p1)]) hx hb dX5_wearOf_29 hl (by decide) rfl (fun ls hl => ?_)
    refine lv_iload_n hx hb dX5_wearOf_31 rfl (lv_at hl 1 rfl) ?_
    have J_49_1 : ∀ (x2 : Int32) (H : Heap) (locs : List Loc) (ls : Array Slot), (hx2 : x2 = (if hX (a 5) p0 2 = 0 then 1 else if hX (a 5) p0 2 = 2 then 2 else 0)) → g_I Γ (mG Γ mo ad f a rr ph) s H locs → lv_has ls 5 [(4, .int (if ¬ hX (a 5) p0 2 = 3 ∧ bits (carr (a 5) p1) = 2 then 1 else 0)), (3, .int (hX (a 5) p0 2)), (0, .ref mo), (1, .int p0), (2, .int p1)] → W p l e (g_rm 4 0 0) s m A below meth c H locs 0 0 Q (F0 m 49 ls [.int x2]) := by
      intro x2 H locs ls hx2 I hl
      subst hx2
      refine lv_iload hx hb dX5_wearOf_49 (lv_at hl 0 rfl) ?_
      refine lv_iadd hx hb dX5_wearOf_51 ?_
      exact g_iret S hr hlk I dX5_wearOf_52 (Nat.le_of_ble_eq_true rfl) (Nat.le_of_ble_eq_true rfl) hQ ⟨_, rfl, rfl, rfl⟩
    refine lv_if_ne (tgt := 39) hx hb dX5_wearOf_32 (by decide) (fun c_32 => ?_) (fun c_32 => ?_)
    · refine lv_iload_n hx hb dX5_wearOf_39 rfl (lv_at hl 1 rfl) ?_
      refine lv_iconst (v := 2) hx hb dX5_wearOf_40 (by decide) ?_
      refine lv_icmp_ne (tgt := 48) hx hb dX5_wearOf_41 (by decide) (fun c_41 => ?_) (fun c_41 => ?_)
      · refine lv_iconst (v := 0) hx hb dX5_wearOf_48 (by decide) ?_
        exact J_49_1 0 _ _ _ (by simp [c_32, c_41]) I (lv_sub hl [0, 1, 2, 3, 4] rfl)
      · refine lv_iconst (v := 2) hx hb dX5_wearOf_44 (by decide) ?_
        refine lv_goto (tgt := 49) hx hb dX5_wearOf_45 (by decide) ?_
        exact J_49_1 2 _ _ _ (by simp [c_32, c_41]) I (lv_sub hl [0, 1, 2, 3, 4] rfl)
    · refine lv_iconst (v := 1) hx hb dX5_wearOf_35 (by decide) ?_
      refine lv_goto (tgt := 49) hx hb dX5_wearOf_36 (by decide) ?_
      exact J_49_1 1 _ _ _ (by simp [c_32]) I (lv_sub hl [0, 1, 2, 3, 4] rfl)
  refine lv_icmp_eq (tgt := 28) hx hb dX5_wearOf_9 (by decide) (fun c_9 => ?_) (fun c_9 => ?_)
  · refine lv_iconst (v := 0) hx hb dX5_wearOf_28 (by decide) ?_
    exact J_29_0 0 _ _ _ (by simp [c_9]) I (lv_sub hl [0, 1, 2, 3] rfl)
  · refine lv_aload_n hx hb dX5_wearOf_12 rfl (lv_at hl 1 rfl) ?_
    refine lv_iload_n hx hb dX5_wearOf_13 rfl (lv_at hl 3 rfl) ?_
    refine g_ci (g_runV S hK I (As := [.int p1]) (rest := []) (met_X5_carried l Γ mo ad f a rr ph p1 hw) (cwV 1 hts (lw_V q3220 q3222 qs78 q151 q3223) rfl rfl rfl (by decide +kernel) ⟨Nat.le_of_ble_eq_true rfl, Nat.le_of_ble_eq_true rfl⟩) (g_recv hK I (g_at.of mG_obj) (ci := 4) rfl) rfl hl.1 rfl (Nat.le_of_ble_eq_true rfl) dX5_wearOf_14 ⟨Nat.le_of_ble_eq_true rfl, Nat.le_of_ble_eq_true rfl⟩) I (fun r_14 ph1 H locs hp I => ?_)
    obtain ⟨hp, rfl⟩ := hp
    have hp : r_14 = carr (a 5) p1 := hp
    subst hp
    refine g_ci (g_runS S hK I (As := [.int (carr (a 5) p1)]) (rest := []) (met_X5_bits l Γ (mG Γ mo ad f a rr ph) (carr (a 5) p1)) (va_cwS 1 hts (lw_S q3240 q3241 q151 q3242) rfl rfl rfl (by decide +kernel) ⟨Nat.le_of_ble_eq_true rfl, Nat.le_of_ble_eq_true rfl⟩) rfl hl.1 rfl (Nat.le_of_ble_eq_true rfl) dX5_wearOf_17 ⟨Nat.le_of_ble_eq_true rfl, Nat.le_of_ble_eq_true rfl⟩) I (fun r_17 ph1 H locs hp I => ?_)
    obtain ⟨hp, rfl⟩ := hp
    have hp : r_17 = bits (carr (a 5) p1) := hp
    subst hp
    refine lv_iconst (v := 2) hx hb dX5_wearOf_20 (by decide) ?_
    refine lv_icmp_ne (tgt := 28) hx hb dX5_wearOf_21 (by decide) (fun c_21 => ?_) (fun c_21 => ?_)
    · refine lv_iconst (v := 0) hx hb dX5_wearOf_28 (by decide) ?_
      exact J_29_0 0 _ _ _ (by simp [c_9, c_21]) I (lv_sub hl [0, 1, 2, 3] rfl)
    · refine lv_iconst (v := 1) hx hb dX5_wearOf_24 (by decide) ?_
      refine lv_goto (tgt := 29) hx hb dX5_wearOf_25 (by decide) ?_
      exact J_29_0 1 _ _ _ (by simp [c_9, c_21]) I (lv_sub hl [0, 1, 2, 3] rfl)

set_option maxHeartbeats 4000000 in
set_option maxRecDepth 100000 in
theorem met_X5_takesOut (l : Launch) (Γ : g_C) (mo : Nat) (ad : Nat → Nat) (f : Nat → Int32) (a : Nat → Nat → Int32) (rr : Nat → UInt32) (ph : g_H) (p0 : Int32) (hw : WF (a 5)) : g_Met l yX5_takesOut (ws_ yX5_takesOut cX5_takesOut 4 none) (g_rm 1 0 0) Γ [.ref mo, .int p0] (mG Γ mo ad f a rr ph) (g_ov (fun ph' => ph' = mG Γ mo ad f (va_up a 5 (tkW (a 5) p0)) rr ph)) g_no := by
  refine g_start (y := yX5_takesOut) (cc := cX5_takesOut) (maxL := 4) (ret := none) (rm := g_rm 1 0 0) (by decide) (Nat.le_of_ble_eq_true rfl) ?_
  intro p e s m A below meth c ls Q hQ S hr hlk hex hnm hK I hl
  have hx := S.1
  have hb := S.2.1
  have hown := S.2.2.2.1
  have hts := S.2.2.2.2
  have S : CallFix p m c cX5_takesOut 4 s A lw_all "CrumblingWallModel" := S
  have hl : lv_has ls 4 [(0, .ref mo), (1, .int p0)] := hl
  refine lv_iconst (v := 0) hx hb dX5_takesOut_0 (by decide) ?_
  refine lv_istore_n (lv' := [(2, .int 0), (0, .ref mo), (1, .int p0)]) hx hb dX5_takesOut_1 rfl hl (by decide) rfl (fun ls hl => ?_)
  refine lv_iconst (v := 0) hx hb dX5_takesOut_2 (by decide) ?_
  refine lv_istore_n (lv' := [(3, .int 0), (2, .int 0), (0, .ref mo), (1, .int p0)]) hx hb dX5_takesOut_3 rfl hl (by decide) rfl (fun ls hl => ?_)
  have I := mI_ea I (va_upI a 5 (v := a 5) rfl).symm
  have L_4 : ∀ (d : Nat) (k : Nat) (n : Nat) (w1 : m_w), (hk : k ≤ nAn (a 5)) → (h1 : tkN (a 5) p0 k = (w1, n)) → nAn (a 5) - k < d → ∀ (H : Heap) (locs : List Loc) (ls : Array Slot), g_I Γ (mG Γ mo ad f (va_up a 5 w1) rr ph) s H locs → lv_has ls 4 [(0, .ref mo), (1, .int p0), (2, .int (nI n)), (3, .int (nI k))] → W p l e (g_rm 1 0 0) s m A below meth c H locs 0 0 Q (F0 m 4 ls []) := by
    intro d
    induction d with
    | zero => intro k n w1 hk h1 hd; exact absurd hd (Nat.not_lt_zero _)
    | succ d ih =>
      intro k n w1 hk h1 hd H locs ls I hl
      refine lv_iload_n hx hb dX5_takesOut_4 rfl (lv_at hl 3 rfl) ?_
      refine lv_aload_n hx hb dX5_takesOut_5 rfl (lv_at hl 0 rfl) ?_
      refine g_get S hK I k_X5 (v := .ref (ad 5)) (g_at.of mG_obj) 5 (by decide) q2957 rfl rfl dX5_takesOut_6 ?_
      refine lv_sipush (v := 131) hx hb dX5_takesOut_9 (by decide) ?_
      refine m_iald S hK I (f := w1) (k := 131) (g_at.of mG_5) (vp_lit (by decide)) (by decide) dX5_takesOut_12 ?_
      refine lv_icmp_ge (tgt := 62) hx hb dX5_takesOut_13 (by decide) (fun c_13 => ?_) (fun c_13 => ?_)
      · have n_13 := Int32.not_lt.mpr c_13
        obtain rfl : k = nAn (a 5) := k_ge (by rw [(tk_131 h1).1]; exact hw.2.2.1.1) (wf_le8 hw) hk c_13
        refine lv_aload_n hx hb dX5_takesOut_62 rfl (lv_at hl 0 rfl) ?_
        refine g_get S hK I k_X5 (v := .ref (ad 5)) (g_at.of mG_obj) 5 (by decide) q2957 rfl rfl dX5_takesOut_63 ?_
        refine lv_sipush (v := 131) hx hb dX5_takesOut_66 (by decide) ?_
        refine lv_iload_n hx hb dX5_takesOut_69 rfl (lv_at hl 2 rfl) ?_
        refine m_iast S hK I (f := w1) (k := 131) mG_5 (vp_lit (by decide)) (by decide) dX5_takesOut_70 (fun H locs I => ?_)
        have I := mI_5 I
        rw [bx_uu] at I
        exact g_vret S hr hlk I dX5_takesOut_71 (Nat.le_of_ble_eq_true rfl) (Nat.le_of_ble_eq_true rfl) hQ ⟨rfl, (by rw [tk_end h1])⟩
      · have n_13 := Int32.not_le.mp c_13
        have hkl : k < nAn (a 5) := k_lt (by rw [(tk_131 h1).1]; exact hw.2.2.1.1) (wf_le8 hw) hk c_13
        have hk8 : k < 8 := Nat.lt_of_lt_of_le hkl hw.2.2.1.2
        have hn8 : n < 8 := Nat.lt_of_le_of_lt (tk_131 h1).2 hk8
        refine lv_aload_n hx hb dX5_takesOut_16 rfl (lv_at hl 0 rfl) ?_
        refine g_get S hK I k_X5 (v := .ref (ad 5)) (g_at.of mG_obj) 5 (by decide) q2957 rfl rfl dX5_takesOut_17 ?_
        refine lv_sipush (v := 132) hx hb dX5_takesOut_20 (by decide) ?_
        refine lv_iload_n hx hb dX5_takesOut_23 rfl (lv_at hl 3 rfl) ?_
        refine lv_iadd hx hb dX5_takesOut_24 ?_
        refine m_iald S hK I (f := w1) (k := (132 + k)) (g_at.of mG_5) (ix_k0 hk8).1 (ix_k0 hk8).2 dX5_takesOut_25 ?_
        refine lv_iload_n hx hb dX5_takesOut_26 rfl (lv_at hl 1 rfl) ?_
        refine lv_icmp_ne (tgt := 33) hx hb dX5_takesOut_27 (by decide) (fun c_27 => ?_) (fun c_27 => ?_)
        · refine lv_aload_n hx hb dX5_takesOut_33 rfl (lv_at hl 0 rfl) ?_
          refine g_get S hK I k_X5 (v := .ref (ad 5)) (g_at.of mG_obj) 5 (by decide) q2957 rfl rfl dX5_takesOut_34 ?_
          refine lv_sipush (v := 132) hx hb dX5_takesOut_37 (by decide) ?_
          refine lv_iload_n hx hb dX5_takesOut_40 rfl (lv_at hl 2 rfl) ?_
          refine lv_iadd hx hb dX5_takesOut_41 ?_
          refine lv_aload_n hx hb dX5_takesOut_42 rfl (lv_at hl 0 rfl) ?_
          refine g_get S hK I k_X5 (v := .ref (ad 5)) (g_at.of mG_obj) 5 (by decide) q2957 rfl rfl dX5_takesOut_43 ?_
          refine lv_sipush (v := 132) hx hb dX5_takesOut_46 (by decide) ?_
          refine lv_iload_n hx hb dX5_takesOut_49 rfl (lv_at hl 3 rfl) ?_
          refine lv_iadd hx hb dX5_takesOut_50 ?_
          refine m_iald S hK I (f := w1) (k := (132 + k)) (g_at.of mG_5) (ix_k0 hk8).1 (ix_k0 hk8).2 dX5_takesOut_51 ?_
          refine m_iast S hK I (f := w1) (k := (132 + n)) mG_5 (ix_k0 hn8).1 (ix_k0 hn8).2 dX5_takesOut_52 (fun H locs I => ?_)
          have I := mI_5 I
          rw [bx_uu] at I
          refine lv_iinc (v := nI (n + 1)) (lv' := [(2, .int (nI (n + 1))), (0, .ref mo), (1, .int p0), (3, .int (nI k))]) hx hb dX5_takesOut_53 hl (k := 2) rfl (nI_1 n) (by decide) rfl (fun ls hl => ?_)
          refine lv_iinc (v := nI (k + 1)) (lv' := [(3, .int (nI (k + 1))), (2, .int (nI (n + 1))), (0, .ref mo), (1, .int p0)]) hx hb dX5_takesOut_56 hl (k := 3) rfl (nI_1 k) (by decide) rfl (fun ls hl => ?_)
          refine lv_goto (tgt := 4) hx hb dX5_takesOut_59 (by decide) ?_
          exact ih (k + 1) (n + 1) (upd w1 (132 + n) (w1 (132 + k))) hkl (tk_take h1 c_27) (by omega) _ _ _ I (lv_sub hl [2, 3, 1, 0] rfl)
        · refine lv_goto (tgt := 56) hx hb dX5_takesOut_30 (by decide) ?_
          refine lv_iinc (v := nI (k + 1)) (lv' := [(3, .int (nI (k + 1))), (0, .ref mo), (1, .int p0), (2, .int (nI n))]) hx hb dX5_takesOut_56 hl (k := 3) rfl (nI_1 k) (by decide) rfl (fun ls hl => ?_)
          refine lv_goto (tgt := 4) hx hb dX5_takesOut_59 (by decide) ?_
          exact ih (k + 1) n w1 hkl (tk_skip h1 c_27) (by omega) _ _ _ I (lv_sub hl [1, 2, 3, 0] rfl)
  exact L_4 _ 0 0 (a 5) (Nat.zero_le _) rfl (Nat.lt_succ_self _) _ _ _ I (lv_sub hl [2, 3, 1, 0] rfl)

set_option maxHeartbeats 4000000 in
set_option maxRecDepth 100000 in
theorem met_X5_clips (l : Launch) (Γ : g_C) (mo : Nat) (ad : Nat → Nat) (f : Nat → Int32) (a : Nat → Nat → Int32) (rr : Nat → UInt32) (ph : g_H)  (hw : WF (a 5)) : g_Met l yX5_clips (ws_ yX5_clips cX5_clips 1 none) (g_rm 3 0 0) Γ [.ref mo] (mG Γ mo ad f a rr ph) (g_ov (fun ph' => ph' = mG Γ mo ad f (va_up a 5 (clipW (a 5))) rr ph)) g_no := by
  refine g_start (y := yX5_clips) (cc := cX5_clips) (maxL := 1) (ret := none) (rm := g_rm 3 0 0) (by decide) (Nat.le_of_ble_eq_true rfl) ?_
  intro p e s m A below meth c ls Q hQ S hr hlk hex hnm hK I hl
  have hx := S.1
  have hb := S.2.1
  have hown := S.2.2.2.1
  have hts := S.2.2.2.2
  have S : CallFix p m c cX5_clips 1 s A lw_all "CrumblingWallModel" := S
  have hl : lv_has ls 1 [(0, .ref mo)] := hl
  refine lv_aload_n hx hb dX5_clips_0 rfl (lv_at hl 0 rfl) ?_
  refine g_get S hK I k_X5 (v := .ref (ad 5)) (g_at.of mG_obj) 5 (by decide) q2957 rfl rfl dX5_clips_1 ?_
  refine lv_sipush (v := 132) hx hb dX5_clips_4 (by decide) ?_
  refine lv_aload_n hx hb dX5_clips_7 rfl (lv_at hl 0 rfl) ?_
  refine g_get S hK I k_X5 (v := .ref (ad 5)) (g_at.of mG_obj) 5 (by decide) q2957 rfl rfl dX5_clips_8 ?_
  refine lv_sipush (v := 131) hx hb dX5_clips_11 (by decide) ?_
  refine m_iald S hK I (f := (a 5)) (k := 131) (g_at.of mG_5) (vp_lit (by decide)) (by decide) dX5_clips_14 ?_
  refine lv_iadd hx hb dX5_clips_15 ?_
  refine lv_aload_n hx hb dX5_clips_16 rfl (lv_at hl 0 rfl) ?_
  refine lv_iconst (v := 0) hx hb dX5_clips_17 (by decide) ?_
  refine g_ci (g_runV S hK I (As := [.int 0]) (rest := [.int (132 + ((a 5) 131)), .ref (ad 5)]) (met_X5_place l Γ mo ad f a rr ph 0 (vp_lit (by decide))) (cwV 1 hts (lw_V q3095 q3097 qs59 q151 q3098) rfl rfl rfl (by decide +kernel) ⟨Nat.le_of_ble_eq_true rfl, Nat.le_of_ble_eq_true rfl⟩) (g_recv hK I (g_at.of mG_obj) (ci := 4) rfl) rfl hl.1 rfl (Nat.le_of_ble_eq_true rfl) dX5_clips_18 ⟨Nat.le_of_ble_eq_true rfl, Nat.le_of_ble_eq_true rfl⟩) I (fun r_18 ph1 H locs hp I => ?_)
  obtain ⟨hp, rfl⟩ := hp
  have hp : r_18 = plc (a 5) 0 := hp
  subst hp
  refine m_iast S hK I (f := (a 5)) (k := (132 + nAn (a 5))) mG_5 (wA_n hw).1 (wA_n hw).2 dX5_clips_21 (fun H locs I => ?_)
  have I := mI_5 I
  refine lv_aload_n hx hb dX5_clips_22 rfl (lv_at hl 0 rfl) ?_
  refine g_get S hK I k_X5 (v := .ref (ad 5)) (g_at.of mG_obj) 5 (by decide) q2957 rfl rfl dX5_clips_23 ?_
  refine lv_sipush (v := 131) hx hb dX5_clips_26 (by decide) ?_
  refine lv_dup2_11 hx hb dX5_clips_29 rfl rfl ?_
  refine m_iald S hK I (f := (upd (a 5) (132 + nAn (a 5)) (plc (a 5) 0))) (k := 131) (g_at.of mG_5) (vp_lit (by decide)) (by decide) dX5_clips_30 ?_
  refine lv_iconst (v := 1) hx hb dX5_clips_31 (by decide) ?_
  refine lv_iadd hx hb dX5_clips_32 ?_
  refine m_iast S hK I (f := (upd (a 5) (132 + nAn (a 5)) (plc (a 5) 0))) (k := 131) mG_5 (vp_lit (by decide)) (by decide) dX5_clips_33 (fun H locs I => ?_)
  have I := mI_5 I
  rw [bx_uu] at I
  exact g_vret S hr hlk I dX5_clips_34 (Nat.le_of_ble_eq_true rfl) (Nat.le_of_ble_eq_true rfl) hQ ⟨rfl, rfl⟩

theorem un_1 {n : Nat} (h : 0 < n) : nI n - 1 = nI (n - 1) := by
  obtain ⟨m, rfl⟩ : ∃ m, n = m + 1 := ⟨n - 1, by omega⟩
  rw [nI_pred, Nat.add_sub_cancel]
set_option maxHeartbeats 4000000 in
set_option maxRecDepth 100000 in
theorem met_X5_unclips (l : Launch) (Γ : g_C) (mo : Nat) (ad : Nat → Nat) (f : Nat → Int32) (a : Nat → Nat → Int32) (rr : Nat → UInt32) (ph : g_H)  (hw : WF (a 5)) (h1 : 0 < nAn (a 5)) : g_Met l yX5_unclips (ws_ yX5_unclips cX5_unclips 2 none) (g_rm 1 0 0) Γ [.ref mo] (mG Γ mo ad f a rr ph) (g_ov (fun ph' => ph' = mG Γ mo ad f (va_up a 5 (unclW (a 5))) rr ph)) g_no := by
  refine g_start (y := yX5_unclips) (cc := cX5_unclips) (maxL := 2) (ret := none) (rm := g_rm 1 0 0) (by decide) (Nat.le_of_ble_eq_true rfl) ?_
  intro p e s m A below meth c ls Q hQ S hr hlk hex hnm hK I hl
  have hx := S.1
  have hb := S.2.1
  have hown := S.2.2.2.1
  have hts := S.2.2.2.2
  have S : CallFix p m c cX5_unclips 2 s A lw_all "CrumblingWallModel" := S
  have hl : lv_has ls 2 [(0, .ref mo)] := hl
  refine lv_aload_n hx hb dX5_unclips_0 rfl (lv_at hl 0 rfl) ?_
  refine g_get S hK I k_X5 (v := .ref (ad 5)) (g_at.of mG_obj) 5 (by decide) q2957 rfl rfl dX5_unclips_1 ?_
  refine lv_sipush (v := 131) hx hb dX5_unclips_4 (by decide) ?_
  refine lv_dup2_11 hx hb dX5_unclips_7 rfl rfl ?_
  refine m_iald S hK I (f := (a 5)) (k := 131) (g_at.of mG_5) (vp_lit (by decide)) (by decide) dX5_unclips_8 ?_
  refine lv_iconst (v := 1) hx hb dX5_unclips_9 (by decide) ?_
  refine lv_isub hx hb dX5_unclips_10 ?_
  refine m_iast S hK I (f := (a 5)) (k := 131) mG_5 (vp_lit (by decide)) (by decide) dX5_unclips_11 (fun H locs I => ?_)
  have I := mI_5 I
  refine lv_iconst (v := 0) hx hb dX5_unclips_12 (by decide) ?_
  refine lv_istore_n (lv' := [(1, .int 0), (0, .ref mo)]) hx hb dX5_unclips_13 rfl hl (by decide) rfl (fun ls hl => ?_)
  have L_14 : ∀ (d : Nat) (k : Nat), (hk : k ≤ nAn (a 5) - 1) → nAn (a 5) - 1 - k < d → ∀ (H : Heap) (locs : List Loc) (ls : Array Slot), g_I Γ (mG Γ mo ad f (va_up a 5 (shN (upd (a 5) 131 ((a 5) 131 - 1)) k)) rr ph) s H locs → lv_has ls 2 [(0, .ref mo), (1, .int (nI k))] → W p l e (g_rm 1 0 0) s m A below meth c H locs 0 0 Q (F0 m 14 ls []) := by
    intro d
    induction d with
    | zero => intro k hk hd; exact absurd hd (Nat.not_lt_zero _)
    | succ d ih =>
      intro k hk hd H locs ls I hl
      refine lv_iload_n hx hb dX5_unclips_14 rfl (lv_at hl 1 rfl) ?_
      refine lv_aload_n hx hb dX5_unclips_15 rfl (lv_at hl 0 rfl) ?_
      refine g_get S hK I k_X5 (v := .ref (ad 5)) (g_at.of mG_obj) 5 (by decide) q2957 rfl rfl dX5_unclips_16 ?_
      refine lv_sipush (v := 131) hx hb dX5_unclips_19 (by decide) ?_
      refine m_iald S hK I (f := (shN (upd (a 5) 131 ((a 5) 131 - 1)) k)) (k := 131) (g_at.of mG_5) (vp_lit (by decide)) (by decide) dX5_unclips_22 ?_
      refine lv_icmp_ge (tgt := 54) hx hb dX5_unclips_23 (by decide) (fun c_23 => ?_) (fun c_23 => ?_)
      · have n_23 := Int32.not_lt.mpr c_23
        obtain rfl : k = nAn (a 5) - 1 := k_ge (by rw [shN_n (by omega), upd_s, hw.2.2.1.1]; exact un_1 h1) (by have := hw.2.2.1.2; omega) hk c_23
        exact g_vret S hr hlk I dX5_unclips_54 (Nat.le_of_ble_eq_true rfl) (Nat.le_of_ble_eq_true rfl) hQ ⟨rfl, rfl⟩
      · have n_23 := Int32.not_le.mp c_23
        have hkl : k < nAn (a 5) - 1 := k_lt (by rw [shN_n (by omega), upd_s, hw.2.2.1.1]; exact un_1 h1) (by have := hw.2.2.1.2; omega) hk c_23
        have hk8 : k < 8 := by have := hw.2.2.1.2; omega
        refine lv_aload_n hx hb dX5_unclips_26 rfl (lv_at hl 0 rfl) ?_
        refine g_get S hK I k_X5 (v := .ref (ad 5)) (g_at.of mG_obj) 5 (by decide) q2957 rfl rfl dX5_unclips_27 ?_
        refine lv_sipush (v := 132) hx hb dX5_unclips_30 (by decide) ?_
        refine lv_iload_n hx hb dX5_unclips_33 rfl (lv_at hl 1 rfl) ?_
        refine lv_iadd hx hb dX5_unclips_34 ?_
        refine lv_aload_n hx hb dX5_unclips_35 rfl (lv_at hl 0 rfl) ?_
        refine g_get S hK I k_X5 (v := .ref (ad 5)) (g_at.of mG_obj) 5 (by decide) q2957 rfl rfl dX5_unclips_36 ?_
        refine lv_sipush (v := 132) hx hb dX5_unclips_39 (by decide) ?_
        refine lv_iload_n hx hb dX5_unclips_42 rfl (lv_at hl 1 rfl) ?_
        refine lv_iadd hx hb dX5_unclips_43 ?_
        refine lv_iconst (v := 1) hx hb dX5_unclips_44 (by decide) ?_
        refine lv_iadd hx hb dX5_unclips_45 ?_
        refine m_iald S hK I (f := (shN (upd (a 5) 131 ((a 5) 131 - 1)) k)) (k := (132 + k + 1)) (g_at.of mG_5) (ix_k1 hk8).1 (ix_k1 hk8).2 dX5_unclips_46 ?_
        refine m_iast S hK I (f := (shN (upd (a 5) 131 ((a 5) 131 - 1)) k)) (k := (132 + k)) mG_5 (ix_k0 hk8).1 (ix_k0 hk8).2 dX5_unclips_47 (fun H locs I => ?_)
        have I := mI_5 I
        rw [bx_uu] at I
        refine lv_iinc (v := nI (k + 1)) (lv' := [(1, .int (nI (k + 1))), (0, .ref mo)]) hx hb dX5_unclips_48 hl (k := 1) rfl (nI_1 k) (by decide) rfl (fun ls hl => ?_)
        refine lv_goto (tgt := 14) hx hb dX5_unclips_51 (by decide) ?_
        exact ih (k + 1) hkl (by omega) _ _ _ I (lv_sub hl [1, 0] rfl)
  exact L_14 _ 0 (Nat.zero_le _) (Nat.lt_succ_self _) _ _ _ I (lv_sub hl [1, 0] rfl)

set_option maxHeartbeats 4000000 in
set_option maxRecDepth 100000 in
theorem met_X5_followerFalls (l : Launch) (Γ : g_C) (mo : Nat) (ad : Nat → Nat) (f : Nat → Int32) (a : Nat → Nat → Int32) (rr : Nat → UInt32) (ph : g_H)  (hw : WF (a 5)) : g_Met l yX5_followerFalls (ws_ yX5_followerFalls cX5_followerFalls 1 none) (g_rm 5 0 0) Γ [.ref mo] (mG Γ mo ad f a rr ph) (g_ov (fun ph' => ph' = mG Γ mo ad f (va_up a 5 (folF (a 5))) rr ph)) g_no := by
  refine g_start (y := yX5_followerFalls) (cc := cX5_followerFalls) (maxL := 1) (ret := none) (rm := g_rm 5 0 0) (by decide) (Nat.le_of_ble_eq_true rfl) ?_
  intro p e s m A below meth c ls Q hQ S hr hlk hex hnm hK I hl
  have hx := S.1
  have hb := S.2.1
  have hown := S.2.2.2.1
  have hts := S.2.2.2.2
  have S : CallFix p m c cX5_followerFalls 1 s A lw_all "CrumblingWallModel" := S
  have hl : lv_has ls 1 [(0, .ref mo)] := hl
  refine lv_aload_n hx hb dX5_followerFalls_0 rfl (lv_at hl 0 rfl) ?_
  refine lv_iconst (v := 0) hx hb dX5_followerFalls_1 (by decide) ?_
  refine g_ci (g_runV S hK I (As := [.int 0]) (rest := []) (met_X5_isSecure l Γ mo ad f a rr ph 0 hw (vp_lit (by decide))) (cwV 1 hts (lw_V q3224 q3226 qs79 q151 q3227) rfl rfl rfl (by decide +kernel) ⟨Nat.le_of_ble_eq_true rfl, Nat.le_of_ble_eq_true rfl⟩) (g_recv hK I (g_at.of mG_obj) (ci := 4) rfl) rfl hl.1 rfl (Nat.le_of_ble_eq_true rfl) dX5_followerFalls_2 ⟨Nat.le_of_ble_eq_true rfl, Nat.le_of_ble_eq_true rfl⟩) I (fun r_2 ph1 H locs hp I => ?_)
  obtain ⟨hp, rfl⟩ := hp
  have hp : r_2 = b2i (isSe (a 5) 0) := hp
  subst hp
  refine lv_if_eq (tgt := 35) hx hb dX5_followerFalls_5 (by decide) (fun c_5 => ?_) (fun c_5 => ?_)
  · have p_5 := (b2i_eq0 _).mp c_5
    refine lv_aload_n hx hb dX5_followerFalls_35 rfl (lv_at hl 0 rfl) ?_
    refine lv_iconst (v := 1) hx hb dX5_followerFalls_36 (by decide) ?_
    refine g_cv (g_runV S hK I (As := [.int 1]) (rest := []) (met_X5_toGround l Γ mo ad f a rr ph 1 hw (vp_lit (by decide))) (cwV 1 hts (lw_V q3271 q3273 qs89 q151 q3274) rfl rfl rfl (by decide +kernel) ⟨Nat.le_of_ble_eq_true rfl, Nat.le_of_ble_eq_true rfl⟩) (g_recv hK I (g_at.of mG_obj) (ci := 4) rfl) rfl hl.1 rfl (Nat.le_of_ble_eq_true rfl) dX5_followerFalls_37 ⟨Nat.le_of_ble_eq_true rfl, Nat.le_of_ble_eq_true rfl⟩) I (fun ph1 H locs hp I => ?_)
    subst hp
    have I : g_I Γ (mG Γ mo ad f (va_up a 5 (toGr (a 5) 1)) rr ph) s H locs := I
    exact g_vret S hr hlk I dX5_followerFalls_40 (Nat.le_of_ble_eq_true rfl) (Nat.le_of_ble_eq_true rfl) hQ ⟨rfl, (by rw [show folF (a 5) = toGr (a 5) 1 from if_neg (fun q => absurd q.1 (by rw [p_5]; decide))])⟩
  · have p_5 := (b2i_ne0 _).mp c_5
    refine lv_aload_n hx hb dX5_followerFalls_8 rfl (lv_at hl 0 rfl) ?_
    refine g_get S hK I k_X5 (v := .ref (ad 5)) (g_at.of mG_obj) 5 (by decide) q2957 rfl rfl dX5_followerFalls_9 ?_
    refine lv_sipush (v := 131) hx hb dX5_followerFalls_12 (by decide) ?_
    refine m_iald S hK I (f := (a 5)) (k := 131) (g_at.of mG_5) (vp_lit (by decide)) (by decide) dX5_followerFalls_15 ?_
    refine lv_if_le (tgt := 35) hx hb dX5_followerFalls_16 (by decide) (fun c_16 => ?_) (fun c_16 => ?_)
    · have n_16 := Int32.not_lt.mpr c_16
      refine lv_aload_n hx hb dX5_followerFalls_35 rfl (lv_at hl 0 rfl) ?_
      refine lv_iconst (v := 1) hx hb dX5_followerFalls_36 (by decide) ?_
      refine g_cv (g_runV S hK I (As := [.int 1]) (rest := []) (met_X5_toGround l Γ mo ad f a rr ph 1 hw (vp_lit (by decide))) (cwV 1 hts (lw_V q3271 q3273 qs89 q151 q3274) rfl rfl rfl (by decide +kernel) ⟨Nat.le_of_ble_eq_true rfl, Nat.le_of_ble_eq_true rfl⟩) (g_recv hK I (g_at.of mG_obj) (ci := 4) rfl) rfl hl.1 rfl (Nat.le_of_ble_eq_true rfl) dX5_followerFalls_37 ⟨Nat.le_of_ble_eq_true rfl, Nat.le_of_ble_eq_true rfl⟩) I (fun ph1 H locs hp I => ?_)
      subst hp
      have I : g_I Γ (mG Γ mo ad f (va_up a 5 (toGr (a 5) 1)) rr ph) s H locs := I
      exact g_vret S hr hlk I dX5_followerFalls_40 (Nat.le_of_ble_eq_true rfl) (Nat.le_of_ble_eq_true rfl) hQ ⟨rfl, (by rw [show folF (a 5) = toGr (a 5) 1 from if_neg (fun q => n_16 q.2)])⟩
    · have n_16 := Int32.not_le.mp c_16
      refine lv_aload_n hx hb dX5_followerFalls_19 rfl (lv_at hl 0 rfl) ?_
      refine lv_iconst (v := 1) hx hb dX5_followerFalls_20 (by decide) ?_
      refine lv_aload_n hx hb dX5_followerFalls_21 rfl (lv_at hl 0 rfl) ?_
      refine g_get S hK I k_X5 (v := .ref (ad 5)) (g_at.of mG_obj) 5 (by decide) q2957 rfl rfl dX5_followerFalls_22 ?_
      refine lv_sipush (v := 132) hx hb dX5_followerFalls_25 (by decide) ?_
      refine m_iald S hK I (f := (a 5)) (k := 132) (g_at.of mG_5) (vp_lit (by decide)) (by decide) dX5_followerFalls_28 ?_
      refine g_cv (g_runV S hK I (As := [.int 1, .int ((a 5) 132)]) (rest := []) (met_X5_hangs l Γ mo ad f a rr ph 1 ((a 5) 132) (vp_lit (by decide))) (cwV 2 hts (lw_V q3281 q3283 qs91 q151 q3284) rfl rfl rfl (by decide +kernel) ⟨Nat.le_of_ble_eq_true rfl, Nat.le_of_ble_eq_true rfl⟩) (g_recv hK I (g_at.of mG_obj) (ci := 4) rfl) rfl hl.1 rfl (Nat.le_of_ble_eq_true rfl) dX5_followerFalls_29 ⟨Nat.le_of_ble_eq_true rfl, Nat.le_of_ble_eq_true rfl⟩) I (fun ph1 H locs hp I => ?_)
      subst hp
      have I : g_I Γ (mG Γ mo ad f (va_up a 5 (hangW (a 5) 1 ((a 5) 132))) rr ph) s H locs := I
      refine lv_goto (tgt := 40) hx hb dX5_followerFalls_32 (by decide) ?_
      exact g_vret S hr hlk I dX5_followerFalls_40 (Nat.le_of_ble_eq_true rfl) (Nat.le_of_ble_eq_true rfl) hQ ⟨rfl, (by rw [show folF (a 5) = hangW (a 5) 1 (a 5 132) from if_pos ⟨p_5, n_16⟩])⟩

set_option maxHeartbeats 4000000 in
set_option maxRecDepth 100000 in
theorem met_X5_rests (l : Launch) (Γ : g_C) (mo : Nat) (ad : Nat → Nat) (f : Nat → Int32) (a : Nat → Nat → Int32) (rr : Nat → UInt32) (ph : g_H) (p0 : Int32) (hw : WF (a 5)) (h0 : vp_in p0 2) : g_Met l yX5_rests (ws_ yX5_rests cX5_rests 2 none) (g_rm 4 0 0) Γ [.ref mo, .int p0] (mG Γ mo ad f a rr ph) (g_ov (fun ph' => ph' = mG Γ mo ad f (va_up a 5 (restW (a 5) p0)) rr ph)) g_no := by
  refine g_start (y := yX5_rests) (cc := cX5_rests) (maxL := 2) (ret := none) (rm := g_rm 4 0 0) (by decide) (Nat.le_of_ble_eq_true rfl) ?_
  intro p e s m A below meth c ls Q hQ S hr hlk hex hnm hK I hl
  have hx := S.1
  have hb := S.2.1
  have hown := S.2.2.2.1
  have hts := S.2.2.2.2
  have S : CallFix p m c cX5_rests 2 s A lw_all "CrumblingWallModel" := S
  have hl : lv_has ls 2 [(0, .ref mo), (1, .int p0)] := hl
  refine lv_aload_n hx hb dX5_rests_0 rfl (lv_at hl 0 rfl) ?_
  refine lv_iload_n hx hb dX5_rests_1 rfl (lv_at hl 1 rfl) ?_
  refine lv_iconst (v := 2) hx hb dX5_rests_2 (by decide) ?_
  refine lv_aload_n hx hb dX5_rests_3 rfl (lv_at hl 0 rfl) ?_
  refine lv_aload_n hx hb dX5_rests_4 rfl (lv_at hl 0 rfl) ?_
  refine lv_iload_n hx hb dX5_rests_5 rfl (lv_at hl 1 rfl) ?_
  refine g_ci (g_runV S hK I (As := [.int p0]) (rest := [.ref mo, .int 2, .int p0, .ref mo]) (met_X5_place l Γ mo ad f a rr ph p0 h0) (cwV 1 hts (lw_V q3095 q3097 qs59 q151 q3098) rfl rfl rfl (by decide +kernel) ⟨Nat.le_of_ble_eq_true rfl, Nat.le_of_ble_eq_true rfl⟩) (g_recv hK I (g_at.of mG_obj) (ci := 4) rfl) rfl hl.1 rfl (Nat.le_of_ble_eq_true rfl) dX5_rests_6 ⟨Nat.le_of_ble_eq_true rfl, Nat.le_of_ble_eq_true rfl⟩) I (fun r_6 ph1 H locs hp I => ?_)
  obtain ⟨hp, rfl⟩ := hp
  have hp : r_6 = plc (a 5) p0 := hp
  subst hp
  refine lv_aload_n hx hb dX5_rests_9 rfl (lv_at hl 0 rfl) ?_
  refine lv_iload_n hx hb dX5_rests_10 rfl (lv_at hl 1 rfl) ?_
  refine lv_iconst (v := 2) hx hb dX5_rests_11 (by decide) ?_
  refine g_ci (g_runV S hK I (As := [.int p0, .int 2]) (rest := [.int (plc (a 5) p0), .ref mo, .int 2, .int p0, .ref mo]) (met_X5_ofClimber l Γ mo ad f a rr ph p0 2 h0 (vp_lit (by decide))) (cwV 2 hts (lw_V q3099 q3101 qs60 q151 q3102) rfl rfl rfl (by decide +kernel) ⟨Nat.le_of_ble_eq_true rfl, Nat.le_of_ble_eq_true rfl⟩) (g_recv hK I (g_at.of mG_obj) (ci := 4) rfl) rfl hl.1 rfl (Nat.le_of_ble_eq_true rfl) dX5_rests_12 ⟨Nat.le_of_ble_eq_true rfl, Nat.le_of_ble_eq_true rfl⟩) I (fun r_12 ph1 H locs hp I => ?_)
  obtain ⟨hp, rfl⟩ := hp
  have hp : r_12 = cX (a 5) p0 2 := hp
  subst hp
  refine g_ci (g_runV S hK I (As := [.int (plc (a 5) p0), .int (cX (a 5) p0 2)]) (rest := [.int 2, .int p0, .ref mo]) (met_X5_rested l Γ mo ad f a rr ph (plc (a 5) p0) (cX (a 5) p0 2) (br_isPl hw (hw.pl h0))) (cwV 2 hts (lw_V q3301 q3303 qs95 q151 q3304) rfl rfl rfl (by decide +kernel) ⟨Nat.le_of_ble_eq_true rfl, Nat.le_of_ble_eq_true rfl⟩) (g_recv hK I (g_at.of mG_obj) (ci := 4) rfl) rfl hl.1 rfl (Nat.le_of_ble_eq_true rfl) dX5_rests_15 ⟨Nat.le_of_ble_eq_true rfl, Nat.le_of_ble_eq_true rfl⟩) I (fun r_15 ph1 H locs hp I => ?_)
  obtain ⟨hp, rfl⟩ := hp
  have hp : r_15 = resG (a 5) (plc (a 5) p0) (cX (a 5) p0 2) := hp
  subst hp
  refine g_cv (g_runV S hK I (As := [.int p0, .int 2, .int (resG (a 5) (plc (a 5) p0) (cX (a 5) p0 2))]) (rest := []) (met_X5_setClimber l Γ mo ad f a rr ph p0 2 (resG (a 5) (plc (a 5) p0) (cX (a 5) p0 2)) h0 (vp_lit (by decide))) (cwV 3 hts (lw_V q3247 q3249 qs83 q151 q3250) rfl rfl rfl (by decide +kernel) ⟨Nat.le_of_ble_eq_true rfl, Nat.le_of_ble_eq_true rfl⟩) (g_recv hK I (g_at.of mG_obj) (ci := 4) rfl) rfl hl.1 rfl (Nat.le_of_ble_eq_true rfl) dX5_rests_18 ⟨Nat.le_of_ble_eq_true rfl, Nat.le_of_ble_eq_true rfl⟩) I (fun ph1 H locs hp I => ?_)
  subst hp
  have I : g_I Γ (mG Γ mo ad f (va_up a 5 (setC (a 5) p0 2 (resG (a 5) (plc (a 5) p0) (cX (a 5) p0 2)))) rr ph) s H locs := I
  refine lv_aload_n hx hb dX5_rests_21 rfl (lv_at hl 0 rfl) ?_
  refine g_get S hK I k_X5 (v := .ref (ad 5)) (g_at.of mG_obj) 5 (by decide) q2957 rfl rfl dX5_rests_22 ?_
  refine lv_sipush (v := 142) hx hb dX5_rests_25 (by decide) ?_
  refine lv_dup2_11 hx hb dX5_rests_28 rfl rfl ?_
  refine m_iald S hK I (f := (setC (a 5) p0 2 (resG (a 5) (plc (a 5) p0) (cX (a 5) p0 2)))) (k := 142) (g_at.of mG_5) (vp_lit (by decide)) (by decide) dX5_rests_29 ?_
  refine lv_iconst (v := 1) hx hb dX5_rests_30 (by decide) ?_
  refine lv_iadd hx hb dX5_rests_31 ?_
  refine m_iast S hK I (f := (setC (a 5) p0 2 (resG (a 5) (plc (a 5) p0) (cX (a 5) p0 2)))) (k := 142) mG_5 (vp_lit (by decide)) (by decide) dX5_rests_32 (fun H locs I => ?_)
  have I := mI_5 I
  rw [bx_uu] at I
  refine lv_aload_n hx hb dX5_rests_33 rfl (lv_at hl 0 rfl) ?_
  refine g_cv (g_runV S hK I (As := []) (rest := []) (met_X5_minute l Γ mo ad f (va_up a 5 (upd (setC (a 5) p0 2 (resG (a 5) (plc (a 5) p0) (cX (a 5) p0 2))) 142 (((setC (a 5) p0 2 (resG (a 5) (plc (a 5) p0) (cX (a 5) p0 2))) 142) + 1))) rr ph ((hw.setC h0 (Or.inr (Or.inr ⟨rfl, resG_ok hw (hw.pl h0) (hw.grip h0)⟩))).inc (i := 142) (by decide))) (cwV 0 hts (lw_V q3289 q3291 qs93 q151 q3292) rfl rfl rfl (by decide +kernel) ⟨Nat.le_of_ble_eq_true rfl, Nat.le_of_ble_eq_true rfl⟩) (g_recv hK I (g_at.of mG_obj) (ci := 4) rfl) rfl hl.1 rfl (Nat.le_of_ble_eq_true rfl) dX5_rests_34 ⟨Nat.le_of_ble_eq_true rfl, Nat.le_of_ble_eq_true rfl⟩) I (fun ph1 H locs hp I => ?_)
  subst hp
  rw [bx_uu] at I
  have I : g_I Γ (mG Γ mo ad f (va_up a 5 (minW (upd (setC (a 5) p0 2 (resG (a 5) (plc (a 5) p0) (cX (a 5) p0 2))) 142 (((setC (a 5) p0 2 (resG (a 5) (plc (a 5) p0) (cX (a 5) p0 2))) 142) + 1)))) rr ph) s H locs := I
  exact g_vret S hr hlk I dX5_rests_37 (Nat.le_of_ble_eq_true rfl) (Nat.le_of_ble_eq_true rfl) hQ ⟨rfl, rfl⟩

set_option maxHeartbeats 4000000 in
set_option maxRecDepth 100000 in
theorem met_X5_puts (l : Launch) (Γ : g_C) (mo : Nat) (ad : Nat → Nat) (f : Nat → Int32) (a : Nat → Nat → Int32) (rr : Nat → UInt32) (ph : g_H) (p0 : Int32) (p1 : Int32) (h0 : vp_in p0 2) (h1 : vp_in p1 4) : g_Met l yX5_puts (ws_ yX5_puts cX5_puts 3 none) (g_rm 3 0 0) Γ [.ref mo, .int p0, .int p1] (mG Γ mo ad f a rr ph) (g_ov (fun ph' => ph' = mG Γ mo ad f (va_up a 5 (putW (a 5) p0 p1)) rr ph)) g_no := by
  refine g_start (y := yX5_puts) (cc := cX5_puts) (maxL := 3) (ret := none) (rm := g_rm 3 0 0) (by decide) (Nat.le_of_ble_eq_true rfl) ?_
  intro p e s m A below meth c ls Q hQ S hr hlk hex hnm hK I hl
  have hx := S.1
  have hb := S.2.1
  have hown := S.2.2.2.1
  have hts := S.2.2.2.2
  have S : CallFix p m c cX5_puts 3 s A lw_all "CrumblingWallModel" := S
  have hl : lv_has ls 3 [(0, .ref mo), (1, .int p0), (2, .int p1)] := hl
  refine lv_aload_n hx hb dX5_puts_0 rfl (lv_at hl 0 rfl) ?_
  refine g_get S hK I k_X5 (v := .ref (ad 5)) (g_at.of mG_obj) 5 (by decide) q2957 rfl rfl dX5_puts_1 ?_
  refine lv_iload_n hx hb dX5_puts_4 rfl (lv_at hl 2 rfl) ?_
  refine lv_iconst (v := 1) hx hb dX5_puts_5 (by decide) ?_
  refine g_ci (g_runS S hK I (As := [.int p1, .int 1]) (rest := [.ref (ad 5)]) (met_X5_atLamp l Γ (mG Γ mo ad f a rr ph) p1 1) (va_cwS 2 hts (lw_S q3134 q3135 q151 q3136) rfl rfl rfl (by decide +kernel) ⟨Nat.le_of_ble_eq_true rfl, Nat.le_of_ble_eq_true rfl⟩) rfl hl.1 rfl (Nat.le_of_ble_eq_true rfl) dX5_puts_6 ⟨Nat.le_of_ble_eq_true rfl, Nat.le_of_ble_eq_true rfl⟩) I (fun r_6 ph1 H locs hp I => ?_)
  obtain ⟨hp, rfl⟩ := hp
  have hp : r_6 = 105 + 5 * p1 + 1 := hp
  subst hp
  refine lv_iconst (v := (-1)) hx hb dX5_puts_9 (by decide) ?_
  refine m_iast S hK I (f := (a 5)) (k := (105 + 5 * p1.toNatClampNeg + 1)) mG_5 (ix_l (t := 1) h1 (vp_lit (by decide))).1 (ix_l (t := 1) h1 (vp_lit (by decide))).2 dX5_puts_10 (fun H locs I => ?_)
  have I := mI_5 I
  refine lv_aload_n hx hb dX5_puts_11 rfl (lv_at hl 0 rfl) ?_
  refine g_get S hK I k_X5 (v := .ref (ad 5)) (g_at.of mG_obj) 5 (by decide) q2957 rfl rfl dX5_puts_12 ?_
  refine lv_iload_n hx hb dX5_puts_15 rfl (lv_at hl 2 rfl) ?_
  refine lv_iconst (v := 0) hx hb dX5_puts_16 (by decide) ?_
  refine g_ci (g_runS S hK I (As := [.int p1, .int 0]) (rest := [.ref (ad 5)]) (met_X5_atLamp l Γ (mG Γ mo ad f (va_up a 5 (upd (a 5) (105 + 5 * p1.toNatClampNeg + 1) (-1))) rr ph) p1 0) (va_cwS 2 hts (lw_S q3134 q3135 q151 q3136) rfl rfl rfl (by decide +kernel) ⟨Nat.le_of_ble_eq_true rfl, Nat.le_of_ble_eq_true rfl⟩) rfl hl.1 rfl (Nat.le_of_ble_eq_true rfl) dX5_puts_17 ⟨Nat.le_of_ble_eq_true rfl, Nat.le_of_ble_eq_true rfl⟩) I (fun r_17 ph1 H locs hp I => ?_)
  obtain ⟨hp, rfl⟩ := hp
  have hp : r_17 = 105 + 5 * p1 + 0 := hp
  subst hp
  refine lv_aload_n hx hb dX5_puts_20 rfl (lv_at hl 0 rfl) ?_
  refine lv_iload_n hx hb dX5_puts_21 rfl (lv_at hl 1 rfl) ?_
  refine g_ci (g_runV S hK I (As := [.int p0]) (rest := [.int (105 + 5 * p1 + 0), .ref (ad 5)]) (met_X5_place l Γ mo ad f (va_up a 5 (upd (a 5) (105 + 5 * p1.toNatClampNeg + 1) (-1))) rr ph p0 h0) (cwV 1 hts (lw_V q3095 q3097 qs59 q151 q3098) rfl rfl rfl (by decide +kernel) ⟨Nat.le_of_ble_eq_true rfl, Nat.le_of_ble_eq_true rfl⟩) (g_recv hK I (g_at.of mG_obj) (ci := 4) rfl) rfl hl.1 rfl (Nat.le_of_ble_eq_true rfl) dX5_puts_22 ⟨Nat.le_of_ble_eq_true rfl, Nat.le_of_ble_eq_true rfl⟩) I (fun r_22 ph1 H locs hp I => ?_)
  obtain ⟨hp, rfl⟩ := hp
  have hp : r_22 = plc (upd (a 5) (105 + 5 * p1.toNatClampNeg + 1) (-1)) p0 := hp
  subst hp
  refine m_iast S hK I (f := (upd (a 5) (105 + 5 * p1.toNatClampNeg + 1) (-1))) (k := (105 + 5 * p1.toNatClampNeg)) mG_5 (ix_l (t := 0) h1 (vp_lit (by decide))).1 (ix_l (t := 0) h1 (vp_lit (by decide))).2 dX5_puts_25 (fun H locs I => ?_)
  have I := mI_5 I
  rw [bx_uu] at I
  exact g_vret S hr hlk I dX5_puts_26 (Nat.le_of_ble_eq_true rfl) (Nat.le_of_ble_eq_true rfl) hQ ⟨rfl, rfl⟩


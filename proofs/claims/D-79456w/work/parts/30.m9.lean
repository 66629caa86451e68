/-! THE REFERENCE: new holds and lamps, forces, rows, the rack -/
set_option maxRecDepth 100000
theorem nar_b1 : vp_nar .boolean 1 = 1 := rfl
set_option maxHeartbeats 4000000 in
set_option maxRecDepth 100000 in
theorem met_X5_hold (l : Launch) (Γ : g_C) (mo : Nat) (ad : Nat → Nat) (f : Nat → Int32) (a : Nat → Nat → Int32) (rr : Nat → UInt32) (ph : g_H) (p0 : Int32) (p1 : Int32) (p2 : Int32) (p3 : Int32) (hw : WF (a 5)) (hU : okU f) : g_Met l yX5_hold (ws_ yX5_hold cX5_hold 7 (some .int)) (g_rm 8 0 0) Γ [.ref mo, .int p0, .int p1, .int p2, .int p3] (mG Γ mo ad f a rr ph) (g_oi (fun v ph' => v = (if hdOk p0 p1 p2 p3 = false then 0 else if (a 5) 0 = 20 then 0 else pubR (nHold (a 5) p0 p1) ((a 5) 0)) ∧ ph' = mG Γ mo ad (if hdOk p0 p1 p2 p3 = false then upd f 0 1 else if (a 5) 0 = 20 then upd f 0 2 else pubF f (nHold (a 5) p0 p1) 3) (if hdOk p0 p1 p2 p3 = false then a else if (a 5) 0 = 20 then a else pubA f a (nHold (a 5) p0 p1) (hdW (a 5) p0 p1 p2 p3)) rr ph)) g_no := by
  refine g_start (y := yX5_hold) (cc := cX5_hold) (maxL := 7) (ret := (some .int)) (rm := g_rm 8 0 0) (by decide) (Nat.le_of_ble_eq_true rfl) ?_
  intro p e s m A below meth c ls Q hQ S hr hlk hex hnm hK I hl
  have hx := S.1
  have hb := S.2.1
  have hown := S.2.2.2.1
  have hts := S.2.2.2.2
  have S : CallFix p m c cX5_hold 7 s A lw_all "CrumblingWallModel" := S
  have hl : lv_has ls 7 [(0, .ref mo), (1, .int p0), (2, .int p1), (3, .int p2), (4, .int p3)] := hl
  refine lv_iload_n hx hb dX5_hold_0 rfl (lv_at hl 1 rfl) ?_
  refine lv_iconst (v := 0) hx hb dX5_hold_1 (by decide) ?_
  refine lv_bipush (v := 9) hx hb dX5_hold_2 (by decide) ?_
  refine g_ci (g_runS S hK I (As := [.int p0, .int 0, .int 9]) (rest := []) (met_X5_isBetween l Γ (mG Γ mo ad f a rr ph) p0 0 9) (va_cwS 3 hts (lw_S q3053 q3054 q151 q3055) rfl rfl rfl (by decide +kernel) ⟨Nat.le_of_ble_eq_true rfl, Nat.le_of_ble_eq_true rfl⟩) rfl hl.1 rfl (Nat.le_of_ble_eq_true rfl) dX5_hold_4 ⟨Nat.le_of_ble_eq_true rfl, Nat.le_of_ble_eq_true rfl⟩) I (fun r_4 ph1 H locs hp I => ?_)
  obtain ⟨hp, rfl⟩ := hp
  have hp : r_4 = b2i (btw p0 0 9) := hp
  subst hp
  refine lv_if_eq (tgt := 40) hx hb dX5_hold_7 (by decide) (fun c_7 => ?_) (fun c_7 => ?_)
  · have p_7 := (b2i_eq0 _).mp c_7
    refine lv_aload_n hx hb dX5_hold_40 rfl (lv_at hl 0 rfl) ?_
    refine lv_iconst (v := 1) hx hb dX5_hold_41 (by decide) ?_
    refine g_ci (g_runV S hK I (As := [.int 1]) (rest := []) (met_X5_fails l Γ mo ad f a rr ph 1) (cwV 1 hts (lw_V q3056 q3058 qs51 q151 q3059) rfl rfl rfl (by decide +kernel) ⟨Nat.le_of_ble_eq_true rfl, Nat.le_of_ble_eq_true rfl⟩) (g_recv hK I (g_at.of mG_obj) (ci := 4) rfl) rfl hl.1 rfl (Nat.le_of_ble_eq_true rfl) dX5_hold_42 ⟨Nat.le_of_ble_eq_true rfl, Nat.le_of_ble_eq_true rfl⟩) I (fun r_42 ph1 H locs hp I => ?_)
    obtain ⟨hp, rfl⟩ := hp
    have hp : r_42 = 0 := hp
    subst hp
    have I : g_I Γ (mG Γ mo ad (upd f 0 1) a rr ph) s H locs := I
    exact g_iret S hr hlk I dX5_hold_45 (Nat.le_of_ble_eq_true rfl) (Nat.le_of_ble_eq_true rfl) hQ ⟨_, rfl, (by (try simp only [p_7]); (try simp [pubF, pubA, pubR, cmA, hdOk, nHold, hdW, m_hin, p_7])), (by (try simp only [p_7]); (try simp [pubF, pubA, pubR, cmA, hdOk, nHold, hdW, m_hin, p_7]))⟩
  · have p_7 := (b2i_ne0 _).mp c_7
    refine lv_iload_n hx hb dX5_hold_10 rfl (lv_at hl 2 rfl) ?_
    refine lv_iconst (v := 1) hx hb dX5_hold_11 (by decide) ?_
    refine lv_bipush (v := 20) hx hb dX5_hold_12 (by decide) ?_
    refine g_ci (g_runS S hK I (As := [.int p1, .int 1, .int 20]) (rest := []) (met_X5_isBetween l Γ (mG Γ mo ad f a rr ph) p1 1 20) (va_cwS 3 hts (lw_S q3053 q3054 q151 q3055) rfl rfl rfl (by decide +kernel) ⟨Nat.le_of_ble_eq_true rfl, Nat.le_of_ble_eq_true rfl⟩) rfl hl.1 rfl (Nat.le_of_ble_eq_true rfl) dX5_hold_14 ⟨Nat.le_of_ble_eq_true rfl, Nat.le_of_ble_eq_true rfl⟩) I (fun r_14 ph1 H locs hp I => ?_)
    obtain ⟨hp, rfl⟩ := hp
    have hp : r_14 = b2i (btw p1 1 20) := hp
    subst hp
    refine lv_if_eq (tgt := 40) hx hb dX5_hold_17 (by decide) (fun c_17 => ?_) (fun c_17 => ?_)
    · have p_17 := (b2i_eq0 _).mp c_17
      refine lv_aload_n hx hb dX5_hold_40 rfl (lv_at hl 0 rfl) ?_
      refine lv_iconst (v := 1) hx hb dX5_hold_41 (by decide) ?_
      refine g_ci (g_runV S hK I (As := [.int 1]) (rest := []) (met_X5_fails l Γ mo ad f a rr ph 1) (cwV 1 hts (lw_V q3056 q3058 qs51 q151 q3059) rfl rfl rfl (by decide +kernel) ⟨Nat.le_of_ble_eq_true rfl, Nat.le_of_ble_eq_true rfl⟩) (g_recv hK I (g_at.of mG_obj) (ci := 4) rfl) rfl hl.1 rfl (Nat.le_of_ble_eq_true rfl) dX5_hold_42 ⟨Nat.le_of_ble_eq_true rfl, Nat.le_of_ble_eq_true rfl⟩) I (fun r_42 ph1 H locs hp I => ?_)
      obtain ⟨hp, rfl⟩ := hp
      have hp : r_42 = 0 := hp
      subst hp
      have I : g_I Γ (mG Γ mo ad (upd f 0 1) a rr ph) s H locs := I
      exact g_iret S hr hlk I dX5_hold_45 (Nat.le_of_ble_eq_true rfl) (Nat.le_of_ble_eq_true rfl) hQ ⟨_, rfl, (by (try simp only [p_7, p_17]); (try simp [pubF, pubA, pubR, cmA, hdOk, nHold, hdW, m_hin, p_7, p_17])), (by (try simp only [p_7, p_17]); (try simp [pubF, pubA, pubR, cmA, hdOk, nHold, hdW, m_hin, p_7, p_17]))⟩
    · have p_17 := (b2i_ne0 _).mp c_17
      refine lv_iload_n hx hb dX5_hold_20 rfl (lv_at hl 3 rfl) ?_
      refine lv_iconst (v := 0) hx hb dX5_hold_21 (by decide) ?_
      refine lv_iconst (v := 3) hx hb dX5_hold_22 (by decide) ?_
      refine g_ci (g_runS S hK I (As := [.int p2, .int 0, .int 3]) (rest := []) (met_X5_isBetween l Γ (mG Γ mo ad f a rr ph) p2 0 3) (va_cwS 3 hts (lw_S q3053 q3054 q151 q3055) rfl rfl rfl (by decide +kernel) ⟨Nat.le_of_ble_eq_true rfl, Nat.le_of_ble_eq_true rfl⟩) rfl hl.1 rfl (Nat.le_of_ble_eq_true rfl) dX5_hold_23 ⟨Nat.le_of_ble_eq_true rfl, Nat.le_of_ble_eq_true rfl⟩) I (fun r_23 ph1 H locs hp I => ?_)
      obtain ⟨hp, rfl⟩ := hp
      have hp : r_23 = b2i (btw p2 0 3) := hp
      subst hp
      refine lv_if_eq (tgt := 40) hx hb dX5_hold_26 (by decide) (fun c_26 => ?_) (fun c_26 => ?_)
      · have p_26 := (b2i_eq0 _).mp c_26
        refine lv_aload_n hx hb dX5_hold_40 rfl (lv_at hl 0 rfl) ?_
        refine lv_iconst (v := 1) hx hb dX5_hold_41 (by decide) ?_
        refine g_ci (g_runV S hK I (As := [.int 1]) (rest := []) (met_X5_fails l Γ mo ad f a rr ph 1) (cwV 1 hts (lw_V q3056 q3058 qs51 q151 q3059) rfl rfl rfl (by decide +kernel) ⟨Nat.le_of_ble_eq_true rfl, Nat.le_of_ble_eq_true rfl⟩) (g_recv hK I (g_at.of mG_obj) (ci := 4) rfl) rfl hl.1 rfl (Nat.le_of_ble_eq_true rfl) dX5_hold_42 ⟨Nat.le_of_ble_eq_true rfl, Nat.le_of_ble_eq_true rfl⟩) I (fun r_42 ph1 H locs hp I => ?_)
        obtain ⟨hp, rfl⟩ := hp
        have hp : r_42 = 0 := hp
        subst hp
        have I : g_I Γ (mG Γ mo ad (upd f 0 1) a rr ph) s H locs := I
        exact g_iret S hr hlk I dX5_hold_45 (Nat.le_of_ble_eq_true rfl) (Nat.le_of_ble_eq_true rfl) hQ ⟨_, rfl, (by (try simp only [p_7, p_17, p_26]); (try simp [pubF, pubA, pubR, cmA, hdOk, nHold, hdW, m_hin, p_7, p_17, p_26])), (by (try simp only [p_7, p_17, p_26]); (try simp [pubF, pubA, pubR, cmA, hdOk, nHold, hdW, m_hin, p_7, p_17, p_26]))⟩
      · have p_26 := (b2i_ne0 _).mp c_26
        refine lv_iload hx hb dX5_hold_29 (lv_at hl 4 rfl) ?_
        refine lv_iconst (v := 1) hx hb dX5_hold_31 (by decide) ?_
        refine lv_bipush (v := 9) hx hb dX5_hold_32 (by decide) ?_
        refine g_ci (g_runS S hK I (As := [.int p3, .int 1, .int 9]) (rest := []) (met_X5_isBetween l Γ (mG Γ mo ad f a rr ph) p3 1 9) (va_cwS 3 hts (lw_S q3053 q3054 q151 q3055) rfl rfl rfl (by decide +kernel) ⟨Nat.le_of_ble_eq_true rfl, Nat.le_of_ble_eq_true rfl⟩) rfl hl.1 rfl (Nat.le_of_ble_eq_true rfl) dX5_hold_34 ⟨Nat.le_of_ble_eq_true rfl, Nat.le_of_ble_eq_true rfl⟩) I (fun r_34 ph1 H locs hp I => ?_)
        obtain ⟨hp, rfl⟩ := hp
        have hp : r_34 = b2i (btw p3 1 9) := hp
        subst hp
        refine lv_if_ne (tgt := 46) hx hb dX5_hold_37 (by decide) (fun c_37 => ?_) (fun c_37 => ?_)
        · have p_37 := (b2i_ne0 _).mp c_37
          refine lv_aload_n hx hb dX5_hold_46 rfl (lv_at hl 0 rfl) ?_
          refine g_get S hK I k_X5 (v := .ref (ad 5)) (g_at.of mG_obj) 5 (by decide) q2957 rfl rfl dX5_hold_47 ?_
          refine lv_iconst (v := 0) hx hb dX5_hold_50 (by decide) ?_
          refine m_iald S hK I (f := (a 5)) (k := 0) (g_at.of mG_5) (vp_lit (by decide)) (by decide) dX5_hold_51 ?_
          refine lv_bipush (v := 20) hx hb dX5_hold_52 (by decide) ?_
          refine lv_icmp_ne (tgt := 63) hx hb dX5_hold_54 (by decide) (fun c_54 => ?_) (fun c_54 => ?_)
          · refine lv_aload_n hx hb dX5_hold_63 rfl (lv_at hl 0 rfl) ?_
            refine lv_iload_n hx hb dX5_hold_64 rfl (lv_at hl 1 rfl) ?_
            refine lv_iload_n hx hb dX5_hold_65 rfl (lv_at hl 2 rfl) ?_
            refine g_ci (g_runV S hK I (As := [.int p0, .int p1]) (rest := []) (met_X5_holdAt l Γ mo ad f a rr ph p0 p1 hw) (cwV 2 hts (lw_V q3060 q3062 qs52 q151 q3063) rfl rfl rfl (by decide +kernel) ⟨Nat.le_of_ble_eq_true rfl, Nat.le_of_ble_eq_true rfl⟩) (g_recv hK I (g_at.of mG_obj) (ci := 4) rfl) rfl hl.1 rfl (Nat.le_of_ble_eq_true rfl) dX5_hold_66 ⟨Nat.le_of_ble_eq_true rfl, Nat.le_of_ble_eq_true rfl⟩) I (fun r_66 ph1 H locs hp I => ?_)
            obtain ⟨hp, rfl⟩ := hp
            have hp : r_66 = hAt (a 5) p0 p1 := hp
            subst hp
            refine lv_istore (lv' := [(5, .int (hAt (a 5) p0 p1)), (0, .ref mo), (1, .int p0), (2, .int p1), (3, .int p2), (4, .int p3)]) hx hb dX5_hold_69 hl (by decide) rfl (fun ls hl => ?_)
            refine lv_iload hx hb dX5_hold_71 (lv_at hl 0 rfl) ?_
            refine lv_if_lt (tgt := 93) hx hb dX5_hold_73 (by decide) (fun c_73 => ?_) (fun c_73 => ?_)
            · have n_73 := Int32.not_le.mpr c_73
              refine lv_aload_n hx hb dX5_hold_93 rfl (lv_at hl 1 rfl) ?_
              refine lv_iconst (v := 0) hx hb dX5_hold_94 (by decide) ?_
              refine g_put S hK I k_X5 (v := .int 0) mG_obj 0 (by decide) q2952 rfl rfl rfl rfl (Nat.le_of_ble_eq_true rfl) dX5_hold_95 (fun H locs I => ?_)
              have I := mI_f (f' := (upd f 0 0)) I rfl
              refine lv_aload_n hx hb dX5_hold_98 rfl (lv_at hl 1 rfl) ?_
              refine g_cv (g_runV S hK I (As := []) (rest := []) (met_X5_notes l Γ mo ad (upd f 0 0) a rr ph ) (cwV 0 hts (lw_V q3079 q3081 qs56 q151 q3082) rfl rfl rfl (by decide +kernel) ⟨Nat.le_of_ble_eq_true rfl, Nat.le_of_ble_eq_true rfl⟩) (g_recv hK I (g_at.of mG_obj) (ci := 4) rfl) rfl hl.1 rfl (Nat.le_of_ble_eq_true rfl) dX5_hold_99 ⟨Nat.le_of_ble_eq_true rfl, Nat.le_of_ble_eq_true rfl⟩) I (fun ph1 H locs hp I => ?_)
              subst hp
              have I : g_I Γ (mG Γ mo ad (upd f 0 0) (va_up a 8 (va_cpy (a 5) (a 8) 0 0 170)) rr ph) s H locs := I
              refine lv_aload_n hx hb dX5_hold_102 rfl (lv_at hl 1 rfl) ?_
              refine g_cv (g_runV S hK I (As := []) (rest := []) (met_X5_remembers l Γ mo ad (upd f 0 0) (va_up a 8 (va_cpy (a 5) (a 8) 0 0 170)) rr ph (okU_0 hU)) (cwV 0 hts (lw_V q3083 q3085 qs57 q151 q3086) rfl rfl rfl (by decide +kernel) ⟨Nat.le_of_ble_eq_true rfl, Nat.le_of_ble_eq_true rfl⟩) (g_recv hK I (g_at.of mG_obj) (ci := 4) rfl) rfl hl.1 rfl (Nat.le_of_ble_eq_true rfl) dX5_hold_103 ⟨Nat.le_of_ble_eq_true rfl, Nat.le_of_ble_eq_true rfl⟩) I (fun ph1 H locs hp I => ?_)
              subst hp
              have I : g_I Γ (mG Γ mo ad (remF (upd f 0 0)) (va_up (va_up a 8 (va_cpy (a 5) (a 8) 0 0 170)) 6 (va_cpy (va_cpy (a 5) (a 8) 0 0 170) (a 6) 0 (170 * rSl (upd f 0 0)) 170)) rr ph) s H locs := I
              refine lv_aload_n hx hb dX5_hold_106 rfl (lv_at hl 1 rfl) ?_
              refine g_get S hK I k_X5 (v := .ref (ad 5)) (g_at.of mG_obj) 5 (by decide) q2957 rfl rfl dX5_hold_107 ?_
              refine lv_iconst (v := 0) hx hb dX5_hold_110 (by decide) ?_
              refine m_iald S hK I (f := (a 5)) (k := 0) (g_at.of mG_5) (vp_lit (by decide)) (by decide) dX5_hold_111 ?_
              refine lv_istore (lv' := [(6, .int ((a 5) 0)), (5, .int (hAt (a 5) p0 p1)), (0, .ref mo), (1, .int p0), (2, .int p1), (3, .int p2), (4, .int p3)]) hx hb dX5_hold_112 hl (by decide) rfl (fun ls hl => ?_)
              refine lv_aload_n hx hb dX5_hold_114 rfl (lv_at hl 2 rfl) ?_
              refine g_get S hK I k_X5 (v := .ref (ad 5)) (g_at.of mG_obj) 5 (by decide) q2957 rfl rfl dX5_hold_115 ?_
              refine lv_iconst (v := 0) hx hb dX5_hold_118 (by decide) ?_
              refine lv_dup2_11 hx hb dX5_hold_119 rfl rfl ?_
              refine m_iald S hK I (f := (a 5)) (k := 0) (g_at.of mG_5) (vp_lit (by decide)) (by decide) dX5_hold_120 ?_
              refine lv_iconst (v := 1) hx hb dX5_hold_121 (by decide) ?_
              refine lv_iadd hx hb dX5_hold_122 ?_
              refine m_iast S hK I (f := (a 5)) (k := 0) mG_5 (vp_lit (by decide)) (by decide) dX5_hold_123 (fun H locs I => ?_)
              have I := mI_5 I
              refine lv_aload_n hx hb dX5_hold_124 rfl (lv_at hl 2 rfl) ?_
              refine g_get S hK I k_X5 (v := .ref (ad 5)) (g_at.of mG_obj) 5 (by decide) q2957 rfl rfl dX5_hold_125 ?_
              refine lv_iload hx hb dX5_hold_128 (lv_at hl 0 rfl) ?_
              refine lv_iconst (v := 0) hx hb dX5_hold_130 (by decide) ?_
              refine g_ci (g_runS S hK I (As := [.int ((a 5) 0), .int 0]) (rest := [.ref (ad 5)]) (met_X5_atHold l Γ (mG Γ mo ad (remF (upd f 0 0)) (va_up (va_up (va_up a 8 (va_cpy (a 5) (a 8) 0 0 170)) 6 (va_cpy (va_cpy (a 5) (a 8) 0 0 170) (a 6) 0 (170 * rSl (upd f 0 0)) 170)) 5 (upd (a 5) 0 (((a 5) 0) + 1))) rr ph) ((a 5) 0) 0) (va_cwS 2 hts (lw_S q3068 q3069 q151 q3070) rfl rfl rfl (by decide +kernel) ⟨Nat.le_of_ble_eq_true rfl, Nat.le_of_ble_eq_true rfl⟩) rfl hl.1 rfl (Nat.le_of_ble_eq_true rfl) dX5_hold_131 ⟨Nat.le_of_ble_eq_true rfl, Nat.le_of_ble_eq_true rfl⟩) I (fun r_131 ph1 H locs hp I => ?_)
              obtain ⟨hp, rfl⟩ := hp
              have hp : r_131 = 1 + 5 * ((a 5) 0) + 0 := hp
              subst hp
              refine lv_iload_n hx hb dX5_hold_134 rfl (lv_at hl 3 rfl) ?_
              refine m_iast S hK I (f := (upd (a 5) 0 (((a 5) 0) + 1))) (k := (1 + 5 * nN (a 5))) mG_5 (ix_hn hw c_54 (t := 0) (by decide)).1 (ix_hn hw c_54 (t := 0) (by decide)).2 dX5_hold_135 (fun H locs I => ?_)
              have I := mI_5 I
              rw [bx_uu] at I
              refine lv_aload_n hx hb dX5_hold_136 rfl (lv_at hl 2 rfl) ?_
              refine g_get S hK I k_X5 (v := .ref (ad 5)) (g_at.of mG_obj) 5 (by decide) q2957 rfl rfl dX5_hold_137 ?_
              refine lv_iload hx hb dX5_hold_140 (lv_at hl 0 rfl) ?_
              refine lv_iconst (v := 1) hx hb dX5_hold_142 (by decide) ?_
              refine g_ci (g_runS S hK I (As := [.int ((a 5) 0), .int 1]) (rest := [.ref (ad 5)]) (met_X5_atHold l Γ (mG Γ mo ad (remF (upd f 0 0)) (va_up (va_up (va_up a 8 (va_cpy (a 5) (a 8) 0 0 170)) 6 (va_cpy (va_cpy (a 5) (a 8) 0 0 170) (a 6) 0 (170 * rSl (upd f 0 0)) 170)) 5 (upd (upd (a 5) 0 (((a 5) 0) + 1)) (1 + 5 * nN (a 5)) p0)) rr ph) ((a 5) 0) 1) (va_cwS 2 hts (lw_S q3068 q3069 q151 q3070) rfl rfl rfl (by decide +kernel) ⟨Nat.le_of_ble_eq_true rfl, Nat.le_of_ble_eq_true rfl⟩) rfl hl.1 rfl (Nat.le_of_ble_eq_true rfl) dX5_hold_143 ⟨Nat.le_of_ble_eq_true rfl, Nat.le_of_ble_eq_true rfl⟩) I (fun r_143 ph1 H locs hp I => ?_)
              obtain ⟨hp, rfl⟩ := hp
              have hp : r_143 = 1 + 5 * ((a 5) 0) + 1 := hp
              subst hp
              refine lv_iload_n hx hb dX5_hold_146 rfl (lv_at hl 4 rfl) ?_
              refine m_iast S hK I (f := (upd (upd (a 5) 0 (((a 5) 0) + 1)) (1 + 5 * nN (a 5)) p0)) (k := (1 + 5 * nN (a 5) + 1)) mG_5 (ix_hn hw c_54 (t := 1) (by decide)).1 (ix_hn hw c_54 (t := 1) (by decide)).2 dX5_hold_147 (fun H locs I => ?_)
              have I := mI_5 I
              rw [bx_uu] at I
              refine lv_aload_n hx hb dX5_hold_148 rfl (lv_at hl 2 rfl) ?_
              refine g_get S hK I k_X5 (v := .ref (ad 5)) (g_at.of mG_obj) 5 (by decide) q2957 rfl rfl dX5_hold_149 ?_
              refine lv_iload hx hb dX5_hold_152 (lv_at hl 0 rfl) ?_
              refine lv_iconst (v := 2) hx hb dX5_hold_154 (by decide) ?_
              refine g_ci (g_runS S hK I (As := [.int ((a 5) 0), .int 2]) (rest := [.ref (ad 5)]) (met_X5_atHold l Γ (mG Γ mo ad (remF (upd f 0 0)) (va_up (va_up (va_up a 8 (va_cpy (a 5) (a 8) 0 0 170)) 6 (va_cpy (va_cpy (a 5) (a 8) 0 0 170) (a 6) 0 (170 * rSl (upd f 0 0)) 170)) 5 (upd (upd (upd (a 5) 0 (((a 5) 0) + 1)) (1 + 5 * nN (a 5)) p0) (1 + 5 * nN (a 5) + 1) p1)) rr ph) ((a 5) 0) 2) (va_cwS 2 hts (lw_S q3068 q3069 q151 q3070) rfl rfl rfl (by decide +kernel) ⟨Nat.le_of_ble_eq_true rfl, Nat.le_of_ble_eq_true rfl⟩) rfl hl.1 rfl (Nat.le_of_ble_eq_true rfl) dX5_hold_155 ⟨Nat.le_of_ble_eq_true rfl, Nat.le_of_ble_eq_true rfl⟩) I (fun r_155 ph1 H locs hp I => ?_)
              obtain ⟨hp, rfl⟩ := hp
              have hp : r_155 = 1 + 5 * ((a 5) 0) + 2 := hp
              subst hp
              refine lv_iload_n hx hb dX5_hold_158 rfl (lv_at hl 5 rfl) ?_
              refine m_iast S hK I (f := (upd (upd (upd (a 5) 0 (((a 5) 0) + 1)) (1 + 5 * nN (a 5)) p0) (1 + 5 * nN (a 5) + 1) p1)) (k := (1 + 5 * nN (a 5) + 2)) mG_5 (ix_hn hw c_54 (t := 2) (by decide)).1 (ix_hn hw c_54 (t := 2) (by decide)).2 dX5_hold_159 (fun H locs I => ?_)
              have I := mI_5 I
              rw [bx_uu] at I
              refine lv_aload_n hx hb dX5_hold_160 rfl (lv_at hl 2 rfl) ?_
              refine g_get S hK I k_X5 (v := .ref (ad 5)) (g_at.of mG_obj) 5 (by decide) q2957 rfl rfl dX5_hold_161 ?_
              refine lv_iload hx hb dX5_hold_164 (lv_at hl 0 rfl) ?_
              refine lv_iconst (v := 3) hx hb dX5_hold_166 (by decide) ?_
              refine g_ci (g_runS S hK I (As := [.int ((a 5) 0), .int 3]) (rest := [.ref (ad 5)]) (met_X5_atHold l Γ (mG Γ mo ad (remF (upd f 0 0)) (va_up (va_up (va_up a 8 (va_cpy (a 5) (a 8) 0 0 170)) 6 (va_cpy (va_cpy (a 5) (a 8) 0 0 170) (a 6) 0 (170 * rSl (upd f 0 0)) 170)) 5 (upd (upd (upd (upd (a 5) 0 (((a 5) 0) + 1)) (1 + 5 * nN (a 5)) p0) (1 + 5 * nN (a 5) + 1) p1) (1 + 5 * nN (a 5) + 2) p2)) rr ph) ((a 5) 0) 3) (va_cwS 2 hts (lw_S q3068 q3069 q151 q3070) rfl rfl rfl (by decide +kernel) ⟨Nat.le_of_ble_eq_true rfl, Nat.le_of_ble_eq_true rfl⟩) rfl hl.1 rfl (Nat.le_of_ble_eq_true rfl) dX5_hold_167 ⟨Nat.le_of_ble_eq_true rfl, Nat.le_of_ble_eq_true rfl⟩) I (fun r_167 ph1 H locs hp I => ?_)
              obtain ⟨hp, rfl⟩ := hp
              have hp : r_167 = 1 + 5 * ((a 5) 0) + 3 := hp
              subst hp
              refine lv_iload hx hb dX5_hold_170 (lv_at hl 6 rfl) ?_
              refine m_iast S hK I (f := (upd (upd (upd (upd (a 5) 0 (((a 5) 0) + 1)) (1 + 5 * nN (a 5)) p0) (1 + 5 * nN (a 5) + 1) p1) (1 + 5 * nN (a 5) + 2) p2)) (k := (1 + 5 * nN (a 5) + 3)) mG_5 (ix_hn hw c_54 (t := 3) (by decide)).1 (ix_hn hw c_54 (t := 3) (by decide)).2 dX5_hold_172 (fun H locs I => ?_)
              have I := mI_5 I
              rw [bx_uu] at I
              refine lv_aload_n hx hb dX5_hold_173 rfl (lv_at hl 2 rfl) ?_
              refine g_get S hK I k_X5 (v := .ref (ad 5)) (g_at.of mG_obj) 5 (by decide) q2957 rfl rfl dX5_hold_174 ?_
              refine lv_iload hx hb dX5_hold_177 (lv_at hl 0 rfl) ?_
              refine lv_iconst (v := 4) hx hb dX5_hold_179 (by decide) ?_
              refine g_ci (g_runS S hK I (As := [.int ((a 5) 0), .int 4]) (rest := [.ref (ad 5)]) (met_X5_atHold l Γ (mG Γ mo ad (remF (upd f 0 0)) (va_up (va_up (va_up a 8 (va_cpy (a 5) (a 8) 0 0 170)) 6 (va_cpy (va_cpy (a 5) (a 8) 0 0 170) (a 6) 0 (170 * rSl (upd f 0 0)) 170)) 5 (upd (upd (upd (upd (upd (a 5) 0 (((a 5) 0) + 1)) (1 + 5 * nN (a 5)) p0) (1 + 5 * nN (a 5) + 1) p1) (1 + 5 * nN (a 5) + 2) p2) (1 + 5 * nN (a 5) + 3) p3)) rr ph) ((a 5) 0) 4) (va_cwS 2 hts (lw_S q3068 q3069 q151 q3070) rfl rfl rfl (by decide +kernel) ⟨Nat.le_of_ble_eq_true rfl, Nat.le_of_ble_eq_true rfl⟩) rfl hl.1 rfl (Nat.le_of_ble_eq_true rfl) dX5_hold_180 ⟨Nat.le_of_ble_eq_true rfl, Nat.le_of_ble_eq_true rfl⟩) I (fun r_180 ph1 H locs hp I => ?_)
              obtain ⟨hp, rfl⟩ := hp
              have hp : r_180 = 1 + 5 * ((a 5) 0) + 4 := hp
              subst hp
              refine lv_iconst (v := 0) hx hb dX5_hold_183 (by decide) ?_
              refine m_iast S hK I (f := (upd (upd (upd (upd (upd (a 5) 0 (((a 5) 0) + 1)) (1 + 5 * nN (a 5)) p0) (1 + 5 * nN (a 5) + 1) p1) (1 + 5 * nN (a 5) + 2) p2) (1 + 5 * nN (a 5) + 3) p3)) (k := (1 + 5 * nN (a 5) + 4)) mG_5 (ix_hn hw c_54 (t := 4) (by decide)).1 (ix_hn hw c_54 (t := 4) (by decide)).2 dX5_hold_184 (fun H locs I => ?_)
              have I := mI_5 I
              rw [bx_uu] at I
              refine lv_iload hx hb dX5_hold_185 (lv_at hl 0 rfl) ?_
              exact g_iret S hr hlk I dX5_hold_187 (Nat.le_of_ble_eq_true rfl) (Nat.le_of_ble_eq_true rfl) hQ ⟨_, rfl, (by (try simp only [p_7, p_17, p_26, p_37]); (try simp [pubF, pubA, pubR, cmA, hdOk, nHold, hdW, m_hin, p_7, p_17, p_26, p_37, c_54, c_73, n_73])), (by (try simp only [p_7, p_17, p_26, p_37]); (try simp [pubF, pubA, pubR, cmA, hdOk, nHold, hdW, m_hin, p_7, p_17, p_26, p_37, c_54, c_73, n_73]))⟩
            · have n_73 := Int32.not_lt.mp c_73
              refine lv_aload_n hx hb dX5_hold_76 rfl (lv_at hl 1 rfl) ?_
              refine lv_bipush (v := 16) hx hb dX5_hold_77 (by decide) ?_
              refine lv_iload hx hb dX5_hold_79 (lv_at hl 0 rfl) ?_
              refine g_ci (g_runV S hK I (As := [.int 16, .int (hAt (a 5) p0 p1)]) (rest := []) (met_X5_hinders l Γ mo ad f a rr ph 16 (hAt (a 5) p0 p1)) (cwV 2 hts (lw_V q3071 q3073 qs54 q151 q3074) rfl rfl rfl (by decide +kernel) ⟨Nat.le_of_ble_eq_true rfl, Nat.le_of_ble_eq_true rfl⟩) (g_recv hK I (g_at.of mG_obj) (ci := 4) rfl) rfl hl.1 rfl (Nat.le_of_ble_eq_true rfl) dX5_hold_81 ⟨Nat.le_of_ble_eq_true rfl, Nat.le_of_ble_eq_true rfl⟩) I (fun r_81 ph1 H locs hp I => ?_)
              obtain ⟨hp, rfl⟩ := hp
              have hp : r_81 = b2i true := hp
              subst hp
              have I : g_I Γ (mG Γ mo ad (upd (upd f 3 16) 4 (hAt (a 5) p0 p1)) a rr ph) s H locs := I
              refine lv_if_eq (tgt := 93) hx hb dX5_hold_84 (by decide) (fun q => absurd q (by decide)) (fun _ => ?_)
              refine lv_aload_n hx hb dX5_hold_87 rfl (lv_at hl 1 rfl) ?_
              refine lv_iconst (v := 3) hx hb dX5_hold_88 (by decide) ?_
              refine g_ci (g_runV S hK I (As := [.int 3]) (rest := []) (met_X5_refuses l Γ mo ad (upd (upd f 3 16) 4 (hAt (a 5) p0 p1)) a rr ph 3) (cwV 1 hts (lw_V q3075 q3077 qs55 q151 q3078) rfl rfl rfl (by decide +kernel) ⟨Nat.le_of_ble_eq_true rfl, Nat.le_of_ble_eq_true rfl⟩) (g_recv hK I (g_at.of mG_obj) (ci := 4) rfl) rfl hl.1 rfl (Nat.le_of_ble_eq_true rfl) dX5_hold_89 ⟨Nat.le_of_ble_eq_true rfl, Nat.le_of_ble_eq_true rfl⟩) I (fun r_89 ph1 H locs hp I => ?_)
              obtain ⟨hp, rfl⟩ := hp
              have hp : r_89 = 0 := hp
              subst hp
              have I : g_I Γ (mG Γ mo ad (m_ref (upd (upd f 3 16) 4 (hAt (a 5) p0 p1)) 3) a rr ph) s H locs := I
              exact g_iret S hr hlk I dX5_hold_92 (Nat.le_of_ble_eq_true rfl) (Nat.le_of_ble_eq_true rfl) hQ ⟨_, rfl, (by (try simp only [p_7, p_17, p_26, p_37]); (try simp [pubF, pubA, pubR, cmA, hdOk, nHold, hdW, m_hin, p_7, p_17, p_26, p_37, c_54, c_73, n_73])), (by (try simp only [p_7, p_17, p_26, p_37]); (try simp [pubF, pubA, pubR, cmA, hdOk, nHold, hdW, m_hin, p_7, p_17, p_26, p_37, c_54, c_73, n_73]))⟩
          · refine lv_aload_n hx hb dX5_hold_57 rfl (lv_at hl 0 rfl) ?_
            refine lv_iconst (v := 2) hx hb dX5_hold_58 (by decide) ?_
            refine g_ci (g_runV S hK I (As := [.int 2]) (rest := []) (met_X5_fails l Γ mo ad f a rr ph 2) (cwV 1 hts (lw_V q3056 q3058 qs51 q151 q3059) rfl rfl rfl (by decide +kernel) ⟨Nat.le_of_ble_eq_true rfl, Nat.le_of_ble_eq_true rfl⟩) (g_recv hK I (g_at.of mG_obj) (ci := 4) rfl) rfl hl.1 rfl (Nat.le_of_ble_eq_true rfl) dX5_hold_59 ⟨Nat.le_of_ble_eq_true rfl, Nat.le_of_ble_eq_true rfl⟩) I (fun r_59 ph1 H locs hp I => ?_)
            obtain ⟨hp, rfl⟩ := hp
            have hp : r_59 = 0 := hp
            subst hp
            have I : g_I Γ (mG Γ mo ad (upd f 0 2) a rr ph) s H locs := I
            exact g_iret S hr hlk I dX5_hold_62 (Nat.le_of_ble_eq_true rfl) (Nat.le_of_ble_eq_true rfl) hQ ⟨_, rfl, (by (try simp only [p_7, p_17, p_26, p_37]); (try simp [pubF, pubA, pubR, cmA, hdOk, nHold, hdW, m_hin, p_7, p_17, p_26, p_37, c_54])), (by (try simp only [p_7, p_17, p_26, p_37]); (try simp [pubF, pubA, pubR, cmA, hdOk, nHold, hdW, m_hin, p_7, p_17, p_26, p_37, c_54]))⟩
        · have p_37 := (b2i_eq0 _).mp c_37
          refine lv_aload_n hx hb dX5_hold_40 rfl (lv_at hl 0 rfl) ?_
          refine lv_iconst (v := 1) hx hb dX5_hold_41 (by decide) ?_
          refine g_ci (g_runV S hK I (As := [.int 1]) (rest := []) (met_X5_fails l Γ mo ad f a rr ph 1) (cwV 1 hts (lw_V q3056 q3058 qs51 q151 q3059) rfl rfl rfl (by decide +kernel) ⟨Nat.le_of_ble_eq_true rfl, Nat.le_of_ble_eq_true rfl⟩) (g_recv hK I (g_at.of mG_obj) (ci := 4) rfl) rfl hl.1 rfl (Nat.le_of_ble_eq_true rfl) dX5_hold_42 ⟨Nat.le_of_ble_eq_true rfl, Nat.le_of_ble_eq_true rfl⟩) I (fun r_42 ph1 H locs hp I => ?_)
          obtain ⟨hp, rfl⟩ := hp
          have hp : r_42 = 0 := hp
          subst hp
          have I : g_I Γ (mG Γ mo ad (upd f 0 1) a rr ph) s H locs := I
          exact g_iret S hr hlk I dX5_hold_45 (Nat.le_of_ble_eq_true rfl) (Nat.le_of_ble_eq_true rfl) hQ ⟨_, rfl, (by (try simp only [p_7, p_17, p_26, p_37]); (try simp [pubF, pubA, pubR, cmA, hdOk, nHold, hdW, m_hin, p_7, p_17, p_26, p_37])), (by (try simp only [p_7, p_17, p_26, p_37]); (try simp [pubF, pubA, pubR, cmA, hdOk, nHold, hdW, m_hin, p_7, p_17, p_26, p_37]))⟩

set_option maxHeartbeats 4000000 in
set_option maxRecDepth 100000 in
theorem met_X5_lamp (l : Launch) (Γ : g_C) (mo : Nat) (ad : Nat → Nat) (f : Nat → Int32) (a : Nat → Nat → Int32) (rr : Nat → UInt32) (ph : g_H) (p0 : Int32) (p1 : Int32) (p2 : Int32) (hw : WF (a 5)) (hU : okU f) : g_Met l yX5_lamp (ws_ yX5_lamp cX5_lamp 5 (some .int)) (g_rm 8 0 0) Γ [.ref mo, .int p0, .int p1, .int p2] (mG Γ mo ad f a rr ph) (g_oi (fun v ph' => v = (if isPl (a 5) p0 = false then 0 else if lpOk p1 p2 = false then 0 else if (a 5) 104 = 4 then 0 else pubR (nLamp (a 5) p0) ((a 5) 104)) ∧ ph' = mG Γ mo ad (if isPl (a 5) p0 = false then upd f 0 1 else if lpOk p1 p2 = false then upd f 0 2 else if (a 5) 104 = 4 then upd f 0 3 else pubF f (nLamp (a 5) p0) 4) (if isPl (a 5) p0 = false then a else if lpOk p1 p2 = false then a else if (a 5) 104 = 4 then a else pubA f a (nLamp (a 5) p0) (lpW (a 5) p0 p1 p2)) rr ph)) g_no := by
  refine g_start (y := yX5_lamp) (cc := cX5_lamp) (maxL := 5) (ret := (some .int)) (rm := g_rm 8 0 0) (by decide) (Nat.le_of_ble_eq_true rfl) ?_
  intro p e s m A below meth c ls Q hQ S hr hlk hex hnm hK I hl
  have hx := S.1
  have hb := S.2.1
  have hown := S.2.2.2.1
  have hts := S.2.2.2.2
  have S : CallFix p m c cX5_lamp 5 s A lw_all "CrumblingWallModel" := S
  have hl : lv_has ls 5 [(0, .ref mo), (1, .int p0), (2, .int p1), (3, .int p2)] := hl
  refine lv_aload_n hx hb dX5_lamp_0 rfl (lv_at hl 0 rfl) ?_
  refine lv_iload_n hx hb dX5_lamp_1 rfl (lv_at hl 1 rfl) ?_
  refine g_ci (g_runV S hK I (As := [.int p0]) (rest := []) (met_X5_isPlace l Γ mo ad f a rr ph p0) (cwV 1 hts (lw_V q3157 q3159 qs71 q151 q3160) rfl rfl rfl (by decide +kernel) ⟨Nat.le_of_ble_eq_true rfl, Nat.le_of_ble_eq_true rfl⟩) (g_recv hK I (g_at.of mG_obj) (ci := 4) rfl) rfl hl.1 rfl (Nat.le_of_ble_eq_true rfl) dX5_lamp_2 ⟨Nat.le_of_ble_eq_true rfl, Nat.le_of_ble_eq_true rfl⟩) I (fun r_2 ph1 H locs hp I => ?_)
  obtain ⟨hp, rfl⟩ := hp
  have hp : r_2 = b2i (isPl (a 5) p0) := hp
  subst hp
  refine lv_if_ne (tgt := 14) hx hb dX5_lamp_5 (by decide) (fun c_5 => ?_) (fun c_5 => ?_)
  · have p_5 := (b2i_ne0 _).mp c_5
    refine lv_iload_n hx hb dX5_lamp_14 rfl (lv_at hl 2 rfl) ?_
    refine lv_iconst (v := 1) hx hb dX5_lamp_15 (by decide) ?_
    refine lv_bipush (v := 6) hx hb dX5_lamp_16 (by decide) ?_
    refine g_ci (g_runS S hK I (As := [.int p1, .int 1, .int 6]) (rest := []) (met_X5_isBetween l Γ (mG Γ mo ad f a rr ph) p1 1 6) (va_cwS 3 hts (lw_S q3053 q3054 q151 q3055) rfl rfl rfl (by decide +kernel) ⟨Nat.le_of_ble_eq_true rfl, Nat.le_of_ble_eq_true rfl⟩) rfl hl.1 rfl (Nat.le_of_ble_eq_true rfl) dX5_lamp_18 ⟨Nat.le_of_ble_eq_true rfl, Nat.le_of_ble_eq_true rfl⟩) I (fun r_18 ph1 H locs hp I => ?_)
    obtain ⟨hp, rfl⟩ := hp
    have hp : r_18 = b2i (btw p1 1 6) := hp
    subst hp
    refine lv_if_eq (tgt := 34) hx hb dX5_lamp_21 (by decide) (fun c_21 => ?_) (fun c_21 => ?_)
    · have p_21 := (b2i_eq0 _).mp c_21
      refine lv_aload_n hx hb dX5_lamp_34 rfl (lv_at hl 0 rfl) ?_
      refine lv_iconst (v := 2) hx hb dX5_lamp_35 (by decide) ?_
      refine g_ci (g_runV S hK I (As := [.int 2]) (rest := []) (met_X5_fails l Γ mo ad f a rr ph 2) (cwV 1 hts (lw_V q3056 q3058 qs51 q151 q3059) rfl rfl rfl (by decide +kernel) ⟨Nat.le_of_ble_eq_true rfl, Nat.le_of_ble_eq_true rfl⟩) (g_recv hK I (g_at.of mG_obj) (ci := 4) rfl) rfl hl.1 rfl (Nat.le_of_ble_eq_true rfl) dX5_lamp_36 ⟨Nat.le_of_ble_eq_true rfl, Nat.le_of_ble_eq_true rfl⟩) I (fun r_36 ph1 H locs hp I => ?_)
      obtain ⟨hp, rfl⟩ := hp
      have hp : r_36 = 0 := hp
      subst hp
      have I : g_I Γ (mG Γ mo ad (upd f 0 2) a rr ph) s H locs := I
      exact g_iret S hr hlk I dX5_lamp_39 (Nat.le_of_ble_eq_true rfl) (Nat.le_of_ble_eq_true rfl) hQ ⟨_, rfl, (by (try simp only [p_5, p_21]); (try simp [pubF, pubA, pubR, cmA, lpOk, lpW, m_hin, p_5, p_21])), (by (try simp only [p_5, p_21]); (try simp [pubF, pubA, pubR, cmA, lpOk, lpW, m_hin, p_5, p_21]))⟩
    · have p_21 := (b2i_ne0 _).mp c_21
      refine lv_iload_n hx hb dX5_lamp_24 rfl (lv_at hl 3 rfl) ?_
      refine lv_iconst (v := 0) hx hb dX5_lamp_25 (by decide) ?_
      refine lv_bipush (v := 60) hx hb dX5_lamp_26 (by decide) ?_
      refine g_ci (g_runS S hK I (As := [.int p2, .int 0, .int 60]) (rest := []) (met_X5_isBetween l Γ (mG Γ mo ad f a rr ph) p2 0 60) (va_cwS 3 hts (lw_S q3053 q3054 q151 q3055) rfl rfl rfl (by decide +kernel) ⟨Nat.le_of_ble_eq_true rfl, Nat.le_of_ble_eq_true rfl⟩) rfl hl.1 rfl (Nat.le_of_ble_eq_true rfl) dX5_lamp_28 ⟨Nat.le_of_ble_eq_true rfl, Nat.le_of_ble_eq_true rfl⟩) I (fun r_28 ph1 H locs hp I => ?_)
      obtain ⟨hp, rfl⟩ := hp
      have hp : r_28 = b2i (btw p2 0 60) := hp
      subst hp
      refine lv_if_ne (tgt := 40) hx hb dX5_lamp_31 (by decide) (fun c_31 => ?_) (fun c_31 => ?_)
      · have p_31 := (b2i_ne0 _).mp c_31
        refine lv_aload_n hx hb dX5_lamp_40 rfl (lv_at hl 0 rfl) ?_
        refine g_get S hK I k_X5 (v := .ref (ad 5)) (g_at.of mG_obj) 5 (by decide) q2957 rfl rfl dX5_lamp_41 ?_
        refine lv_bipush (v := 104) hx hb dX5_lamp_44 (by decide) ?_
        refine m_iald S hK I (f := (a 5)) (k := 104) (g_at.of mG_5) (vp_lit (by decide)) (by decide) dX5_lamp_46 ?_
        refine lv_iconst (v := 4) hx hb dX5_lamp_47 (by decide) ?_
        refine lv_icmp_ne (tgt := 57) hx hb dX5_lamp_48 (by decide) (fun c_48 => ?_) (fun c_48 => ?_)
        · refine lv_iload_n hx hb dX5_lamp_57 rfl (lv_at hl 1 rfl) ?_
          refine lv_iconst (v := (-1)) hx hb dX5_lamp_58 (by decide) ?_
          have J_85_0 : ∀ (H : Heap) (locs : List Loc) (ls : Array Slot), (hn : nLamp (a 5) p0 = none) → g_I Γ (mG Γ mo ad f a rr ph) s H locs → lv_has ls 5 [(0, .ref mo), (1, .int p0), (2, .int p1), (3, .int p2)] → W p l e (g_rm 8 0 0) s m A below meth c H locs 0 0 Q (F0 m 85 ls []) := by
            intro  H locs ls hn I hl
            refine lv_aload_n hx hb dX5_lamp_85 rfl (lv_at hl 0 rfl) ?_
            refine lv_iconst (v := 0) hx hb dX5_lamp_86 (by decide) ?_
            refine g_put S hK I k_X5 (v := .int 0) mG_obj 0 (by decide) q2952 rfl rfl rfl rfl (Nat.le_of_ble_eq_true rfl) dX5_lamp_87 (fun H locs I => ?_)
            have I := mI_f (f' := (upd f 0 0)) I rfl
            refine lv_aload_n hx hb dX5_lamp_90 rfl (lv_at hl 0 rfl) ?_
            refine g_cv (g_runV S hK I (As := []) (rest := []) (met_X5_notes l Γ mo ad (upd f 0 0) a rr ph ) (cwV 0 hts (lw_V q3079 q3081 qs56 q151 q3082) rfl rfl rfl (by decide +kernel) ⟨Nat.le_of_ble_eq_true rfl, Nat.le_of_ble_eq_true rfl⟩) (g_recv hK I (g_at.of mG_obj) (ci := 4) rfl) rfl hl.1 rfl (Nat.le_of_ble_eq_true rfl) dX5_lamp_91 ⟨Nat.le_of_ble_eq_true rfl, Nat.le_of_ble_eq_true rfl⟩) I (fun ph1 H locs hp I => ?_)
            subst hp
            have I : g_I Γ (mG Γ mo ad (upd f 0 0) (va_up a 8 (va_cpy (a 5) (a 8) 0 0 170)) rr ph) s H locs := I
            refine lv_aload_n hx hb dX5_lamp_94 rfl (lv_at hl 0 rfl) ?_
            refine g_cv (g_runV S hK I (As := []) (rest := []) (met_X5_remembers l Γ mo ad (upd f 0 0) (va_up a 8 (va_cpy (a 5) (a 8) 0 0 170)) rr ph (okU_0 hU)) (cwV 0 hts (lw_V q3083 q3085 qs57 q151 q3086) rfl rfl rfl (by decide +kernel) ⟨Nat.le_of_ble_eq_true rfl, Nat.le_of_ble_eq_true rfl⟩) (g_recv hK I (g_at.of mG_obj) (ci := 4) rfl) rfl hl.1 rfl (Nat.le_of_ble_eq_true rfl) dX5_lamp_95 ⟨Nat.le_of_ble_eq_true rfl, Nat.le_of_ble_eq_true rfl⟩) I (fun ph1 H locs hp I => ?_)
            subst hp
            have I : g_I Γ (mG Γ mo ad (remF (upd f 0 0)) (va_up (va_up a 8 (va_cpy (a 5) (a 8) 0 0 170)) 6 (va_cpy (va_cpy (a 5) (a 8) 0 0 170) (a 6) 0 (170 * rSl (upd f 0 0)) 170)) rr ph) s H locs := I
            refine lv_aload_n hx hb dX5_lamp_98 rfl (lv_at hl 0 rfl) ?_
            refine g_get S hK I k_X5 (v := .ref (ad 5)) (g_at.of mG_obj) 5 (by decide) q2957 rfl rfl dX5_lamp_99 ?_
            refine lv_bipush (v := 104) hx hb dX5_lamp_102 (by decide) ?_
            refine m_iald S hK I (f := (a 5)) (k := 104) (g_at.of mG_5) (vp_lit (by decide)) (by decide) dX5_lamp_104 ?_
            refine lv_istore (lv' := [(4, .int ((a 5) 104)), (0, .ref mo), (1, .int p0), (2, .int p1), (3, .int p2)]) hx hb dX5_lamp_105 hl (by decide) rfl (fun ls hl => ?_)
            refine lv_aload_n hx hb dX5_lamp_107 rfl (lv_at hl 1 rfl) ?_
            refine g_get S hK I k_X5 (v := .ref (ad 5)) (g_at.of mG_obj) 5 (by decide) q2957 rfl rfl dX5_lamp_108 ?_
            refine lv_bipush (v := 104) hx hb dX5_lamp_111 (by decide) ?_
            refine lv_dup2_11 hx hb dX5_lamp_113 rfl rfl ?_
            refine m_iald S hK I (f := (a 5)) (k := 104) (g_at.of mG_5) (vp_lit (by decide)) (by decide) dX5_lamp_114 ?_
            refine lv_iconst (v := 1) hx hb dX5_lamp_115 (by decide) ?_
            refine lv_iadd hx hb dX5_lamp_116 ?_
            refine m_iast S hK I (f := (a 5)) (k := 104) mG_5 (vp_lit (by decide)) (by decide) dX5_lamp_117 (fun H locs I => ?_)
            have I := mI_5 I
            refine lv_aload_n hx hb dX5_lamp_118 rfl (lv_at hl 1 rfl) ?_
            refine g_get S hK I k_X5 (v := .ref (ad 5)) (g_at.of mG_obj) 5 (by decide) q2957 rfl rfl dX5_lamp_119 ?_
            refine lv_iload hx hb dX5_lamp_122 (lv_at hl 0 rfl) ?_
            refine lv_iconst (v := 0) hx hb dX5_lamp_124 (by decide) ?_
            refine g_ci (g_runS S hK I (As := [.int ((a 5) 104), .int 0]) (rest := [.ref (ad 5)]) (met_X5_atLamp l Γ (mG Γ mo ad (remF (upd f 0 0)) (va_up (va_up (va_up a 8 (va_cpy (a 5) (a 8) 0 0 170)) 6 (va_cpy (va_cpy (a 5) (a 8) 0 0 170) (a 6) 0 (170 * rSl (upd f 0 0)) 170)) 5 (upd (a 5) 104 (((a 5) 104) + 1))) rr ph) ((a 5) 104) 0) (va_cwS 2 hts (lw_S q3134 q3135 q151 q3136) rfl rfl rfl (by decide +kernel) ⟨Nat.le_of_ble_eq_true rfl, Nat.le_of_ble_eq_true rfl⟩) rfl hl.1 rfl (Nat.le_of_ble_eq_true rfl) dX5_lamp_125 ⟨Nat.le_of_ble_eq_true rfl, Nat.le_of_ble_eq_true rfl⟩) I (fun r_125 ph1 H locs hp I => ?_)
            obtain ⟨hp, rfl⟩ := hp
            have hp : r_125 = 105 + 5 * ((a 5) 104) + 0 := hp
            subst hp
            refine lv_iload_n hx hb dX5_lamp_128 rfl (lv_at hl 2 rfl) ?_
            refine m_iast S hK I (f := (upd (a 5) 104 (((a 5) 104) + 1))) (k := (105 + 5 * nLa (a 5))) mG_5 (ix_ln hw c_48 (t := 0) (by decide)).1 (ix_ln hw c_48 (t := 0) (by decide)).2 dX5_lamp_129 (fun H locs I => ?_)
            have I := mI_5 I
            rw [bx_uu] at I
            refine lv_aload_n hx hb dX5_lamp_130 rfl (lv_at hl 1 rfl) ?_
            refine g_get S hK I k_X5 (v := .ref (ad 5)) (g_at.of mG_obj) 5 (by decide) q2957 rfl rfl dX5_lamp_131 ?_
            refine lv_iload hx hb dX5_lamp_134 (lv_at hl 0 rfl) ?_
            refine lv_iconst (v := 1) hx hb dX5_lamp_136 (by decide) ?_
            refine g_ci (g_runS S hK I (As := [.int ((a 5) 104), .int 1]) (rest := [.ref (ad 5)]) (met_X5_atLamp l Γ (mG Γ mo ad (remF (upd f 0 0)) (va_up (va_up (va_up a 8 (va_cpy (a 5) (a 8) 0 0 170)) 6 (va_cpy (va_cpy (a 5) (a 8) 0 0 170) (a 6) 0 (170 * rSl (upd f 0 0)) 170)) 5 (upd (upd (a 5) 104 (((a 5) 104) + 1)) (105 + 5 * nLa (a 5)) p0)) rr ph) ((a 5) 104) 1) (va_cwS 2 hts (lw_S q3134 q3135 q151 q3136) rfl rfl rfl (by decide +kernel) ⟨Nat.le_of_ble_eq_true rfl, Nat.le_of_ble_eq_true rfl⟩) rfl hl.1 rfl (Nat.le_of_ble_eq_true rfl) dX5_lamp_137 ⟨Nat.le_of_ble_eq_true rfl, Nat.le_of_ble_eq_true rfl⟩) I (fun r_137 ph1 H locs hp I => ?_)
            obtain ⟨hp, rfl⟩ := hp
            have hp : r_137 = 105 + 5 * ((a 5) 104) + 1 := hp
            subst hp
            refine lv_iconst (v := (-1)) hx hb dX5_lamp_140 (by decide) ?_
            refine m_iast S hK I (f := (upd (upd (a 5) 104 (((a 5) 104) + 1)) (105 + 5 * nLa (a 5)) p0)) (k := (105 + 5 * nLa (a 5) + 1)) mG_5 (ix_ln hw c_48 (t := 1) (by decide)).1 (ix_ln hw c_48 (t := 1) (by decide)).2 dX5_lamp_141 (fun H locs I => ?_)
            have I := mI_5 I
            rw [bx_uu] at I
            refine lv_aload_n hx hb dX5_lamp_142 rfl (lv_at hl 1 rfl) ?_
            refine g_get S hK I k_X5 (v := .ref (ad 5)) (g_at.of mG_obj) 5 (by decide) q2957 rfl rfl dX5_lamp_143 ?_
            refine lv_iload hx hb dX5_lamp_146 (lv_at hl 0 rfl) ?_
            refine lv_iconst (v := 2) hx hb dX5_lamp_148 (by decide) ?_
            refine g_ci (g_runS S hK I (As := [.int ((a 5) 104), .int 2]) (rest := [.ref (ad 5)]) (met_X5_atLamp l Γ (mG Γ mo ad (remF (upd f 0 0)) (va_up (va_up (va_up a 8 (va_cpy (a 5) (a 8) 0 0 170)) 6 (va_cpy (va_cpy (a 5) (a 8) 0 0 170) (a 6) 0 (170 * rSl (upd f 0 0)) 170)) 5 (upd (upd (upd (a 5) 104 (((a 5) 104) + 1)) (105 + 5 * nLa (a 5)) p0) (105 + 5 * nLa (a 5) + 1) (-1))) rr ph) ((a 5) 104) 2) (va_cwS 2 hts (lw_S q3134 q3135 q151 q3136) rfl rfl rfl (by decide +kernel) ⟨Nat.le_of_ble_eq_true rfl, Nat.le_of_ble_eq_true rfl⟩) rfl hl.1 rfl (Nat.le_of_ble_eq_true rfl) dX5_lamp_149 ⟨Nat.le_of_ble_eq_true rfl, Nat.le_of_ble_eq_true rfl⟩) I (fun r_149 ph1 H locs hp I => ?_)
            obtain ⟨hp, rfl⟩ := hp
            have hp : r_149 = 105 + 5 * ((a 5) 104) + 2 := hp
            subst hp
            refine lv_iload_n hx hb dX5_lamp_152 rfl (lv_at hl 3 rfl) ?_
            refine m_iast S hK I (f := (upd (upd (upd (a 5) 104 (((a 5) 104) + 1)) (105 + 5 * nLa (a 5)) p0) (105 + 5 * nLa (a 5) + 1) (-1))) (k := (105 + 5 * nLa (a 5) + 2)) mG_5 (ix_ln hw c_48 (t := 2) (by decide)).1 (ix_ln hw c_48 (t := 2) (by decide)).2 dX5_lamp_153 (fun H locs I => ?_)
            have I := mI_5 I
            rw [bx_uu] at I
            refine lv_aload_n hx hb dX5_lamp_154 rfl (lv_at hl 1 rfl) ?_
            refine g_get S hK I k_X5 (v := .ref (ad 5)) (g_at.of mG_obj) 5 (by decide) q2957 rfl rfl dX5_lamp_155 ?_
            refine lv_iload hx hb dX5_lamp_158 (lv_at hl 0 rfl) ?_
            refine lv_iconst (v := 3) hx hb dX5_lamp_160 (by decide) ?_
            refine g_ci (g_runS S hK I (As := [.int ((a 5) 104), .int 3]) (rest := [.ref (ad 5)]) (met_X5_atLamp l Γ (mG Γ mo ad (remF (upd f 0 0)) (va_up (va_up (va_up a 8 (va_cpy (a 5) (a 8) 0 0 170)) 6 (va_cpy (va_cpy (a 5) (a 8) 0 0 170) (a 6) 0 (170 * rSl (upd f 0 0)) 170)) 5 (upd (upd (upd (upd (a 5) 104 (((a 5) 104) + 1)) (105 + 5 * nLa (a 5)) p0) (105 + 5 * nLa (a 5) + 1) (-1)) (105 + 5 * nLa (a 5) + 2) p1)) rr ph) ((a 5) 104) 3) (va_cwS 2 hts (lw_S q3134 q3135 q151 q3136) rfl rfl rfl (by decide +kernel) ⟨Nat.le_of_ble_eq_true rfl, Nat.le_of_ble_eq_true rfl⟩) rfl hl.1 rfl (Nat.le_of_ble_eq_true rfl) dX5_lamp_161 ⟨Nat.le_of_ble_eq_true rfl, Nat.le_of_ble_eq_true rfl⟩) I (fun r_161 ph1 H locs hp I => ?_)
            obtain ⟨hp, rfl⟩ := hp
            have hp : r_161 = 105 + 5 * ((a 5) 104) + 3 := hp
            subst hp
            refine lv_iload_n hx hb dX5_lamp_164 rfl (lv_at hl 4 rfl) ?_
            refine m_iast S hK I (f := (upd (upd (upd (upd (a 5) 104 (((a 5) 104) + 1)) (105 + 5 * nLa (a 5)) p0) (105 + 5 * nLa (a 5) + 1) (-1)) (105 + 5 * nLa (a 5) + 2) p1)) (k := (105 + 5 * nLa (a 5) + 3)) mG_5 (ix_ln hw c_48 (t := 3) (by decide)).1 (ix_ln hw c_48 (t := 3) (by decide)).2 dX5_lamp_165 (fun H locs I => ?_)
            have I := mI_5 I
            rw [bx_uu] at I
            refine lv_aload_n hx hb dX5_lamp_166 rfl (lv_at hl 1 rfl) ?_
            refine g_get S hK I k_X5 (v := .ref (ad 5)) (g_at.of mG_obj) 5 (by decide) q2957 rfl rfl dX5_lamp_167 ?_
            refine lv_iload hx hb dX5_lamp_170 (lv_at hl 0 rfl) ?_
            refine lv_iconst (v := 4) hx hb dX5_lamp_172 (by decide) ?_
            refine g_ci (g_runS S hK I (As := [.int ((a 5) 104), .int 4]) (rest := [.ref (ad 5)]) (met_X5_atLamp l Γ (mG Γ mo ad (remF (upd f 0 0)) (va_up (va_up (va_up a 8 (va_cpy (a 5) (a 8) 0 0 170)) 6 (va_cpy (va_cpy (a 5) (a 8) 0 0 170) (a 6) 0 (170 * rSl (upd f 0 0)) 170)) 5 (upd (upd (upd (upd (upd (a 5) 104 (((a 5) 104) + 1)) (105 + 5 * nLa (a 5)) p0) (105 + 5 * nLa (a 5) + 1) (-1)) (105 + 5 * nLa (a 5) + 2) p1) (105 + 5 * nLa (a 5) + 3) p2)) rr ph) ((a 5) 104) 4) (va_cwS 2 hts (lw_S q3134 q3135 q151 q3136) rfl rfl rfl (by decide +kernel) ⟨Nat.le_of_ble_eq_true rfl, Nat.le_of_ble_eq_true rfl⟩) rfl hl.1 rfl (Nat.le_of_ble_eq_true rfl) dX5_lamp_173 ⟨Nat.le_of_ble_eq_true rfl, Nat.le_of_ble_eq_true rfl⟩) I (fun r_173 ph1 H locs hp I => ?_)
            obtain ⟨hp, rfl⟩ := hp
            have hp : r_173 = 105 + 5 * ((a 5) 104) + 4 := hp
            subst hp
            refine lv_iconst (v := 0) hx hb dX5_lamp_176 (by decide) ?_
            refine m_iast S hK I (f := (upd (upd (upd (upd (upd (a 5) 104 (((a 5) 104) + 1)) (105 + 5 * nLa (a 5)) p0) (105 + 5 * nLa (a 5) + 1) (-1)) (105 + 5 * nLa (a 5) + 2) p1) (105 + 5 * nLa (a 5) + 3) p2)) (k := (105 + 5 * nLa (a 5) + 4)) mG_5 (ix_ln hw c_48 (t := 4) (by decide)).1 (ix_ln hw c_48 (t := 4) (by decide)).2 dX5_lamp_177 (fun H locs I => ?_)
            have I := mI_5 I
            rw [bx_uu] at I
            refine lv_iload hx hb dX5_lamp_178 (lv_at hl 0 rfl) ?_
            exact g_iret S hr hlk I dX5_lamp_180 (Nat.le_of_ble_eq_true rfl) (Nat.le_of_ble_eq_true rfl) hQ ⟨_, rfl, (by (try simp only [p_5, p_21, p_31]); (try simp [pubF, pubA, pubR, cmA, lpOk, lpW, m_hin, p_5, p_21, p_31, c_48, hn])), (by (try simp only [p_5, p_21, p_31]); (try simp [pubF, pubA, pubR, cmA, lpOk, lpW, m_hin, p_5, p_21, p_31, c_48, hn]))⟩
          refine lv_icmp_eq (tgt := 85) hx hb dX5_lamp_59 (by decide) (fun c_59 => ?_) (fun c_59 => ?_)
          · exact J_85_0  _ _ _ (if_neg (fun q => q.1 c_59)) I (lv_sub hl [0, 1, 2, 3] rfl)
          · refine lv_aload_n hx hb dX5_lamp_62 rfl (lv_at hl 0 rfl) ?_
            refine lv_iload_n hx hb dX5_lamp_63 rfl (lv_at hl 1 rfl) ?_
            refine g_ci (g_runV S hK I (As := [.int p0]) (rest := []) (met_X5_hasCrumbled l Γ mo ad f a rr ph p0 (okP_in hw ((isPl_iff hw).mp p_5) c_59)) (cwV 1 hts (lw_V q3122 q3124 qs64 q151 q3125) rfl rfl rfl (by decide +kernel) ⟨Nat.le_of_ble_eq_true rfl, Nat.le_of_ble_eq_true rfl⟩) (g_recv hK I (g_at.of mG_obj) (ci := 4) rfl) rfl hl.1 rfl (Nat.le_of_ble_eq_true rfl) dX5_lamp_64 ⟨Nat.le_of_ble_eq_true rfl, Nat.le_of_ble_eq_true rfl⟩) I (fun r_64 ph1 H locs hp I => ?_)
            obtain ⟨hp, rfl⟩ := hp
            have hp : r_64 = b2i (hasCr (a 5) p0) := hp
            subst hp
            refine lv_if_eq (tgt := 85) hx hb dX5_lamp_67 (by decide) (fun c_67 => ?_) (fun c_67 => ?_)
            · have p_67 := (b2i_eq0 _).mp c_67
              exact J_85_0  _ _ _ (if_neg (fun q => absurd q.2 (by rw [p_67]; decide))) I (lv_sub hl [0, 1, 2, 3] rfl)
            · have p_67 := (b2i_ne0 _).mp c_67
              refine lv_aload_n hx hb dX5_lamp_70 rfl (lv_at hl 0 rfl) ?_
              refine lv_iconst (v := 2) hx hb dX5_lamp_71 (by decide) ?_
              refine lv_iload_n hx hb dX5_lamp_72 rfl (lv_at hl 1 rfl) ?_
              refine g_ci (g_runV S hK I (As := [.int 2, .int p0]) (rest := []) (met_X5_hinders l Γ mo ad f a rr ph 2 p0) (cwV 2 hts (lw_V q3071 q3073 qs54 q151 q3074) rfl rfl rfl (by decide +kernel) ⟨Nat.le_of_ble_eq_true rfl, Nat.le_of_ble_eq_true rfl⟩) (g_recv hK I (g_at.of mG_obj) (ci := 4) rfl) rfl hl.1 rfl (Nat.le_of_ble_eq_true rfl) dX5_lamp_73 ⟨Nat.le_of_ble_eq_true rfl, Nat.le_of_ble_eq_true rfl⟩) I (fun r_73 ph1 H locs hp I => ?_)
              obtain ⟨hp, rfl⟩ := hp
              have hp : r_73 = b2i true := hp
              subst hp
              have I : g_I Γ (mG Γ mo ad (upd (upd f 3 2) 4 p0) a rr ph) s H locs := I
              refine lv_if_eq (tgt := 85) hx hb dX5_lamp_76 (by decide) (fun q => absurd q (by decide)) (fun _ => ?_)
              refine lv_aload_n hx hb dX5_lamp_79 rfl (lv_at hl 0 rfl) ?_
              refine lv_iconst (v := 4) hx hb dX5_lamp_80 (by decide) ?_
              refine g_ci (g_runV S hK I (As := [.int 4]) (rest := []) (met_X5_refuses l Γ mo ad (upd (upd f 3 2) 4 p0) a rr ph 4) (cwV 1 hts (lw_V q3075 q3077 qs55 q151 q3078) rfl rfl rfl (by decide +kernel) ⟨Nat.le_of_ble_eq_true rfl, Nat.le_of_ble_eq_true rfl⟩) (g_recv hK I (g_at.of mG_obj) (ci := 4) rfl) rfl hl.1 rfl (Nat.le_of_ble_eq_true rfl) dX5_lamp_81 ⟨Nat.le_of_ble_eq_true rfl, Nat.le_of_ble_eq_true rfl⟩) I (fun r_81 ph1 H locs hp I => ?_)
              obtain ⟨hp, rfl⟩ := hp
              have hp : r_81 = 0 := hp
              subst hp
              have I : g_I Γ (mG Γ mo ad (m_ref (upd (upd f 3 2) 4 p0) 4) a rr ph) s H locs := I
              exact g_iret S hr hlk I dX5_lamp_84 (Nat.le_of_ble_eq_true rfl) (Nat.le_of_ble_eq_true rfl) hQ ⟨_, rfl, (by rw [show nLamp (a 5) p0 = some (2, p0) from if_pos ⟨c_59, p_67⟩]; simp [pubF, pubA, pubR, m_hin, lpOk, p_5, p_21, p_31, c_48]), (by rw [show nLamp (a 5) p0 = some (2, p0) from if_pos ⟨c_59, p_67⟩]; simp [pubF, pubA, pubR, m_hin, lpOk, p_5, p_21, p_31, c_48])⟩
        · refine lv_aload_n hx hb dX5_lamp_51 rfl (lv_at hl 0 rfl) ?_
          refine lv_iconst (v := 3) hx hb dX5_lamp_52 (by decide) ?_
          refine g_ci (g_runV S hK I (As := [.int 3]) (rest := []) (met_X5_fails l Γ mo ad f a rr ph 3) (cwV 1 hts (lw_V q3056 q3058 qs51 q151 q3059) rfl rfl rfl (by decide +kernel) ⟨Nat.le_of_ble_eq_true rfl, Nat.le_of_ble_eq_true rfl⟩) (g_recv hK I (g_at.of mG_obj) (ci := 4) rfl) rfl hl.1 rfl (Nat.le_of_ble_eq_true rfl) dX5_lamp_53 ⟨Nat.le_of_ble_eq_true rfl, Nat.le_of_ble_eq_true rfl⟩) I (fun r_53 ph1 H locs hp I => ?_)
          obtain ⟨hp, rfl⟩ := hp
          have hp : r_53 = 0 := hp
          subst hp
          have I : g_I Γ (mG Γ mo ad (upd f 0 3) a rr ph) s H locs := I
          exact g_iret S hr hlk I dX5_lamp_56 (Nat.le_of_ble_eq_true rfl) (Nat.le_of_ble_eq_true rfl) hQ ⟨_, rfl, (by (try simp only [p_5, p_21, p_31]); (try simp [pubF, pubA, pubR, cmA, lpOk, lpW, m_hin, p_5, p_21, p_31, c_48])), (by (try simp only [p_5, p_21, p_31]); (try simp [pubF, pubA, pubR, cmA, lpOk, lpW, m_hin, p_5, p_21, p_31, c_48]))⟩
      · have p_31 := (b2i_eq0 _).mp c_31
        refine lv_aload_n hx hb dX5_lamp_34 rfl (lv_at hl 0 rfl) ?_
        refine lv_iconst (v := 2) hx hb dX5_lamp_35 (by decide) ?_
        refine g_ci (g_runV S hK I (As := [.int 2]) (rest := []) (met_X5_fails l Γ mo ad f a rr ph 2) (cwV 1 hts (lw_V q3056 q3058 qs51 q151 q3059) rfl rfl rfl (by decide +kernel) ⟨Nat.le_of_ble_eq_true rfl, Nat.le_of_ble_eq_true rfl⟩) (g_recv hK I (g_at.of mG_obj) (ci := 4) rfl) rfl hl.1 rfl (Nat.le_of_ble_eq_true rfl) dX5_lamp_36 ⟨Nat.le_of_ble_eq_true rfl, Nat.le_of_ble_eq_true rfl⟩) I (fun r_36 ph1 H locs hp I => ?_)
        obtain ⟨hp, rfl⟩ := hp
        have hp : r_36 = 0 := hp
        subst hp
        have I : g_I Γ (mG Γ mo ad (upd f 0 2) a rr ph) s H locs := I
        exact g_iret S hr hlk I dX5_lamp_39 (Nat.le_of_ble_eq_true rfl) (Nat.le_of_ble_eq_true rfl) hQ ⟨_, rfl, (by (try simp only [p_5, p_21, p_31]); (try simp [pubF, pubA, pubR, cmA, lpOk, lpW, m_hin, p_5, p_21, p_31])), (by (try simp only [p_5, p_21, p_31]); (try simp [pubF, pubA, pubR, cmA, lpOk, lpW, m_hin, p_5, p_21, p_31]))⟩
  · have p_5 := (b2i_eq0 _).mp c_5
    refine lv_aload_n hx hb dX5_lamp_8 rfl (lv_at hl 0 rfl) ?_
    refine lv_iconst (v := 1) hx hb dX5_lamp_9 (by decide) ?_
    refine g_ci (g_runV S hK I (As := [.int 1]) (rest := []) (met_X5_fails l Γ mo ad f a rr ph 1) (cwV 1 hts (lw_V q3056 q3058 qs51 q151 q3059) rfl rfl rfl (by decide +kernel) ⟨Nat.le_of_ble_eq_true rfl, Nat.le_of_ble_eq_true rfl⟩) (g_recv hK I (g_at.of mG_obj) (ci := 4) rfl) rfl hl.1 rfl (Nat.le_of_ble_eq_true rfl) dX5_lamp_10 ⟨Nat.le_of_ble_eq_true rfl, Nat.le_of_ble_eq_true rfl⟩) I (fun r_10 ph1 H locs hp I => ?_)
    obtain ⟨hp, rfl⟩ := hp
    have hp : r_10 = 0 := hp
    subst hp
    have I : g_I Γ (mG Γ mo ad (upd f 0 1) a rr ph) s H locs := I
    exact g_iret S hr hlk I dX5_lamp_13 (Nat.le_of_ble_eq_true rfl) (Nat.le_of_ble_eq_true rfl) hQ ⟨_, rfl, (by (try simp only [p_5]); (try simp [pubF, pubA, pubR, cmA, lpOk, lpW, m_hin, p_5])), (by (try simp only [p_5]); (try simp [pubF, pubA, pubR, cmA, lpOk, lpW, m_hin, p_5]))⟩

set_option maxHeartbeats 4000000 in
set_option maxRecDepth 100000 in
theorem met_X5_force (l : Launch) (Γ : g_C) (mo : Nat) (ad : Nat → Nat) (f : Nat → Int32) (a : Nat → Nat → Int32) (rr : Nat → UInt32) (ph : g_H) (p0 : Int32) (hw : WF (a 5)) (hf : FW (a 5)) : g_Met l yX5_force (ws_ yX5_force cX5_force 2 (some .float)) (g_rm 2 0 0) Γ [.ref mo, .int p0] (mG Γ mo ad f a rr ph) (g_of (fun v ph' => v = (if btw p0 0 ((a 5) 145 - 1) = false then FP.i2f 0 else ((a 5) (146 + p0.toNatClampNeg)).toUInt32) ∧ ph' = mG Γ mo ad (if btw p0 0 ((a 5) 145 - 1) = false then upd f 0 1 else upd f 0 0) a rr ph)) g_no := by
  refine g_start (y := yX5_force) (cc := cX5_force) (maxL := 2) (ret := (some .float)) (rm := g_rm 2 0 0) (by decide) (Nat.le_of_ble_eq_true rfl) ?_
  intro p e s m A below meth c ls Q hQ S hr hlk hex hnm hK I hl
  have hx := S.1
  have hb := S.2.1
  have hown := S.2.2.2.1
  have hts := S.2.2.2.2
  have S : CallFix p m c cX5_force 2 s A lw_all "CrumblingWallModel" := S
  have hl : lv_has ls 2 [(0, .ref mo), (1, .int p0)] := hl
  refine lv_iload_n hx hb dX5_force_0 rfl (lv_at hl 1 rfl) ?_
  refine lv_iconst (v := 0) hx hb dX5_force_1 (by decide) ?_
  refine lv_aload_n hx hb dX5_force_2 rfl (lv_at hl 0 rfl) ?_
  refine g_get S hK I k_X5 (v := .ref (ad 5)) (g_at.of mG_obj) 5 (by decide) q2957 rfl rfl dX5_force_3 ?_
  refine lv_sipush (v := 145) hx hb dX5_force_6 (by decide) ?_
  refine m_iald S hK I (f := (a 5)) (k := 145) (g_at.of mG_5) (vp_lit (by decide)) (by decide) dX5_force_9 ?_
  refine lv_iconst (v := 1) hx hb dX5_force_10 (by decide) ?_
  refine lv_isub hx hb dX5_force_11 ?_
  refine g_ci (g_runS S hK I (As := [.int p0, .int 0, .int (((a 5) 145) - 1)]) (rest := []) (met_X5_isBetween l Γ (mG Γ mo ad f a rr ph) p0 0 (((a 5) 145) - 1)) (va_cwS 3 hts (lw_S q3053 q3054 q151 q3055) rfl rfl rfl (by decide +kernel) ⟨Nat.le_of_ble_eq_true rfl, Nat.le_of_ble_eq_true rfl⟩) rfl hl.1 rfl (Nat.le_of_ble_eq_true rfl) dX5_force_12 ⟨Nat.le_of_ble_eq_true rfl, Nat.le_of_ble_eq_true rfl⟩) I (fun r_12 ph1 H locs hp I => ?_)
  obtain ⟨hp, rfl⟩ := hp
  have hp : r_12 = b2i (btw p0 0 (((a 5) 145) - 1)) := hp
  subst hp
  refine lv_if_ne (tgt := 25) hx hb dX5_force_15 (by decide) (fun c_15 => ?_) (fun c_15 => ?_)
  · have p_15 := (b2i_ne0 _).mp c_15
    have hv := (fr_iff hw).mp p_15
    refine lv_aload_n hx hb dX5_force_25 rfl (lv_at hl 0 rfl) ?_
    refine lv_iconst (v := 0) hx hb dX5_force_26 (by decide) ?_
    refine g_put S hK I k_X5 (v := .int 0) mG_obj 0 (by decide) q2952 rfl rfl rfl rfl (Nat.le_of_ble_eq_true rfl) dX5_force_27 (fun H locs I => ?_)
    have I := mI_f (f' := (upd f 0 0)) I rfl
    refine lv_aload_n hx hb dX5_force_30 rfl (lv_at hl 0 rfl) ?_
    refine g_get S hK I k_X5 (v := .ref (ad 5)) (g_at.of mG_obj) 5 (by decide) q2957 rfl rfl dX5_force_31 ?_
    refine lv_sipush (v := 146) hx hb dX5_force_34 (by decide) ?_
    refine lv_iload_n hx hb dX5_force_37 rfl (lv_at hl 1 rfl) ?_
    refine lv_iadd hx hb dX5_force_38 ?_
    refine m_iald S hK I (f := (a 5)) (k := (146 + p0.toNatClampNeg)) (g_at.of mG_5) (fr_ix hw hv).1 (fr_ix hw hv).2 dX5_force_39 ?_
    refine vn_i2f hx hb (S.2.2.1.trans hl.1.symm) hown (hts _ q3372) (hts _ q3374) (hts _ q3373) (hts _ q174) (sn_of (FW.at hw hf hv)) (Nat.le_of_ble_eq_true rfl) (Nat.le_of_ble_eq_true rfl) dX5_force_40 ?_
    exact g_fret S hr hlk I dX5_force_43 (Nat.le_of_ble_eq_true rfl) (Nat.le_of_ble_eq_true rfl) hQ ⟨_, rfl, (by (try simp only [p_15]); (try simp [p_15])), (by (try simp only [p_15]); (try simp [p_15]))⟩
  · have p_15 := (b2i_eq0 _).mp c_15
    refine lv_aload_n hx hb dX5_force_18 rfl (lv_at hl 0 rfl) ?_
    refine lv_iconst (v := 1) hx hb dX5_force_19 (by decide) ?_
    refine g_ci (g_runV S hK I (As := [.int 1]) (rest := []) (met_X5_fails l Γ mo ad f a rr ph 1) (cwV 1 hts (lw_V q3056 q3058 qs51 q151 q3059) rfl rfl rfl (by decide +kernel) ⟨Nat.le_of_ble_eq_true rfl, Nat.le_of_ble_eq_true rfl⟩) (g_recv hK I (g_at.of mG_obj) (ci := 4) rfl) rfl hl.1 rfl (Nat.le_of_ble_eq_true rfl) dX5_force_20 ⟨Nat.le_of_ble_eq_true rfl, Nat.le_of_ble_eq_true rfl⟩) I (fun r_20 ph1 H locs hp I => ?_)
    obtain ⟨hp, rfl⟩ := hp
    have hp : r_20 = 0 := hp
    subst hp
    have I : g_I Γ (mG Γ mo ad (upd f 0 1) a rr ph) s H locs := I
    refine lv_i2f hx hb dX5_force_23 ?_
    exact g_fret S hr hlk I dX5_force_24 (Nat.le_of_ble_eq_true rfl) (Nat.le_of_ble_eq_true rfl) hQ ⟨_, rfl, (by (try simp only [p_15]); (try simp [p_15])), (by (try simp only [p_15]); (try simp [p_15]))⟩

set_option maxHeartbeats 4000000 in
set_option maxRecDepth 100000 in
theorem met_X5_isRow (l : Launch) (Γ : g_C) (ph : g_H) (p0 : Int32) : g_Met l yX5_isRow (ws_ yX5_isRow cX5_isRow 1 (some .boolean)) (g_rm 2 0 0) Γ [.int p0] (ph) (g_oi (fun v ph' => v = (b2i (btw p0 0 2)) ∧ ph' = ph)) g_no := by
  refine g_start (y := yX5_isRow) (cc := cX5_isRow) (maxL := 1) (ret := (some .boolean)) (rm := g_rm 2 0 0) (by decide) (Nat.le_of_ble_eq_true rfl) ?_
  intro p e s m A below meth c ls Q hQ S hr hlk hex hnm hK I hl
  have hx := S.1
  have hb := S.2.1
  have hown := S.2.2.2.1
  have hts := S.2.2.2.2
  have S : CallFix p m c cX5_isRow 1 s A lw_all "CrumblingWallModel" := S
  have hl : lv_has ls 1 [(0, .int p0)] := hl
  refine lv_iload_n hx hb dX5_isRow_0 rfl (lv_at hl 0 rfl) ?_
  refine lv_iconst (v := 0) hx hb dX5_isRow_1 (by decide) ?_
  refine lv_iconst (v := 2) hx hb dX5_isRow_2 (by decide) ?_
  refine g_ci (g_runS S hK I (As := [.int p0, .int 0, .int 2]) (rest := []) (met_X5_isBetween l Γ (ph) p0 0 2) (va_cwS 3 hts (lw_S q3053 q3054 q151 q3055) rfl rfl rfl (by decide +kernel) ⟨Nat.le_of_ble_eq_true rfl, Nat.le_of_ble_eq_true rfl⟩) rfl hl.1 rfl (Nat.le_of_ble_eq_true rfl) dX5_isRow_3 ⟨Nat.le_of_ble_eq_true rfl, Nat.le_of_ble_eq_true rfl⟩) I (fun r_3 ph1 H locs hp I => ?_)
  obtain ⟨hp, hph⟩ := hp
  rw [hph] at I
  have hp : r_3 = b2i (btw p0 0 2) := hp
  subst hp
  exact g_zret S hr hlk I (b2i_nar _) dX5_isRow_6 (Nat.le_of_ble_eq_true rfl) (Nat.le_of_ble_eq_true rfl) hQ ⟨_, rfl, rfl, rfl⟩

set_option maxHeartbeats 4000000 in
set_option maxRecDepth 100000 in
theorem met_X5_keep (l : Launch) (Γ : g_C) (mo : Nat) (ad : Nat → Nat) (f : Nat → Int32) (a : Nat → Nat → Int32) (rr : Nat → UInt32) (ph : g_H) (p0 : Int32) (hw : WF (a 5)) (hf : FW (a 5)) : g_Met l yX5_keep (ws_ yX5_keep cX5_keep 3 (some .int)) (g_rm 3 0 0) Γ [.ref mo, .int p0] (mG Γ mo ad f a rr ph) (g_oi (fun v ph' => v = (if btw p0 0 2 = false then 0 else (a 5) 145) ∧ ph' = mG Γ mo ad (if btw p0 0 2 = false then upd f 0 1 else upd f 0 0) (if btw p0 0 2 = false then a else va_up (va_up a 18 (upd (a 18) p0.toNatClampNeg 1)) 17 (upd (a 17) p0.toNatClampNeg ((a 5) 145))) (if btw p0 0 2 = false then rr else kpN rr (a 5) p0 (nFo (a 5))) ph)) g_no := by
  refine g_start (y := yX5_keep) (cc := cX5_keep) (maxL := 3) (ret := (some .int)) (rm := g_rm 3 0 0) (by decide) (Nat.le_of_ble_eq_true rfl) ?_
  intro p e s m A below meth c ls Q hQ S hr hlk hex hnm hK I hl
  have hx := S.1
  have hb := S.2.1
  have hown := S.2.2.2.1
  have hts := S.2.2.2.2
  have S : CallFix p m c cX5_keep 3 s A lw_all "CrumblingWallModel" := S
  have hl : lv_has ls 3 [(0, .ref mo), (1, .int p0)] := hl
  refine lv_iload_n hx hb dX5_keep_0 rfl (lv_at hl 1 rfl) ?_
  refine g_ci (g_runS S hK I (As := [.int p0]) (rest := []) (met_X5_isRow l Γ (mG Γ mo ad f a rr ph) p0) (va_cwS 1 hts (lw_S q3379 q3380 q151 q3381) rfl rfl rfl (by decide +kernel) ⟨Nat.le_of_ble_eq_true rfl, Nat.le_of_ble_eq_true rfl⟩) rfl hl.1 rfl (Nat.le_of_ble_eq_true rfl) dX5_keep_1 ⟨Nat.le_of_ble_eq_true rfl, Nat.le_of_ble_eq_true rfl⟩) I (fun r_1 ph1 H locs hp I => ?_)
  obtain ⟨hp, rfl⟩ := hp
  have hp : r_1 = b2i (btw p0 0 2) := hp
  subst hp
  refine lv_if_ne (tgt := 13) hx hb dX5_keep_4 (by decide) (fun c_4 => ?_) (fun c_4 => ?_)
  · have p_4 := (b2i_ne0 _).mp c_4
    have hrw := isRw_iff.mp p_4
    refine lv_aload_n hx hb dX5_keep_13 rfl (lv_at hl 0 rfl) ?_
    refine lv_iconst (v := 0) hx hb dX5_keep_14 (by decide) ?_
    refine g_put S hK I k_X5 (v := .int 0) mG_obj 0 (by decide) q2952 rfl rfl rfl rfl (Nat.le_of_ble_eq_true rfl) dX5_keep_15 (fun H locs I => ?_)
    have I := mI_f (f' := (upd f 0 0)) I rfl
    refine lv_aload_n hx hb dX5_keep_18 rfl (lv_at hl 0 rfl) ?_
    refine g_get S hK I k_X5 (v := .ref (ad 18)) (g_at.of mG_obj) 18 (by decide) q2970 rfl rfl dX5_keep_19 ?_
    refine lv_iload_n hx hb dX5_keep_22 rfl (lv_at hl 1 rfl) ?_
    refine lv_iconst (v := 1) hx hb dX5_keep_23 (by decide) ?_
    refine m_zast S hK I (f := (a 18)) (k := p0.toNatClampNeg) mG_18 hrw rfl dX5_keep_24 (fun H locs I => ?_)
    have I := mI_18 I
    refine lv_aload_n hx hb dX5_keep_25 rfl (lv_at hl 0 rfl) ?_
    refine g_get S hK I k_X5 (v := .ref (ad 17)) (g_at.of mG_obj) 17 (by decide) q2969 rfl rfl dX5_keep_26 ?_
    refine lv_iload_n hx hb dX5_keep_29 rfl (lv_at hl 1 rfl) ?_
    refine lv_aload_n hx hb dX5_keep_30 rfl (lv_at hl 0 rfl) ?_
    refine g_get S hK I k_X5 (v := .ref (ad 5)) (g_at.of mG_obj) 5 (by decide) q2957 rfl rfl dX5_keep_31 ?_
    refine lv_sipush (v := 145) hx hb dX5_keep_34 (by decide) ?_
    refine m_iald S hK I (f := (a 5)) (k := 145) (g_at.of mG_5) (vp_lit (by decide)) (by decide) dX5_keep_37 ?_
    refine m_iast S hK I (f := (a 17)) (k := p0.toNatClampNeg) mG_17 hrw rfl dX5_keep_38 (fun H locs I => ?_)
    have I := mI_17 I
    refine lv_iconst (v := 0) hx hb dX5_keep_39 (by decide) ?_
    refine lv_istore_n (lv' := [(2, .int 0), (0, .ref mo), (1, .int p0)]) hx hb dX5_keep_40 rfl hl (by decide) rfl (fun ls hl => ?_)
    have L_41 : ∀ (d : Nat) (k : Nat), (hk : k ≤ nFo (a 5)) → nFo (a 5) - k < d → ∀ (H : Heap) (locs : List Loc) (ls : Array Slot), g_I Γ (mG Γ mo ad (upd f 0 0) (va_up (va_up a 18 (upd (a 18) p0.toNatClampNeg (vp_nar .boolean 1))) 17 (upd (a 17) p0.toNatClampNeg ((a 5) 145))) (kpN rr (a 5) p0 k) ph) s H locs → lv_has ls 3 [(0, .ref mo), (1, .int p0), (2, .int (nI k))] → W p l e (g_rm 3 0 0) s m A below meth c H locs 0 0 Q (F0 m 41 ls []) := by
      intro d
      induction d with
      | zero => intro k hk hd; exact absurd hd (Nat.not_lt_zero _)
      | succ d ih =>
        intro k hk hd H locs ls I hl
        refine lv_iload_n hx hb dX5_keep_41 rfl (lv_at hl 2 rfl) ?_
        refine lv_aload_n hx hb dX5_keep_42 rfl (lv_at hl 0 rfl) ?_
        refine g_get S hK I k_X5 (v := .ref (ad 17)) (g_at.of mG_obj) 17 (by decide) q2969 rfl rfl dX5_keep_43 ?_
        refine lv_iload_n hx hb dX5_keep_46 rfl (lv_at hl 1 rfl) ?_
        refine m_iald S hK I (f := (upd (a 17) p0.toNatClampNeg ((a 5) 145))) (k := p0.toNatClampNeg) (g_at.of mG_17) hrw rfl dX5_keep_47 ?_
        refine lv_icmp_ge (tgt := 81) hx hb dX5_keep_48 (by decide) (fun c_48 => ?_) (fun c_48 => ?_)
        · have n_48 := Int32.not_lt.mpr c_48
          obtain rfl : k = nFo (a 5) := k_ge (by rw [upd_s]; exact hw.2.2.2.1.1) (Nat.le_trans hw.2.2.2.1.2 (by decide)) hk c_48
          refine lv_aload_n hx hb dX5_keep_81 rfl (lv_at hl 0 rfl) ?_
          refine g_get S hK I k_X5 (v := .ref (ad 17)) (g_at.of mG_obj) 17 (by decide) q2969 rfl rfl dX5_keep_82 ?_
          refine lv_iload_n hx hb dX5_keep_85 rfl (lv_at hl 1 rfl) ?_
          refine m_iald S hK I (f := (upd (a 17) p0.toNatClampNeg ((a 5) 145))) (k := p0.toNatClampNeg) (g_at.of mG_17) hrw rfl dX5_keep_86 ?_
          exact g_iret S hr hlk I dX5_keep_87 (Nat.le_of_ble_eq_true rfl) (Nat.le_of_ble_eq_true rfl) hQ ⟨_, rfl, (by (try simp only [p_4]); (try simp [upd_s, nar_b1, p_4, c_48, n_48])), (by (try simp only [p_4]); (try simp [upd_s, nar_b1, p_4, c_48, n_48]))⟩
        · have n_48 := Int32.not_le.mp c_48
          have hkl : k < nFo (a 5) := k_lt (by rw [upd_s]; exact hw.2.2.2.1.1) (Nat.le_trans hw.2.2.2.1.2 (by decide)) hk c_48
          have hk16 : k < 16 := Nat.lt_of_lt_of_le hkl hw.2.2.2.1.2
          refine lv_aload_n hx hb dX5_keep_51 rfl (lv_at hl 0 rfl) ?_
          refine g_get S hK I k_X5 (v := .ref (ad 16)) (g_at.of mG_obj) 16 (by decide) q2968 rfl rfl dX5_keep_52 ?_
          refine lv_bipush (v := 16) hx hb dX5_keep_55 (by decide) ?_
          refine lv_iload_n hx hb dX5_keep_57 rfl (lv_at hl 1 rfl) ?_
          refine lv_imul hx hb dX5_keep_58 ?_
          refine lv_iload_n hx hb dX5_keep_59 rfl (lv_at hl 2 rfl) ?_
          refine lv_iadd hx hb dX5_keep_60 ?_
          refine lv_aload_n hx hb dX5_keep_61 rfl (lv_at hl 0 rfl) ?_
          refine g_get S hK I k_X5 (v := .ref (ad 5)) (g_at.of mG_obj) 5 (by decide) q2957 rfl rfl dX5_keep_62 ?_
          refine lv_sipush (v := 146) hx hb dX5_keep_65 (by decide) ?_
          refine lv_iload_n hx hb dX5_keep_68 rfl (lv_at hl 2 rfl) ?_
          refine lv_iadd hx hb dX5_keep_69 ?_
          refine m_iald S hK I (f := (a 5)) (k := (146 + k)) (g_at.of mG_5) (fr_ixk hw hkl).1 (fr_ixk hw hkl).2 dX5_keep_70 ?_
          refine vn_i2f hx hb (S.2.2.1.trans hl.1.symm) hown (hts _ q3372) (hts _ q3374) (hts _ q3373) (hts _ q174) (sn_of (hf k hkl)) (Nat.le_of_ble_eq_true rfl) (Nat.le_of_ble_eq_true rfl) dX5_keep_71 ?_
          refine m_fast S hK I (f := (kpN rr (a 5) p0 k)) (k := (16 * p0.toNatClampNeg + k)) mG_rows (ix_r hrw hk16).1 (ix_r hrw hk16).2 dX5_keep_74 (fun H locs I => ?_)
          have I := mI_r I
          refine lv_iinc (v := nI (k + 1)) (lv' := [(2, .int (nI (k + 1))), (0, .ref mo), (1, .int p0)]) hx hb dX5_keep_75 hl (k := 2) rfl (nI_1 k) (by decide) rfl (fun ls hl => ?_)
          refine lv_goto (tgt := 41) hx hb dX5_keep_78 (by decide) ?_
          exact ih (k + 1) hkl (by omega) _ _ _ I (lv_sub hl [1, 2, 0] rfl)
    exact L_41 _ 0 (Nat.zero_le _) (Nat.lt_succ_self _) _ _ _ I (lv_sub hl [1, 2, 0] rfl)
  · have p_4 := (b2i_eq0 _).mp c_4
    refine lv_aload_n hx hb dX5_keep_7 rfl (lv_at hl 0 rfl) ?_
    refine lv_iconst (v := 1) hx hb dX5_keep_8 (by decide) ?_
    refine g_ci (g_runV S hK I (As := [.int 1]) (rest := []) (met_X5_fails l Γ mo ad f a rr ph 1) (cwV 1 hts (lw_V q3056 q3058 qs51 q151 q3059) rfl rfl rfl (by decide +kernel) ⟨Nat.le_of_ble_eq_true rfl, Nat.le_of_ble_eq_true rfl⟩) (g_recv hK I (g_at.of mG_obj) (ci := 4) rfl) rfl hl.1 rfl (Nat.le_of_ble_eq_true rfl) dX5_keep_9 ⟨Nat.le_of_ble_eq_true rfl, Nat.le_of_ble_eq_true rfl⟩) I (fun r_9 ph1 H locs hp I => ?_)
    obtain ⟨hp, rfl⟩ := hp
    have hp : r_9 = 0 := hp
    subst hp
    have I : g_I Γ (mG Γ mo ad (upd f 0 1) a rr ph) s H locs := I
    exact g_iret S hr hlk I dX5_keep_12 (Nat.le_of_ble_eq_true rfl) (Nat.le_of_ble_eq_true rfl) hQ ⟨_, rfl, (by (try simp only [p_4]); (try simp [upd_s, nar_b1, p_4])), (by (try simp only [p_4]); (try simp [upd_s, nar_b1, p_4]))⟩

theorem vp_row {K : Nat} {a : Nat → Nat → Int32} {rr : Nat → UInt32} (h : RW K a rr) {r : Int32} (hrw : vp_in r 3) : (a 17 r.toNatClampNeg = nI (a 17 r.toNatClampNeg).toNatClampNeg ∧ (a 17 r.toNatClampNeg).toNatClampNeg ≤ 16) ∧ (∀ k, k < (a 17 r.toNatClampNeg).toNatClampNeg → fb K (rr (16 * r.toNatClampNeg + k))) := by
  obtain ⟨j, h1, h2, h3⟩ := vp_j hrw (by decide)
  rw [h3]
  exact h j h1
set_option maxHeartbeats 4000000 in
set_option maxRecDepth 100000 in
theorem met_X5_scale (l : Launch) (Γ : g_C) (mo : Nat) (ad : Nat → Nat) (f : Nat → Int32) (a : Nat → Nat → Int32) (rr : Nat → UInt32) (ph : g_H) (K : Nat) (p0 : Int32) (p1 : Int32) (p2 : Int32) (hR : RW K a rr) (hKK : K ≤ 90) : g_Met l yX5_scale (ws_ yX5_scale cX5_scale 7 (some .int)) (g_rm 3 0 0) Γ [.ref mo, .int p0, .int p1, .int p2] (mG Γ mo ad f a rr ph) (g_oi (fun v ph' => v = (if (btw p0 0 2 && btw p1 0 2) = false then 0 else if btw p2 0 999 = false then 0 else if (a 18) p0.toNatClampNeg = 0 then 0 else (scN rr p0 p1 p2 ((a 17) p0.toNatClampNeg).toNatClampNeg).2) ∧ ph' = mG Γ mo ad (if (btw p0 0 2 && btw p1 0 2) = false then upd f 0 1 else if btw p2 0 999 = false then upd f 0 2 else if (a 18) p0.toNatClampNeg = 0 then upd f 0 3 else upd f 0 0) (if (btw p0 0 2 && btw p1 0 2) = false then a else if btw p2 0 999 = false then a else if (a 18) p0.toNatClampNeg = 0 then a else va_up (va_up a 18 (upd (a 18) p1.toNatClampNeg 1)) 17 (upd (a 17) p1.toNatClampNeg ((a 17) p0.toNatClampNeg))) (if (btw p0 0 2 && btw p1 0 2) = false then rr else if btw p2 0 999 = false then rr else if (a 18) p0.toNatClampNeg = 0 then rr else (scN rr p0 p1 p2 ((a 17) p0.toNatClampNeg).toNatClampNeg).1) ph)) g_no := by
  refine g_start (y := yX5_scale) (cc := cX5_scale) (maxL := 7) (ret := (some .int)) (rm := g_rm 3 0 0) (by decide) (Nat.le_of_ble_eq_true rfl) ?_
  intro p e s m A below meth c ls Q hQ S hr hlk hex hnm hK I hl
  have hx := S.1
  have hb := S.2.1
  have hown := S.2.2.2.1
  have hts := S.2.2.2.2
  have S : CallFix p m c cX5_scale 7 s A lw_all "CrumblingWallModel" := S
  have hl : lv_has ls 7 [(0, .ref mo), (1, .int p0), (2, .int p1), (3, .int p2)] := hl
  refine lv_iload_n hx hb dX5_scale_0 rfl (lv_at hl 1 rfl) ?_
  refine g_ci (g_runS S hK I (As := [.int p0]) (rest := []) (met_X5_isRow l Γ (mG Γ mo ad f a rr ph) p0) (va_cwS 1 hts (lw_S q3379 q3380 q151 q3381) rfl rfl rfl (by decide +kernel) ⟨Nat.le_of_ble_eq_true rfl, Nat.le_of_ble_eq_true rfl⟩) rfl hl.1 rfl (Nat.le_of_ble_eq_true rfl) dX5_scale_1 ⟨Nat.le_of_ble_eq_true rfl, Nat.le_of_ble_eq_true rfl⟩) I (fun r_1 ph1 H locs hp I => ?_)
  obtain ⟨hp, rfl⟩ := hp
  have hp : r_1 = b2i (btw p0 0 2) := hp
  subst hp
  refine lv_if_eq (tgt := 14) hx hb dX5_scale_4 (by decide) (fun c_4 => ?_) (fun c_4 => ?_)
  · have p_4 := (b2i_eq0 _).mp c_4
    refine lv_aload_n hx hb dX5_scale_14 rfl (lv_at hl 0 rfl) ?_
    refine lv_iconst (v := 1) hx hb dX5_scale_15 (by decide) ?_
    refine g_ci (g_runV S hK I (As := [.int 1]) (rest := []) (met_X5_fails l Γ mo ad f a rr ph 1) (cwV 1 hts (lw_V q3056 q3058 qs51 q151 q3059) rfl rfl rfl (by decide +kernel) ⟨Nat.le_of_ble_eq_true rfl, Nat.le_of_ble_eq_true rfl⟩) (g_recv hK I (g_at.of mG_obj) (ci := 4) rfl) rfl hl.1 rfl (Nat.le_of_ble_eq_true rfl) dX5_scale_16 ⟨Nat.le_of_ble_eq_true rfl, Nat.le_of_ble_eq_true rfl⟩) I (fun r_16 ph1 H locs hp I => ?_)
    obtain ⟨hp, rfl⟩ := hp
    have hp : r_16 = 0 := hp
    subst hp
    have I : g_I Γ (mG Γ mo ad (upd f 0 1) a rr ph) s H locs := I
    exact g_iret S hr hlk I dX5_scale_19 (Nat.le_of_ble_eq_true rfl) (Nat.le_of_ble_eq_true rfl) hQ ⟨_, rfl, (by (try simp only [p_4]); (try simp [nar_b1, p_4])), (by (try simp only [p_4]); (try simp [nar_b1, p_4]))⟩
  · have p_4 := (b2i_ne0 _).mp c_4
    have hf := isRw_iff.mp p_4
    refine lv_iload_n hx hb dX5_scale_7 rfl (lv_at hl 2 rfl) ?_
    refine g_ci (g_runS S hK I (As := [.int p1]) (rest := []) (met_X5_isRow l Γ (mG Γ mo ad f a rr ph) p1) (va_cwS 1 hts (lw_S q3379 q3380 q151 q3381) rfl rfl rfl (by decide +kernel) ⟨Nat.le_of_ble_eq_true rfl, Nat.le_of_ble_eq_true rfl⟩) rfl hl.1 rfl (Nat.le_of_ble_eq_true rfl) dX5_scale_8 ⟨Nat.le_of_ble_eq_true rfl, Nat.le_of_ble_eq_true rfl⟩) I (fun r_8 ph1 H locs hp I => ?_)
    obtain ⟨hp, rfl⟩ := hp
    have hp : r_8 = b2i (btw p1 0 2) := hp
    subst hp
    refine lv_if_ne (tgt := 20) hx hb dX5_scale_11 (by decide) (fun c_11 => ?_) (fun c_11 => ?_)
    · have p_11 := (b2i_ne0 _).mp c_11
      have ht := isRw_iff.mp p_11
      refine lv_iload_n hx hb dX5_scale_20 rfl (lv_at hl 3 rfl) ?_
      refine lv_iconst (v := 0) hx hb dX5_scale_21 (by decide) ?_
      refine lv_sipush (v := 999) hx hb dX5_scale_22 (by decide) ?_
      refine g_ci (g_runS S hK I (As := [.int p2, .int 0, .int 999]) (rest := []) (met_X5_isBetween l Γ (mG Γ mo ad f a rr ph) p2 0 999) (va_cwS 3 hts (lw_S q3053 q3054 q151 q3055) rfl rfl rfl (by decide +kernel) ⟨Nat.le_of_ble_eq_true rfl, Nat.le_of_ble_eq_true rfl⟩) rfl hl.1 rfl (Nat.le_of_ble_eq_true rfl) dX5_scale_25 ⟨Nat.le_of_ble_eq_true rfl, Nat.le_of_ble_eq_true rfl⟩) I (fun r_25 ph1 H locs hp I => ?_)
      obtain ⟨hp, rfl⟩ := hp
      have hp : r_25 = b2i (btw p2 0 999) := hp
      subst hp
      refine lv_if_ne (tgt := 37) hx hb dX5_scale_28 (by decide) (fun c_28 => ?_) (fun c_28 => ?_)
      · have p_28 := (b2i_ne0 _).mp c_28
        refine lv_aload_n hx hb dX5_scale_37 rfl (lv_at hl 0 rfl) ?_
        refine g_get S hK I k_X5 (v := .ref (ad 18)) (g_at.of mG_obj) 18 (by decide) q2970 rfl rfl dX5_scale_38 ?_
        refine lv_iload_n hx hb dX5_scale_41 rfl (lv_at hl 1 rfl) ?_
        refine m_zald S hK I (f := (a 18)) (k := p0.toNatClampNeg) (g_at.of mG_18) hf rfl dX5_scale_42 ?_
        refine lv_if_ne (tgt := 52) hx hb dX5_scale_43 (by decide) (fun c_43 => ?_) (fun c_43 => ?_)
        · have hR0 := vp_row hR hf
          refine lv_aload_n hx hb dX5_scale_52 rfl (lv_at hl 0 rfl) ?_
          refine lv_iconst (v := 0) hx hb dX5_scale_53 (by decide) ?_
          refine g_put S hK I k_X5 (v := .int 0) mG_obj 0 (by decide) q2952 rfl rfl rfl rfl (Nat.le_of_ble_eq_true rfl) dX5_scale_54 (fun H locs I => ?_)
          have I := mI_f (f' := (upd f 0 0)) I rfl
          refine lv_iconst (v := 0) hx hb dX5_scale_57 (by decide) ?_
          refine lv_istore (lv' := [(4, .int 0), (0, .ref mo), (1, .int p0), (2, .int p1), (3, .int p2)]) hx hb dX5_scale_58 hl (by decide) rfl (fun ls hl => ?_)
          refine lv_iconst (v := 0) hx hb dX5_scale_60 (by decide) ?_
          refine lv_istore (lv' := [(5, .int 0), (4, .int 0), (0, .ref mo), (1, .int p0), (2, .int p1), (3, .int p2)]) hx hb dX5_scale_61 hl (by decide) rfl (fun ls hl => ?_)
          have L_63 : ∀ (d : Nat) (k : Nat), (hk : k ≤ (a 17 p0.toNatClampNeg).toNatClampNeg) → (a 17 p0.toNatClampNeg).toNatClampNeg - k < d → ∀ (H : Heap) (locs : List Loc) (ls : Array Slot), g_I Γ (mG Γ mo ad (upd f 0 0) a ((scN rr p0 p1 p2 k).1) ph) s H locs → lv_has ls 7 [(0, .ref mo), (1, .int p0), (2, .int p1), (3, .int p2), (4, .int ((scN rr p0 p1 p2 k).2)), (5, .int (nI k))] → W p l e (g_rm 3 0 0) s m A below meth c H locs 0 0 Q (F0 m 63 ls []) := by
            intro d
            induction d with
            | zero => intro k hk hd; exact absurd hd (Nat.not_lt_zero _)
            | succ d ih =>
              intro k hk hd H locs ls I hl
              refine lv_iload hx hb dX5_scale_63 (lv_at hl 5 rfl) ?_
              refine lv_aload_n hx hb dX5_scale_65 rfl (lv_at hl 0 rfl) ?_
              refine g_get S hK I k_X5 (v := .ref (ad 17)) (g_at.of mG_obj) 17 (by decide) q2969 rfl rfl dX5_scale_66 ?_
              refine lv_iload_n hx hb dX5_scale_69 rfl (lv_at hl 1 rfl) ?_
              refine m_iald S hK I (f := (a 17)) (k := p0.toNatClampNeg) (g_at.of mG_17) hf rfl dX5_scale_70 ?_
              refine lv_icmp_ge (tgt := 132) hx hb dX5_scale_71 (by decide) (fun c_71 => ?_) (fun c_71 => ?_)
              · have n_71 := Int32.not_lt.mpr c_71
                obtain rfl : k = (a 17 p0.toNatClampNeg).toNatClampNeg := k_ge hR0.1.1 (Nat.le_trans hR0.1.2 (by decide)) hk c_71
                refine lv_aload_n hx hb dX5_scale_132 rfl (lv_at hl 0 rfl) ?_
                refine g_get S hK I k_X5 (v := .ref (ad 18)) (g_at.of mG_obj) 18 (by decide) q2970 rfl rfl dX5_scale_133 ?_
                refine lv_iload_n hx hb dX5_scale_136 rfl (lv_at hl 2 rfl) ?_
                refine lv_iconst (v := 1) hx hb dX5_scale_137 (by decide) ?_
                refine m_zast S hK I (f := (a 18)) (k := p1.toNatClampNeg) mG_18 ht rfl dX5_scale_138 (fun H locs I => ?_)
                have I := mI_18 I
                refine lv_aload_n hx hb dX5_scale_139 rfl (lv_at hl 0 rfl) ?_
                refine g_get S hK I k_X5 (v := .ref (ad 17)) (g_at.of mG_obj) 17 (by decide) q2969 rfl rfl dX5_scale_140 ?_
                refine lv_iload_n hx hb dX5_scale_143 rfl (lv_at hl 2 rfl) ?_
                refine lv_aload_n hx hb dX5_scale_144 rfl (lv_at hl 0 rfl) ?_
                refine g_get S hK I k_X5 (v := .ref (ad 17)) (g_at.of mG_obj) 17 (by decide) q2969 rfl rfl dX5_scale_145 ?_
                refine lv_iload_n hx hb dX5_scale_148 rfl (lv_at hl 1 rfl) ?_
                refine m_iald S hK I (f := (a 17)) (k := p0.toNatClampNeg) (g_at.of mG_17) hf rfl dX5_scale_149 ?_
                refine m_iast S hK I (f := (a 17)) (k := p1.toNatClampNeg) mG_17 ht rfl dX5_scale_150 (fun H locs I => ?_)
                have I := mI_17 I
                refine lv_iload hx hb dX5_scale_151 (lv_at hl 4 rfl) ?_
                exact g_iret S hr hlk I dX5_scale_153 (Nat.le_of_ble_eq_true rfl) (Nat.le_of_ble_eq_true rfl) hQ ⟨_, rfl, (by (try simp only [p_4, p_11, p_28]); (try simp [nar_b1, p_4, p_11, p_28, c_43, c_71, n_71])), (by (try simp only [p_4, p_11, p_28]); (try simp [nar_b1, p_4, p_11, p_28, c_43, c_71, n_71]))⟩
              · have n_71 := Int32.not_le.mp c_71
                have hkl : k < (a 17 p0.toNatClampNeg).toNatClampNeg := k_lt hR0.1.1 (Nat.le_trans hR0.1.2 (by decide)) hk c_71
                have hk16 : k < 16 := Nat.lt_of_lt_of_le hkl hR0.1.2
                have hFB := hR0.2
                refine lv_aload_n hx hb dX5_scale_74 rfl (lv_at hl 0 rfl) ?_
                refine g_get S hK I k_X5 (v := .ref (ad 16)) (g_at.of mG_obj) 16 (by decide) q2968 rfl rfl dX5_scale_75 ?_
                refine lv_bipush (v := 16) hx hb dX5_scale_78 (by decide) ?_
                refine lv_iload_n hx hb dX5_scale_80 rfl (lv_at hl 1 rfl) ?_
                refine lv_imul hx hb dX5_scale_81 ?_
                refine lv_iload hx hb dX5_scale_82 (lv_at hl 5 rfl) ?_
                refine lv_iadd hx hb dX5_scale_84 ?_
                refine m_fald S hK I (f := ((scN rr p0 p1 p2 k).1)) (k := (16 * p0.toNatClampNeg + k)) (g_at.of mG_rows) (ix_r hf hk16).1 (ix_r hf hk16).2 dX5_scale_85 ?_
                refine lv_iload_n hx hb dX5_scale_86 rfl (lv_at hl 3 rfl) ?_
                refine lv_i2f hx hb dX5_scale_87 ?_
                refine lv_fmul hx hb dX5_scale_88 (fb_n32 (fb_sc0 (fb_mono (by rw [scN_src hf ht (Nat.le_refl k) hk16]; exact hFB k hkl) (Nat.le_refl _)) p_28 hKK)) ?_
                refine g_ldcfw hx hb hown (hts _ q3386) dX5_scale_89 ?_
                refine lv_fdiv hx hb dX5_scale_92 (fb_n32 (fb_sc (fb_mono (by rw [scN_src hf ht (Nat.le_refl k) hk16]; exact hFB k hkl) (Nat.le_refl _)) p_28 hKK)) ?_
                refine lv_fstore (lv' := [(6, .float (scV ((scN rr p0 p1 p2 k).1 (16 * p0.toNatClampNeg + k)) p2)), (0, .ref mo), (1, .int p0), (2, .int p1), (3, .int p2), (4, .int ((scN rr p0 p1 p2 k).2)), (5, .int (nI k))]) hx hb dX5_scale_93 hl (by decide) rfl (fun ls hl => ?_)
                refine lv_aload_n hx hb dX5_scale_95 rfl (lv_at hl 1 rfl) ?_
                refine g_get S hK I k_X5 (v := .ref (ad 16)) (g_at.of mG_obj) 16 (by decide) q2968 rfl rfl dX5_scale_96 ?_
                refine lv_bipush (v := 16) hx hb dX5_scale_99 (by decide) ?_
                refine lv_iload_n hx hb dX5_scale_101 rfl (lv_at hl 3 rfl) ?_
                refine lv_imul hx hb dX5_scale_102 ?_
                refine lv_iload hx hb dX5_scale_103 (lv_at hl 6 rfl) ?_
                refine lv_iadd hx hb dX5_scale_105 ?_
                refine lv_fload hx hb dX5_scale_106 (lv_at hl 0 rfl) ?_
                refine m_fast S hK I (f := ((scN rr p0 p1 p2 k).1)) (k := (16 * p1.toNatClampNeg + k)) mG_rows (ix_r ht hk16).1 (ix_r ht hk16).2 dX5_scale_108 (fun H locs I => ?_)
                have I := mI_r I
                refine lv_iload hx hb dX5_scale_109 (lv_at hl 5 rfl) ?_
                refine lv_fload hx hb dX5_scale_111 (lv_at hl 0 rfl) ?_
                refine lv_fconst1 hx hb dX5_scale_113 ?_
                refine lv_fcmp hx hb dX5_scale_114 ?_
                have J_123_0 : ∀ (x1 : Int32) (H : Heap) (locs : List Loc) (ls : Array Slot), (hx1 : x1 = (sc1 (scV ((scN rr p0 p1 p2 k).1 (16 * p0.toNatClampNeg + k)) p2))) → g_I Γ (mG Γ mo ad (upd f 0 0) a (vf_upd ((scN rr p0 p1 p2 k).1) (16 * p1.toNatClampNeg + k) (scV ((scN rr p0 p1 p2 k).1 (16 * p0.toNatClampNeg + k)) p2)) ph) s H locs → lv_has ls 7 [(6, .float (scV ((scN rr p0 p1 p2 k).1 (16 * p0.toNatClampNeg + k)) p2)), (0, .ref mo), (1, .int p0), (2, .int p1), (3, .int p2), (4, .int ((scN rr p0 p1 p2 k).2)), (5, .int (nI k))] → W p l e (g_rm 3 0 0) s m A below meth c H locs 0 0 Q (F0 m 123 ls [.int x1, .int ((scN rr p0 p1 p2 k).2)]) := by
                  intro x1 H locs ls hx1 I hl
                  subst hx1
                  refine lv_iadd hx hb dX5_scale_123 ?_
                  refine lv_istore (lv' := [(4, .int ((scN rr p0 p1 p2 (k + 1)).2)), (6, .float (scV ((scN rr p0 p1 p2 k).1 (16 * p0.toNatClampNeg + k)) p2)), (0, .ref mo), (1, .int p0), (2, .int p1), (3, .int p2), (5, .int (nI k))]) hx hb dX5_scale_124 hl (by decide) rfl (fun ls hl => ?_)
                  refine lv_iinc (v := nI (k + 1)) (lv' := [(5, .int (nI (k + 1))), (4, .int ((scN rr p0 p1 p2 (k + 1)).2)), (6, .float (scV ((scN rr p0 p1 p2 k).1 (16 * p0.toNatClampNeg + k)) p2)), (0, .ref mo), (1, .int p0), (2, .int p1), (3, .int p2)]) hx hb dX5_scale_126 hl (k := 6) rfl (nI_1 k) (by decide) rfl (fun ls hl => ?_)
                  refine lv_goto (tgt := 63) hx hb dX5_scale_129 (by decide) ?_
                  exact ih (k + 1) hkl (by omega) _ _ _ I (lv_sub hl [3, 4, 5, 6, 1, 0] rfl)
                refine lv_if_le (tgt := 122) hx hb dX5_scale_115 (by decide) (fun c_115 => ?_) (fun c_115 => ?_)
                · have n_115 := Int32.not_lt.mpr c_115
                  refine lv_iconst (v := 0) hx hb dX5_scale_122 (by decide) ?_
                  exact J_123_0 0 _ _ _ ((if_pos c_115).symm) I (lv_sub hl [0, 1, 2, 3, 4, 5, 6] rfl)
                · have n_115 := Int32.not_le.mp c_115
                  refine lv_iconst (v := 1) hx hb dX5_scale_118 (by decide) ?_
                  refine lv_goto (tgt := 123) hx hb dX5_scale_119 (by decide) ?_
                  exact J_123_0 1 _ _ _ ((if_neg (Int32.not_le.mpr n_115)).symm) I (lv_sub hl [0, 1, 2, 3, 4, 5, 6] rfl)
          exact L_63 _ 0 (Nat.zero_le _) (Nat.lt_succ_self _) _ _ _ I (lv_sub hl [2, 3, 4, 5, 1, 0] rfl)
        · refine lv_aload_n hx hb dX5_scale_46 rfl (lv_at hl 0 rfl) ?_
          refine lv_iconst (v := 3) hx hb dX5_scale_47 (by decide) ?_
          refine g_ci (g_runV S hK I (As := [.int 3]) (rest := []) (met_X5_fails l Γ mo ad f a rr ph 3) (cwV 1 hts (lw_V q3056 q3058 qs51 q151 q3059) rfl rfl rfl (by decide +kernel) ⟨Nat.le_of_ble_eq_true rfl, Nat.le_of_ble_eq_true rfl⟩) (g_recv hK I (g_at.of mG_obj) (ci := 4) rfl) rfl hl.1 rfl (Nat.le_of_ble_eq_true rfl) dX5_scale_48 ⟨Nat.le_of_ble_eq_true rfl, Nat.le_of_ble_eq_true rfl⟩) I (fun r_48 ph1 H locs hp I => ?_)
          obtain ⟨hp, rfl⟩ := hp
          have hp : r_48 = 0 := hp
          subst hp
          have I : g_I Γ (mG Γ mo ad (upd f 0 3) a rr ph) s H locs := I
          exact g_iret S hr hlk I dX5_scale_51 (Nat.le_of_ble_eq_true rfl) (Nat.le_of_ble_eq_true rfl) hQ ⟨_, rfl, (by (try simp only [p_4, p_11, p_28]); (try simp [nar_b1, p_4, p_11, p_28, c_43])), (by (try simp only [p_4, p_11, p_28]); (try simp [nar_b1, p_4, p_11, p_28, c_43]))⟩
      · have p_28 := (b2i_eq0 _).mp c_28
        refine lv_aload_n hx hb dX5_scale_31 rfl (lv_at hl 0 rfl) ?_
        refine lv_iconst (v := 2) hx hb dX5_scale_32 (by decide) ?_
        refine g_ci (g_runV S hK I (As := [.int 2]) (rest := []) (met_X5_fails l Γ mo ad f a rr ph 2) (cwV 1 hts (lw_V q3056 q3058 qs51 q151 q3059) rfl rfl rfl (by decide +kernel) ⟨Nat.le_of_ble_eq_true rfl, Nat.le_of_ble_eq_true rfl⟩) (g_recv hK I (g_at.of mG_obj) (ci := 4) rfl) rfl hl.1 rfl (Nat.le_of_ble_eq_true rfl) dX5_scale_33 ⟨Nat.le_of_ble_eq_true rfl, Nat.le_of_ble_eq_true rfl⟩) I (fun r_33 ph1 H locs hp I => ?_)
        obtain ⟨hp, rfl⟩ := hp
        have hp : r_33 = 0 := hp
        subst hp
        have I : g_I Γ (mG Γ mo ad (upd f 0 2) a rr ph) s H locs := I
        exact g_iret S hr hlk I dX5_scale_36 (Nat.le_of_ble_eq_true rfl) (Nat.le_of_ble_eq_true rfl) hQ ⟨_, rfl, (by (try simp only [p_4, p_11, p_28]); (try simp [nar_b1, p_4, p_11, p_28])), (by (try simp only [p_4, p_11, p_28]); (try simp [nar_b1, p_4, p_11, p_28]))⟩
    · have p_11 := (b2i_eq0 _).mp c_11
      refine lv_aload_n hx hb dX5_scale_14 rfl (lv_at hl 0 rfl) ?_
      refine lv_iconst (v := 1) hx hb dX5_scale_15 (by decide) ?_
      refine g_ci (g_runV S hK I (As := [.int 1]) (rest := []) (met_X5_fails l Γ mo ad f a rr ph 1) (cwV 1 hts (lw_V q3056 q3058 qs51 q151 q3059) rfl rfl rfl (by decide +kernel) ⟨Nat.le_of_ble_eq_true rfl, Nat.le_of_ble_eq_true rfl⟩) (g_recv hK I (g_at.of mG_obj) (ci := 4) rfl) rfl hl.1 rfl (Nat.le_of_ble_eq_true rfl) dX5_scale_16 ⟨Nat.le_of_ble_eq_true rfl, Nat.le_of_ble_eq_true rfl⟩) I (fun r_16 ph1 H locs hp I => ?_)
      obtain ⟨hp, rfl⟩ := hp
      have hp : r_16 = 0 := hp
      subst hp
      have I : g_I Γ (mG Γ mo ad (upd f 0 1) a rr ph) s H locs := I
      exact g_iret S hr hlk I dX5_scale_19 (Nat.le_of_ble_eq_true rfl) (Nat.le_of_ble_eq_true rfl) hQ ⟨_, rfl, (by (try simp only [p_4, p_11]); (try simp [nar_b1, p_4, p_11])), (by (try simp only [p_4, p_11]); (try simp [nar_b1, p_4, p_11]))⟩

theorem row_iff {y : Int32} (h : y = nI y.toNatClampNeg ∧ y.toNatClampNeg ≤ 16) {x : Int32} : btw x 0 (y - 1) = true ↔ vp_in x y.toNatClampNeg := by
  have h1 := vp_isBtw (x := x) (n := y.toNatClampNeg) (Nat.lt_of_le_of_lt h.2 (by decide))
  rw [← h.1] at h1
  exact h1
theorem row_fb {K n b : Nat} {rr : Nat → UInt32} {q : Prop} (h : (q ∧ n ≤ 16) ∧ (∀ k, k < n → fb K (rr (b + k)))) {i : Int32} (hi : vp_in i n) : fb K (rr (b + i.toNatClampNeg)) := by
  obtain ⟨j, h1, h2, h3⟩ := vp_j hi (Nat.lt_of_le_of_lt h.1.2 (by decide))
  rw [h3]
  exact h.2 j h1
set_option maxHeartbeats 4000000 in
set_option maxRecDepth 100000 in
theorem met_X5_element (l : Launch) (Γ : g_C) (mo : Nat) (ad : Nat → Nat) (f : Nat → Int32) (a : Nat → Nat → Int32) (rr : Nat → UInt32) (ph : g_H) (K : Nat) (p0 : Int32) (p1 : Int32) (hR : RW K a rr) : g_Met l yX5_element (ws_ yX5_element cX5_element 3 (some .int)) (g_rm 3 0 0) Γ [.ref mo, .int p0, .int p1] (mG Γ mo ad f a rr ph) (g_oi (fun v ph' => v = (if btw p0 0 2 = false then 0 else if (a 18) p0.toNatClampNeg = 0 then 0 else if btw p1 0 ((a 17) p0.toNatClampNeg - 1) = false then 0 else (rr (16 * p0.toNatClampNeg + p1.toNatClampNeg)).toInt32) ∧ ph' = mG Γ mo ad (if btw p0 0 2 = false then upd f 0 1 else if (a 18) p0.toNatClampNeg = 0 then upd f 0 2 else if btw p1 0 ((a 17) p0.toNatClampNeg - 1) = false then upd f 0 3 else upd f 0 0) a rr ph)) g_no := by
  refine g_start (y := yX5_element) (cc := cX5_element) (maxL := 3) (ret := (some .int)) (rm := g_rm 3 0 0) (by decide) (Nat.le_of_ble_eq_true rfl) ?_
  intro p e s m A below meth c ls Q hQ S hr hlk hex hnm hK I hl
  have hx := S.1
  have hb := S.2.1
  have hown := S.2.2.2.1
  have hts := S.2.2.2.2
  have S : CallFix p m c cX5_element 3 s A lw_all "CrumblingWallModel" := S
  have hl : lv_has ls 3 [(0, .ref mo), (1, .int p0), (2, .int p1)] := hl
  refine lv_iload_n hx hb dX5_element_0 rfl (lv_at hl 1 rfl) ?_
  refine g_ci (g_runS S hK I (As := [.int p0]) (rest := []) (met_X5_isRow l Γ (mG Γ mo ad f a rr ph) p0) (va_cwS 1 hts (lw_S q3379 q3380 q151 q3381) rfl rfl rfl (by decide +kernel) ⟨Nat.le_of_ble_eq_true rfl, Nat.le_of_ble_eq_true rfl⟩) rfl hl.1 rfl (Nat.le_of_ble_eq_true rfl) dX5_element_1 ⟨Nat.le_of_ble_eq_true rfl, Nat.le_of_ble_eq_true rfl⟩) I (fun r_1 ph1 H locs hp I => ?_)
  obtain ⟨hp, rfl⟩ := hp
  have hp : r_1 = b2i (btw p0 0 2) := hp
  subst hp
  refine lv_if_ne (tgt := 13) hx hb dX5_element_4 (by decide) (fun c_4 => ?_) (fun c_4 => ?_)
  · have p_4 := (b2i_ne0 _).mp c_4
    have hrw := isRw_iff.mp p_4
    have hR0 := vp_row hR hrw
    refine lv_aload_n hx hb dX5_element_13 rfl (lv_at hl 0 rfl) ?_
    refine g_get S hK I k_X5 (v := .ref (ad 18)) (g_at.of mG_obj) 18 (by decide) q2970 rfl rfl dX5_element_14 ?_
    refine lv_iload_n hx hb dX5_element_17 rfl (lv_at hl 1 rfl) ?_
    refine m_zald S hK I (f := (a 18)) (k := p0.toNatClampNeg) (g_at.of mG_18) hrw rfl dX5_element_18 ?_
    refine lv_if_ne (tgt := 28) hx hb dX5_element_19 (by decide) (fun c_19 => ?_) (fun c_19 => ?_)
    · refine lv_iload_n hx hb dX5_element_28 rfl (lv_at hl 2 rfl) ?_
      refine lv_iconst (v := 0) hx hb dX5_element_29 (by decide) ?_
      refine lv_aload_n hx hb dX5_element_30 rfl (lv_at hl 0 rfl) ?_
      refine g_get S hK I k_X5 (v := .ref (ad 17)) (g_at.of mG_obj) 17 (by decide) q2969 rfl rfl dX5_element_31 ?_
      refine lv_iload_n hx hb dX5_element_34 rfl (lv_at hl 1 rfl) ?_
      refine m_iald S hK I (f := (a 17)) (k := p0.toNatClampNeg) (g_at.of mG_17) hrw rfl dX5_element_35 ?_
      refine lv_iconst (v := 1) hx hb dX5_element_36 (by decide) ?_
      refine lv_isub hx hb dX5_element_37 ?_
      refine g_ci (g_runS S hK I (As := [.int p1, .int 0, .int (((a 17) p0.toNatClampNeg) - 1)]) (rest := []) (met_X5_isBetween l Γ (mG Γ mo ad f a rr ph) p1 0 (((a 17) p0.toNatClampNeg) - 1)) (va_cwS 3 hts (lw_S q3053 q3054 q151 q3055) rfl rfl rfl (by decide +kernel) ⟨Nat.le_of_ble_eq_true rfl, Nat.le_of_ble_eq_true rfl⟩) rfl hl.1 rfl (Nat.le_of_ble_eq_true rfl) dX5_element_38 ⟨Nat.le_of_ble_eq_true rfl, Nat.le_of_ble_eq_true rfl⟩) I (fun r_38 ph1 H locs hp I => ?_)
      obtain ⟨hp, rfl⟩ := hp
      have hp : r_38 = b2i (btw p1 0 (((a 17) p0.toNatClampNeg) - 1)) := hp
      subst hp
      refine lv_if_ne (tgt := 50) hx hb dX5_element_41 (by decide) (fun c_41 => ?_) (fun c_41 => ?_)
      · have p_41 := (b2i_ne0 _).mp c_41
        have hi := (row_iff hR0.1).mp p_41
        have hi16 := vp_mono hi hR0.1.2
        have hfb := row_fb hR0 hi
        refine lv_aload_n hx hb dX5_element_50 rfl (lv_at hl 0 rfl) ?_
        refine lv_iconst (v := 0) hx hb dX5_element_51 (by decide) ?_
        refine g_put S hK I k_X5 (v := .int 0) mG_obj 0 (by decide) q2952 rfl rfl rfl rfl (Nat.le_of_ble_eq_true rfl) dX5_element_52 (fun H locs I => ?_)
        have I := mI_f (f' := (upd f 0 0)) I rfl
        refine lv_aload_n hx hb dX5_element_55 rfl (lv_at hl 0 rfl) ?_
        refine g_get S hK I k_X5 (v := .ref (ad 16)) (g_at.of mG_obj) 16 (by decide) q2968 rfl rfl dX5_element_56 ?_
        refine lv_bipush (v := 16) hx hb dX5_element_59 (by decide) ?_
        refine lv_iload_n hx hb dX5_element_61 rfl (lv_at hl 1 rfl) ?_
        refine lv_imul hx hb dX5_element_62 ?_
        refine lv_iload_n hx hb dX5_element_63 rfl (lv_at hl 2 rfl) ?_
        refine lv_iadd hx hb dX5_element_64 ?_
        refine m_fald S hK I (f := rr) (k := (16 * p0.toNatClampNeg + p1.toNatClampNeg)) (g_at.of mG_rows) (ix_ri hrw hi16).1 (ix_ri hrw hi16).2 dX5_element_65 ?_
        refine g_ci (g_runS S hK I (As := [.float (rr (16 * p0.toNatClampNeg + p1.toNatClampNeg))]) (rest := []) (met_J37_floatToIntBits l Γ (mG Γ mo ad (upd f 0 0) a rr ph) (rr (16 * p0.toNatClampNeg + p1.toNatClampNeg)) (f_cmp hfb)) (va_cwS 1 hts (lw_S q3279 q2485 q174 q2486) rfl rfl rfl (by decide +kernel) ⟨Nat.le_of_ble_eq_true rfl, Nat.le_of_ble_eq_true rfl⟩) rfl hl.1 rfl (Nat.le_of_ble_eq_true rfl) dX5_element_66 ⟨Nat.le_of_ble_eq_true rfl, Nat.le_of_ble_eq_true rfl⟩) I (fun r_66 ph1 H locs hp I => ?_)
        obtain ⟨hp, rfl⟩ := hp
        have hp : r_66 = (rr (16 * p0.toNatClampNeg + p1.toNatClampNeg)).toInt32 := hp
        subst hp
        exact g_iret S hr hlk I dX5_element_69 (Nat.le_of_ble_eq_true rfl) (Nat.le_of_ble_eq_true rfl) hQ ⟨_, rfl, (by (try simp only [p_4, p_41]); (try simp [p_4, c_19, p_41])), (by (try simp only [p_4, p_41]); (try simp [p_4, c_19, p_41]))⟩
      · have p_41 := (b2i_eq0 _).mp c_41
        refine lv_aload_n hx hb dX5_element_44 rfl (lv_at hl 0 rfl) ?_
        refine lv_iconst (v := 3) hx hb dX5_element_45 (by decide) ?_
        refine g_ci (g_runV S hK I (As := [.int 3]) (rest := []) (met_X5_fails l Γ mo ad f a rr ph 3) (cwV 1 hts (lw_V q3056 q3058 qs51 q151 q3059) rfl rfl rfl (by decide +kernel) ⟨Nat.le_of_ble_eq_true rfl, Nat.le_of_ble_eq_true rfl⟩) (g_recv hK I (g_at.of mG_obj) (ci := 4) rfl) rfl hl.1 rfl (Nat.le_of_ble_eq_true rfl) dX5_element_46 ⟨Nat.le_of_ble_eq_true rfl, Nat.le_of_ble_eq_true rfl⟩) I (fun r_46 ph1 H locs hp I => ?_)
        obtain ⟨hp, rfl⟩ := hp
        have hp : r_46 = 0 := hp
        subst hp
        have I : g_I Γ (mG Γ mo ad (upd f 0 3) a rr ph) s H locs := I
        exact g_iret S hr hlk I dX5_element_49 (Nat.le_of_ble_eq_true rfl) (Nat.le_of_ble_eq_true rfl) hQ ⟨_, rfl, (by (try simp only [p_4, p_41]); (try simp [p_4, c_19, p_41])), (by (try simp only [p_4, p_41]); (try simp [p_4, c_19, p_41]))⟩
    · refine lv_aload_n hx hb dX5_element_22 rfl (lv_at hl 0 rfl) ?_
      refine lv_iconst (v := 2) hx hb dX5_element_23 (by decide) ?_
      refine g_ci (g_runV S hK I (As := [.int 2]) (rest := []) (met_X5_fails l Γ mo ad f a rr ph 2) (cwV 1 hts (lw_V q3056 q3058 qs51 q151 q3059) rfl rfl rfl (by decide +kernel) ⟨Nat.le_of_ble_eq_true rfl, Nat.le_of_ble_eq_true rfl⟩) (g_recv hK I (g_at.of mG_obj) (ci := 4) rfl) rfl hl.1 rfl (Nat.le_of_ble_eq_true rfl) dX5_element_24 ⟨Nat.le_of_ble_eq_true rfl, Nat.le_of_ble_eq_true rfl⟩) I (fun r_24 ph1 H locs hp I => ?_)
      obtain ⟨hp, rfl⟩ := hp
      have hp : r_24 = 0 := hp
      subst hp
      have I : g_I Γ (mG Γ mo ad (upd f 0 2) a rr ph) s H locs := I
      exact g_iret S hr hlk I dX5_element_27 (Nat.le_of_ble_eq_true rfl) (Nat.le_of_ble_eq_true rfl) hQ ⟨_, rfl, (by (try simp only [p_4]); (try simp [p_4, c_19])), (by (try simp only [p_4]); (try simp [p_4, c_19]))⟩
  · have p_4 := (b2i_eq0 _).mp c_4
    refine lv_aload_n hx hb dX5_element_7 rfl (lv_at hl 0 rfl) ?_
    refine lv_iconst (v := 1) hx hb dX5_element_8 (by decide) ?_
    refine g_ci (g_runV S hK I (As := [.int 1]) (rest := []) (met_X5_fails l Γ mo ad f a rr ph 1) (cwV 1 hts (lw_V q3056 q3058 qs51 q151 q3059) rfl rfl rfl (by decide +kernel) ⟨Nat.le_of_ble_eq_true rfl, Nat.le_of_ble_eq_true rfl⟩) (g_recv hK I (g_at.of mG_obj) (ci := 4) rfl) rfl hl.1 rfl (Nat.le_of_ble_eq_true rfl) dX5_element_9 ⟨Nat.le_of_ble_eq_true rfl, Nat.le_of_ble_eq_true rfl⟩) I (fun r_9 ph1 H locs hp I => ?_)
    obtain ⟨hp, rfl⟩ := hp
    have hp : r_9 = 0 := hp
    subst hp
    have I : g_I Γ (mG Γ mo ad (upd f 0 1) a rr ph) s H locs := I
    exact g_iret S hr hlk I dX5_element_12 (Nat.le_of_ble_eq_true rfl) (Nat.le_of_ble_eq_true rfl) hQ ⟨_, rfl, (by (try simp only [p_4]); (try simp [p_4])), (by (try simp only [p_4]); (try simp [p_4]))⟩

set_option maxHeartbeats 4000000 in
set_option maxRecDepth 100000 in
theorem met_X5_onRack (l : Launch) (Γ : g_C) (mo : Nat) (ad : Nat → Nat) (f : Nat → Int32) (a : Nat → Nat → Int32) (rr : Nat → UInt32) (ph : g_H) : g_Met l yX5_onRack (ws_ yX5_onRack cX5_onRack 3 (some .int)) (g_rm 1 0 0) Γ [.ref mo] (mG Γ mo ad f a rr ph) (g_oi (fun v ph' => v = (onRk (a 19)) ∧ ph' = mG Γ mo ad f a rr ph)) g_no := by
  refine g_start (y := yX5_onRack) (cc := cX5_onRack) (maxL := 3) (ret := (some .int)) (rm := g_rm 1 0 0) (by decide) (Nat.le_of_ble_eq_true rfl) ?_
  intro p e s m A below meth c ls Q hQ S hr hlk hex hnm hK I hl
  have hx := S.1
  have hb := S.2.1
  have hown := S.2.2.2.1
  have hts := S.2.2.2.2
  have S : CallFix p m c cX5_onRack 3 s A lw_all "CrumblingWallModel" := S
  have hl : lv_has ls 3 [(0, .ref mo)] := hl
  refine lv_iconst (v := 0) hx hb dX5_onRack_0 (by decide) ?_
  refine lv_istore_n (lv' := [(1, .int 0), (0, .ref mo)]) hx hb dX5_onRack_1 rfl hl (by decide) rfl (fun ls hl => ?_)
  refine lv_iconst (v := 0) hx hb dX5_onRack_2 (by decide) ?_
  refine lv_istore_n (lv' := [(2, .int 0), (1, .int 0), (0, .ref mo)]) hx hb dX5_onRack_3 rfl hl (by decide) rfl (fun ls hl => ?_)
  have L_4 : ∀ (d : Nat) (k : Nat), (hk : k ≤ 6) → 6 - k < d → ∀ (H : Heap) (locs : List Loc) (ls : Array Slot), g_I Γ (mG Γ mo ad f a rr ph) s H locs → lv_has ls 3 [(0, .ref mo), (1, .int (sumN k (fun k => if (a 19) k < 0 then 0 else 1))), (2, .int (nI k))] → W p l e (g_rm 1 0 0) s m A below meth c H locs 0 0 Q (F0 m 4 ls []) := by
    intro d
    induction d with
    | zero => intro k hk hd; exact absurd hd (Nat.not_lt_zero _)
    | succ d ih =>
      intro k hk hd H locs ls I hl
      refine lv_iload_n hx hb dX5_onRack_4 rfl (lv_at hl 2 rfl) ?_
      refine lv_bipush (v := 6) hx hb dX5_onRack_5 (by decide) ?_
      refine lv_icmp_ge (tgt := 33) hx hb dX5_onRack_7 (by decide) (fun c_7 => ?_) (fun c_7 => ?_)
      · have n_7 := Int32.not_lt.mpr c_7
        obtain rfl : k = 6 := k_ge (x := 6) rfl (by decide) hk c_7
        refine lv_iload_n hx hb dX5_onRack_33 rfl (lv_at hl 1 rfl) ?_
        exact g_iret S hr hlk I dX5_onRack_34 (Nat.le_of_ble_eq_true rfl) (Nat.le_of_ble_eq_true rfl) hQ ⟨_, rfl, rfl, rfl⟩
      · have n_7 := Int32.not_le.mp c_7
        have hkl : k < 6 := k_lt (x := 6) rfl (by decide) hk c_7
        refine lv_iload_n hx hb dX5_onRack_10 rfl (lv_at hl 1 rfl) ?_
        refine lv_aload_n hx hb dX5_onRack_11 rfl (lv_at hl 0 rfl) ?_
        refine g_get S hK I k_X5 (v := .ref (ad 19)) (g_at.of mG_obj) 19 (by decide) q2971 rfl rfl dX5_onRack_12 ?_
        refine lv_iload_n hx hb dX5_onRack_15 rfl (lv_at hl 2 rfl) ?_
        refine m_iald S hK I (f := (a 19)) (k := k) (g_at.of mG_19) (vp_in_nI hkl (by decide)) (nI_clamp (by omega)) dX5_onRack_16 ?_
        have J_25_0 : ∀ (x1 : Int32) (H : Heap) (locs : List Loc) (ls : Array Slot), (hx1 : x1 = (if (a 19) k < 0 then 0 else 1)) → g_I Γ (mG Γ mo ad f a rr ph) s H locs → lv_has ls 3 [(0, .ref mo), (1, .int (sumN k (fun k => if (a 19) k < 0 then 0 else 1))), (2, .int (nI k))] → W p l e (g_rm 1 0 0) s m A below meth c H locs 0 0 Q (F0 m 25 ls [.int x1, .int (sumN k (fun k => if (a 19) k < 0 then 0 else 1))]) := by
          intro x1 H locs ls hx1 I hl
          subst hx1
          refine lv_iadd hx hb dX5_onRack_25 ?_
          refine lv_istore_n (lv' := [(1, .int (sumN (k + 1) (fun k => if (a 19) k < 0 then 0 else 1))), (0, .ref mo), (2, .int (nI k))]) hx hb dX5_onRack_26 rfl hl (by decide) rfl (fun ls hl => ?_)
          refine lv_iinc (v := nI (k + 1)) (lv' := [(2, .int (nI (k + 1))), (1, .int (sumN (k + 1) (fun k => if (a 19) k < 0 then 0 else 1))), (0, .ref mo)]) hx hb dX5_onRack_27 hl (k := 2) rfl (nI_1 k) (by decide) rfl (fun ls hl => ?_)
          refine lv_goto (tgt := 4) hx hb dX5_onRack_30 (by decide) ?_
          exact ih (k + 1) hkl (by omega) _ _ _ I (lv_sub hl [2, 1, 0] rfl)
        refine lv_if_lt (tgt := 24) hx hb dX5_onRack_17 (by decide) (fun c_17 => ?_) (fun c_17 => ?_)
        · have n_17 := Int32.not_le.mpr c_17
          refine lv_iconst (v := 0) hx hb dX5_onRack_24 (by decide) ?_
          exact J_25_0 0 _ _ _ (if_pos c_17).symm I (lv_sub hl [0, 1, 2] rfl)
        · have n_17 := Int32.not_lt.mp c_17
          refine lv_iconst (v := 1) hx hb dX5_onRack_20 (by decide) ?_
          refine lv_goto (tgt := 25) hx hb dX5_onRack_21 (by decide) ?_
          exact J_25_0 1 _ _ _ (if_neg c_17).symm I (lv_sub hl [0, 1, 2] rfl)
  exact L_4 _ 0 (Nat.zero_le _) (Nat.lt_succ_self _) _ _ _ I (lv_sub hl [2, 1, 0] rfl)

set_option maxHeartbeats 4000000 in
set_option maxRecDepth 100000 in
theorem met_X5_rack (l : Launch) (Γ : g_C) (mo : Nat) (ad : Nat → Nat) (f : Nat → Int32) (a : Nat → Nat → Int32) (rr : Nat → UInt32) (ph : g_H) (p0 : Int32) : g_Met l yX5_rack (ws_ yX5_rack cX5_rack 4 (some .int)) (g_rm 2 0 0) Γ [.ref mo, .int p0] (mG Γ mo ad f a rr ph) (g_oi (fun v ph' => v = (if btw p0 0 4 = false then 0 else onRk (a 19)) ∧ ph' = mG Γ mo ad (if btw p0 0 4 = false then upd f 0 1 else upd (upd f 0 0) 20 p0) (if btw p0 0 4 = false then a else va_up a 19 (clN (a 19) 6)) rr ph)) g_no := by
  refine g_start (y := yX5_rack) (cc := cX5_rack) (maxL := 4) (ret := (some .int)) (rm := g_rm 2 0 0) (by decide) (Nat.le_of_ble_eq_true rfl) ?_
  intro p e s m A below meth c ls Q hQ S hr hlk hex hnm hK I hl
  have hx := S.1
  have hb := S.2.1
  have hown := S.2.2.2.1
  have hts := S.2.2.2.2
  have S : CallFix p m c cX5_rack 4 s A lw_all "CrumblingWallModel" := S
  have hl : lv_has ls 4 [(0, .ref mo), (1, .int p0)] := hl
  refine lv_iload_n hx hb dX5_rack_0 rfl (lv_at hl 1 rfl) ?_
  refine lv_iconst (v := 0) hx hb dX5_rack_1 (by decide) ?_
  refine lv_iconst (v := 4) hx hb dX5_rack_2 (by decide) ?_
  refine g_ci (g_runS S hK I (As := [.int p0, .int 0, .int 4]) (rest := []) (met_X5_isBetween l Γ (mG Γ mo ad f a rr ph) p0 0 4) (va_cwS 3 hts (lw_S q3053 q3054 q151 q3055) rfl rfl rfl (by decide +kernel) ⟨Nat.le_of_ble_eq_true rfl, Nat.le_of_ble_eq_true rfl⟩) rfl hl.1 rfl (Nat.le_of_ble_eq_true rfl) dX5_rack_3 ⟨Nat.le_of_ble_eq_true rfl, Nat.le_of_ble_eq_true rfl⟩) I (fun r_3 ph1 H locs hp I => ?_)
  obtain ⟨hp, rfl⟩ := hp
  have hp : r_3 = b2i (btw p0 0 4) := hp
  subst hp
  refine lv_if_ne (tgt := 15) hx hb dX5_rack_6 (by decide) (fun c_6 => ?_) (fun c_6 => ?_)
  · have p_6 := (b2i_ne0 _).mp c_6
    refine lv_aload_n hx hb dX5_rack_15 rfl (lv_at hl 0 rfl) ?_
    refine lv_iconst (v := 0) hx hb dX5_rack_16 (by decide) ?_
    refine g_put S hK I k_X5 (v := .int 0) mG_obj 0 (by decide) q2952 rfl rfl rfl rfl (Nat.le_of_ble_eq_true rfl) dX5_rack_17 (fun H locs I => ?_)
    have I := mI_f (f' := (upd f 0 0)) I rfl
    refine lv_aload_n hx hb dX5_rack_20 rfl (lv_at hl 0 rfl) ?_
    refine g_ci (g_runV S hK I (As := []) (rest := []) (met_X5_onRack l Γ mo ad (upd f 0 0) a rr ph ) (cwV 0 hts (lw_V q3395 q3397 qs104 q151 q3398) rfl rfl rfl (by decide +kernel) ⟨Nat.le_of_ble_eq_true rfl, Nat.le_of_ble_eq_true rfl⟩) (g_recv hK I (g_at.of mG_obj) (ci := 4) rfl) rfl hl.1 rfl (Nat.le_of_ble_eq_true rfl) dX5_rack_21 ⟨Nat.le_of_ble_eq_true rfl, Nat.le_of_ble_eq_true rfl⟩) I (fun r_21 ph1 H locs hp I => ?_)
    obtain ⟨hp, rfl⟩ := hp
    have hp : r_21 = onRk (a 19) := hp
    subst hp
    refine lv_istore_n (lv' := [(2, .int (onRk (a 19))), (0, .ref mo), (1, .int p0)]) hx hb dX5_rack_24 rfl hl (by decide) rfl (fun ls hl => ?_)
    refine lv_aload_n hx hb dX5_rack_25 rfl (lv_at hl 1 rfl) ?_
    refine lv_iload_n hx hb dX5_rack_26 rfl (lv_at hl 2 rfl) ?_
    refine g_put S hK I k_X5 (v := .int p0) mG_obj 20 (by decide) q2972 rfl rfl rfl rfl (Nat.le_of_ble_eq_true rfl) dX5_rack_27 (fun H locs I => ?_)
    have I := mI_f (f' := (upd (upd f 0 0) 20 p0)) I rfl
    refine lv_iconst (v := 0) hx hb dX5_rack_30 (by decide) ?_
    refine lv_istore_n (lv' := [(3, .int 0), (2, .int (onRk (a 19))), (0, .ref mo), (1, .int p0)]) hx hb dX5_rack_31 rfl hl (by decide) rfl (fun ls hl => ?_)
    have I := mI_ea I (va_upI a 19 (v := clN (a 19) 0) rfl).symm
    have L_32 : ∀ (d : Nat) (k : Nat), (hk : k ≤ 6) → 6 - k < d → ∀ (H : Heap) (locs : List Loc) (ls : Array Slot), g_I Γ (mG Γ mo ad (upd (upd f 0 0) 20 p0) (va_up a 19 (clN (a 19) k)) rr ph) s H locs → lv_has ls 4 [(0, .ref mo), (1, .int p0), (2, .int (onRk (a 19))), (3, .int (nI k))] → W p l e (g_rm 2 0 0) s m A below meth c H locs 0 0 Q (F0 m 32 ls []) := by
      intro d
      induction d with
      | zero => intro k hk hd; exact absurd hd (Nat.not_lt_zero _)
      | succ d ih =>
        intro k hk hd H locs ls I hl
        refine lv_iload_n hx hb dX5_rack_32 rfl (lv_at hl 3 rfl) ?_
        refine lv_bipush (v := 6) hx hb dX5_rack_33 (by decide) ?_
        refine lv_icmp_ge (tgt := 51) hx hb dX5_rack_35 (by decide) (fun c_35 => ?_) (fun c_35 => ?_)
        · have n_35 := Int32.not_lt.mpr c_35
          obtain rfl : k = 6 := k_ge (x := 6) rfl (by decide) hk c_35
          refine lv_iload_n hx hb dX5_rack_51 rfl (lv_at hl 2 rfl) ?_
          exact g_iret S hr hlk I dX5_rack_52 (Nat.le_of_ble_eq_true rfl) (Nat.le_of_ble_eq_true rfl) hQ ⟨_, rfl, (by (try simp only [p_6]); (try simp [p_6, c_35, n_35])), (by (try simp only [p_6]); (try simp [p_6, c_35, n_35]))⟩
        · have n_35 := Int32.not_le.mp c_35
          have hkl : k < 6 := k_lt (x := 6) rfl (by decide) hk c_35
          refine lv_aload_n hx hb dX5_rack_38 rfl (lv_at hl 0 rfl) ?_
          refine g_get S hK I k_X5 (v := .ref (ad 19)) (g_at.of mG_obj) 19 (by decide) q2971 rfl rfl dX5_rack_39 ?_
          refine lv_iload_n hx hb dX5_rack_42 rfl (lv_at hl 3 rfl) ?_
          refine lv_iconst (v := (-1)) hx hb dX5_rack_43 (by decide) ?_
          refine m_iast S hK I (f := (clN (a 19) k)) (k := k) mG_19 (vp_in_nI hkl (by decide)) (nI_clamp (by omega)) dX5_rack_44 (fun H locs I => ?_)
          have I := mI_19 I
          rw [bx_uu] at I
          refine lv_iinc (v := nI (k + 1)) (lv' := [(3, .int (nI (k + 1))), (0, .ref mo), (1, .int p0), (2, .int (onRk (a 19)))]) hx hb dX5_rack_45 hl (k := 3) rfl (nI_1 k) (by decide) rfl (fun ls hl => ?_)
          refine lv_goto (tgt := 32) hx hb dX5_rack_48 (by decide) ?_
          exact ih (k + 1) hkl (by omega) _ _ _ I (lv_sub hl [1, 2, 3, 0] rfl)
    exact L_32 _ 0 (Nat.zero_le _) (Nat.lt_succ_self _) _ _ _ I (lv_sub hl [2, 3, 1, 0] rfl)
  · have p_6 := (b2i_eq0 _).mp c_6
    refine lv_aload_n hx hb dX5_rack_9 rfl (lv_at hl 0 rfl) ?_
    refine lv_iconst (v := 1) hx hb dX5_rack_10 (by decide) ?_
    refine g_ci (g_runV S hK I (As := [.int 1]) (rest := []) (met_X5_fails l Γ mo ad f a rr ph 1) (cwV 1 hts (lw_V q3056 q3058 qs51 q151 q3059) rfl rfl rfl (by decide +kernel) ⟨Nat.le_of_ble_eq_true rfl, Nat.le_of_ble_eq_true rfl⟩) (g_recv hK I (g_at.of mG_obj) (ci := 4) rfl) rfl hl.1 rfl (Nat.le_of_ble_eq_true rfl) dX5_rack_11 ⟨Nat.le_of_ble_eq_true rfl, Nat.le_of_ble_eq_true rfl⟩) I (fun r_11 ph1 H locs hp I => ?_)
    obtain ⟨hp, rfl⟩ := hp
    have hp : r_11 = 0 := hp
    subst hp
    have I : g_I Γ (mG Γ mo ad (upd f 0 1) a rr ph) s H locs := I
    exact g_iret S hr hlk I dX5_rack_14 (Nat.le_of_ble_eq_true rfl) (Nat.le_of_ble_eq_true rfl) hQ ⟨_, rfl, (by (try simp only [p_6]); (try simp [p_6])), (by (try simp only [p_6]); (try simp [p_6]))⟩

theorem rk_in {x : Int32} (h : btw x 0 5 = true) : vp_in x 6 := (vp_isBtw (n := 6) (by decide)).mp h
set_option maxHeartbeats 4000000 in
set_option maxRecDepth 100000 in
theorem met_X5_note (l : Launch) (Γ : g_C) (mo : Nat) (ad : Nat → Nat) (f : Nat → Int32) (a : Nat → Nat → Int32) (rr : Nat → UInt32) (ph : g_H) (p0 : Int32) (p1 : Int32) (hw : WF (a 5)) : g_Met l yX5_note (ws_ yX5_note cX5_note 3 (some .int)) (g_rm 4 0 0) Γ [.ref mo, .int p0, .int p1] (mG Γ mo ad f a rr ph) (g_oi (fun v ph' => v = (if (btw p0 0 5 && isHo (a 5) p1) = false then 0 else match nNote (a 5) (f 20) p1 with | some _ => 0 | none => onRk (upd (a 19) p0.toNatClampNeg p1)) ∧ ph' = mG Γ mo ad (if (btw p0 0 5 && isHo (a 5) p1) = false then upd f 0 1 else match nNote (a 5) (f 20) p1 with | some q => m_ref (m_hin f (some q)) 2 | none => upd f 0 0) (if (btw p0 0 5 && isHo (a 5) p1) = false then a else match nNote (a 5) (f 20) p1 with | some _ => a | none => va_up a 19 (upd (a 19) p0.toNatClampNeg p1)) rr ph)) g_no := by
  refine g_start (y := yX5_note) (cc := cX5_note) (maxL := 3) (ret := (some .int)) (rm := g_rm 4 0 0) (by decide) (Nat.le_of_ble_eq_true rfl) ?_
  intro p e s m A below meth c ls Q hQ S hr hlk hex hnm hK I hl
  have hx := S.1
  have hb := S.2.1
  have hown := S.2.2.2.1
  have hts := S.2.2.2.2
  have S : CallFix p m c cX5_note 3 s A lw_all "CrumblingWallModel" := S
  have hl : lv_has ls 3 [(0, .ref mo), (1, .int p0), (2, .int p1)] := hl
  refine lv_iload_n hx hb dX5_note_0 rfl (lv_at hl 1 rfl) ?_
  refine lv_iconst (v := 0) hx hb dX5_note_1 (by decide) ?_
  refine lv_iconst (v := 5) hx hb dX5_note_2 (by decide) ?_
  refine g_ci (g_runS S hK I (As := [.int p0, .int 0, .int 5]) (rest := []) (met_X5_isBetween l Γ (mG Γ mo ad f a rr ph) p0 0 5) (va_cwS 3 hts (lw_S q3053 q3054 q151 q3055) rfl rfl rfl (by decide +kernel) ⟨Nat.le_of_ble_eq_true rfl, Nat.le_of_ble_eq_true rfl⟩) rfl hl.1 rfl (Nat.le_of_ble_eq_true rfl) dX5_note_3 ⟨Nat.le_of_ble_eq_true rfl, Nat.le_of_ble_eq_true rfl⟩) I (fun r_3 ph1 H locs hp I => ?_)
  obtain ⟨hp, rfl⟩ := hp
  have hp : r_3 = b2i (btw p0 0 5) := hp
  subst hp
  refine lv_if_eq (tgt := 17) hx hb dX5_note_6 (by decide) (fun c_6 => ?_) (fun c_6 => ?_)
  · have p_6 := (b2i_eq0 _).mp c_6
    refine lv_aload_n hx hb dX5_note_17 rfl (lv_at hl 0 rfl) ?_
    refine lv_iconst (v := 1) hx hb dX5_note_18 (by decide) ?_
    refine g_ci (g_runV S hK I (As := [.int 1]) (rest := []) (met_X5_fails l Γ mo ad f a rr ph 1) (cwV 1 hts (lw_V q3056 q3058 qs51 q151 q3059) rfl rfl rfl (by decide +kernel) ⟨Nat.le_of_ble_eq_true rfl, Nat.le_of_ble_eq_true rfl⟩) (g_recv hK I (g_at.of mG_obj) (ci := 4) rfl) rfl hl.1 rfl (Nat.le_of_ble_eq_true rfl) dX5_note_19 ⟨Nat.le_of_ble_eq_true rfl, Nat.le_of_ble_eq_true rfl⟩) I (fun r_19 ph1 H locs hp I => ?_)
    obtain ⟨hp, rfl⟩ := hp
    have hp : r_19 = 0 := hp
    subst hp
    have I : g_I Γ (mG Γ mo ad (upd f 0 1) a rr ph) s H locs := I
    exact g_iret S hr hlk I dX5_note_22 (Nat.le_of_ble_eq_true rfl) (Nat.le_of_ble_eq_true rfl) hQ ⟨_, rfl, (by (try simp only [p_6]); (try simp [m_hin, p_6])), (by (try simp only [p_6]); (try simp [m_hin, p_6]))⟩
  · have p_6 := (b2i_ne0 _).mp c_6
    have hrw := rk_in p_6
    refine lv_aload_n hx hb dX5_note_9 rfl (lv_at hl 0 rfl) ?_
    refine lv_iload_n hx hb dX5_note_10 rfl (lv_at hl 2 rfl) ?_
    refine g_ci (g_runV S hK I (As := [.int p1]) (rest := []) (met_X5_isHold l Γ mo ad f a rr ph p1) (cwV 1 hts (lw_V q3118 q3120 qs63 q151 q3121) rfl rfl rfl (by decide +kernel) ⟨Nat.le_of_ble_eq_true rfl, Nat.le_of_ble_eq_true rfl⟩) (g_recv hK I (g_at.of mG_obj) (ci := 4) rfl) rfl hl.1 rfl (Nat.le_of_ble_eq_true rfl) dX5_note_11 ⟨Nat.le_of_ble_eq_true rfl, Nat.le_of_ble_eq_true rfl⟩) I (fun r_11 ph1 H locs hp I => ?_)
    obtain ⟨hp, rfl⟩ := hp
    have hp : r_11 = b2i (isHo (a 5) p1) := hp
    subst hp
    refine lv_if_ne (tgt := 23) hx hb dX5_note_14 (by decide) (fun c_14 => ?_) (fun c_14 => ?_)
    · have p_14 := (b2i_ne0 _).mp c_14
      have hv := (isHo_iff hw).mp p_14
      refine lv_aload_n hx hb dX5_note_23 rfl (lv_at hl 0 rfl) ?_
      refine g_get S hK I k_X5 (v := .int (f 20)) (g_at.of mG_obj) 20 (by decide) q2972 rfl rfl dX5_note_24 ?_
      refine lv_iconst (v := 4) hx hb dX5_note_27 (by decide) ?_
      have J_65_0 : ∀ (H : Heap) (locs : List Loc) (ls : Array Slot), (hn : nNote (a 5) (f 20) p1 = none) → g_I Γ (mG Γ mo ad f a rr ph) s H locs → lv_has ls 3 [(0, .ref mo), (1, .int p0), (2, .int p1)] → W p l e (g_rm 4 0 0) s m A below meth c H locs 0 0 Q (F0 m 65 ls []) := by
        intro  H locs ls hn I hl
        refine lv_aload_n hx hb dX5_note_65 rfl (lv_at hl 0 rfl) ?_
        refine lv_iconst (v := 0) hx hb dX5_note_66 (by decide) ?_
        refine g_put S hK I k_X5 (v := .int 0) mG_obj 0 (by decide) q2952 rfl rfl rfl rfl (Nat.le_of_ble_eq_true rfl) dX5_note_67 (fun H locs I => ?_)
        have I := mI_f (f' := (upd f 0 0)) I rfl
        refine lv_aload_n hx hb dX5_note_70 rfl (lv_at hl 0 rfl) ?_
        refine g_get S hK I k_X5 (v := .ref (ad 19)) (g_at.of mG_obj) 19 (by decide) q2971 rfl rfl dX5_note_71 ?_
        refine lv_iload_n hx hb dX5_note_74 rfl (lv_at hl 1 rfl) ?_
        refine lv_iload_n hx hb dX5_note_75 rfl (lv_at hl 2 rfl) ?_
        refine m_iast S hK I (f := (a 19)) (k := p0.toNatClampNeg) mG_19 hrw rfl dX5_note_76 (fun H locs I => ?_)
        have I := mI_19 I
        refine lv_aload_n hx hb dX5_note_77 rfl (lv_at hl 0 rfl) ?_
        refine g_ci (g_runV S hK I (As := []) (rest := []) (met_X5_onRack l Γ mo ad (upd f 0 0) (va_up a 19 (upd (a 19) p0.toNatClampNeg p1)) rr ph ) (cwV 0 hts (lw_V q3395 q3397 qs104 q151 q3398) rfl rfl rfl (by decide +kernel) ⟨Nat.le_of_ble_eq_true rfl, Nat.le_of_ble_eq_true rfl⟩) (g_recv hK I (g_at.of mG_obj) (ci := 4) rfl) rfl hl.1 rfl (Nat.le_of_ble_eq_true rfl) dX5_note_78 ⟨Nat.le_of_ble_eq_true rfl, Nat.le_of_ble_eq_true rfl⟩) I (fun r_78 ph1 H locs hp I => ?_)
        obtain ⟨hp, rfl⟩ := hp
        have hp : r_78 = onRk (upd (a 19) p0.toNatClampNeg p1) := hp
        subst hp
        exact g_iret S hr hlk I dX5_note_81 (Nat.le_of_ble_eq_true rfl) (Nat.le_of_ble_eq_true rfl) hQ ⟨_, rfl, (by (try simp only [p_6, p_14]); (try simp [m_hin, p_6, p_14, hn])), (by (try simp only [p_6, p_14]); (try simp [m_hin, p_6, p_14, hn]))⟩
      refine lv_icmp_eq (tgt := 65) hx hb dX5_note_28 (by decide) (fun c_28 => ?_) (fun c_28 => ?_)
      · exact J_65_0  _ _ _ (if_neg (fun q => q.1 c_28)) I (lv_sub hl [0, 1, 2] rfl)
      · refine lv_aload_n hx hb dX5_note_31 rfl (lv_at hl 0 rfl) ?_
        refine lv_iload_n hx hb dX5_note_32 rfl (lv_at hl 2 rfl) ?_
        refine lv_iconst (v := 2) hx hb dX5_note_33 (by decide) ?_
        refine g_ci (g_runV S hK I (As := [.int p1, .int 2]) (rest := []) (met_X5_ofHold l Γ mo ad f a rr ph p1 2 (hw.h20 hv) (vp_lit (by decide))) (cwV 2 hts (lw_V q3064 q3066 qs53 q151 q3067) rfl rfl rfl (by decide +kernel) ⟨Nat.le_of_ble_eq_true rfl, Nat.le_of_ble_eq_true rfl⟩) (g_recv hK I (g_at.of mG_obj) (ci := 4) rfl) rfl hl.1 rfl (Nat.le_of_ble_eq_true rfl) dX5_note_34 ⟨Nat.le_of_ble_eq_true rfl, Nat.le_of_ble_eq_true rfl⟩) I (fun r_34 ph1 H locs hp I => ?_)
        obtain ⟨hp, rfl⟩ := hp
        have hp : r_34 = hX (a 5) p1 2 := hp
        subst hp
        refine lv_aload_n hx hb dX5_note_37 rfl (lv_at hl 0 rfl) ?_
        refine g_get S hK I k_X5 (v := .int (f 20)) (g_at.of mG_obj) 20 (by decide) q2972 rfl rfl dX5_note_38 ?_
        refine lv_icmp_eq (tgt := 65) hx hb dX5_note_41 (by decide) (fun c_41 => ?_) (fun c_41 => ?_)
        · exact J_65_0  _ _ _ (if_neg (fun q => q.2 c_41)) I (lv_sub hl [0, 1, 2] rfl)
        · refine lv_aload_n hx hb dX5_note_44 rfl (lv_at hl 0 rfl) ?_
          refine lv_bipush (v := 18) hx hb dX5_note_45 (by decide) ?_
          refine lv_aload_n hx hb dX5_note_47 rfl (lv_at hl 0 rfl) ?_
          refine lv_iload_n hx hb dX5_note_48 rfl (lv_at hl 2 rfl) ?_
          refine lv_iconst (v := 2) hx hb dX5_note_49 (by decide) ?_
          refine g_ci (g_runV S hK I (As := [.int p1, .int 2]) (rest := [.int 18, .ref mo]) (met_X5_ofHold l Γ mo ad f a rr ph p1 2 (hw.h20 hv) (vp_lit (by decide))) (cwV 2 hts (lw_V q3064 q3066 qs53 q151 q3067) rfl rfl rfl (by decide +kernel) ⟨Nat.le_of_ble_eq_true rfl, Nat.le_of_ble_eq_true rfl⟩) (g_recv hK I (g_at.of mG_obj) (ci := 4) rfl) rfl hl.1 rfl (Nat.le_of_ble_eq_true rfl) dX5_note_50 ⟨Nat.le_of_ble_eq_true rfl, Nat.le_of_ble_eq_true rfl⟩) I (fun r_50 ph1 H locs hp I => ?_)
          obtain ⟨hp, rfl⟩ := hp
          have hp : r_50 = hX (a 5) p1 2 := hp
          subst hp
          refine g_ci (g_runV S hK I (As := [.int 18, .int (hX (a 5) p1 2)]) (rest := []) (met_X5_hinders l Γ mo ad f a rr ph 18 (hX (a 5) p1 2)) (cwV 2 hts (lw_V q3071 q3073 qs54 q151 q3074) rfl rfl rfl (by decide +kernel) ⟨Nat.le_of_ble_eq_true rfl, Nat.le_of_ble_eq_true rfl⟩) (g_recv hK I (g_at.of mG_obj) (ci := 4) rfl) rfl hl.1 rfl (Nat.le_of_ble_eq_true rfl) dX5_note_53 ⟨Nat.le_of_ble_eq_true rfl, Nat.le_of_ble_eq_true rfl⟩) I (fun r_53 ph1 H locs hp I => ?_)
          obtain ⟨hp, rfl⟩ := hp
          have hp : r_53 = b2i true := hp
          subst hp
          have I : g_I Γ (mG Γ mo ad (upd (upd f 3 18) 4 (hX (a 5) p1 2)) a rr ph) s H locs := I
          refine lv_if_eq (tgt := 65) hx hb dX5_note_56 (by decide) (fun q => absurd q (by decide)) (fun _ => ?_)
          refine lv_aload_n hx hb dX5_note_59 rfl (lv_at hl 0 rfl) ?_
          refine lv_iconst (v := 2) hx hb dX5_note_60 (by decide) ?_
          refine g_ci (g_runV S hK I (As := [.int 2]) (rest := []) (met_X5_refuses l Γ mo ad (upd (upd f 3 18) 4 (hX (a 5) p1 2)) a rr ph 2) (cwV 1 hts (lw_V q3075 q3077 qs55 q151 q3078) rfl rfl rfl (by decide +kernel) ⟨Nat.le_of_ble_eq_true rfl, Nat.le_of_ble_eq_true rfl⟩) (g_recv hK I (g_at.of mG_obj) (ci := 4) rfl) rfl hl.1 rfl (Nat.le_of_ble_eq_true rfl) dX5_note_61 ⟨Nat.le_of_ble_eq_true rfl, Nat.le_of_ble_eq_true rfl⟩) I (fun r_61 ph1 H locs hp I => ?_)
          obtain ⟨hp, rfl⟩ := hp
          have hp : r_61 = 0 := hp
          subst hp
          have I : g_I Γ (mG Γ mo ad (m_ref (upd (upd f 3 18) 4 (hX (a 5) p1 2)) 2) a rr ph) s H locs := I
          exact g_iret S hr hlk I dX5_note_64 (Nat.le_of_ble_eq_true rfl) (Nat.le_of_ble_eq_true rfl) hQ ⟨_, rfl, (by rw [show nNote (a 5) (f 20) p1 = some (18, hX (a 5) p1 2) from if_pos ⟨c_28, c_41⟩]; simp [m_hin, p_6, p_14]), (by rw [show nNote (a 5) (f 20) p1 = some (18, hX (a 5) p1 2) from if_pos ⟨c_28, c_41⟩]; simp [m_hin, p_6, p_14])⟩
    · have p_14 := (b2i_eq0 _).mp c_14
      refine lv_aload_n hx hb dX5_note_17 rfl (lv_at hl 0 rfl) ?_
      refine lv_iconst (v := 1) hx hb dX5_note_18 (by decide) ?_
      refine g_ci (g_runV S hK I (As := [.int 1]) (rest := []) (met_X5_fails l Γ mo ad f a rr ph 1) (cwV 1 hts (lw_V q3056 q3058 qs51 q151 q3059) rfl rfl rfl (by decide +kernel) ⟨Nat.le_of_ble_eq_true rfl, Nat.le_of_ble_eq_true rfl⟩) (g_recv hK I (g_at.of mG_obj) (ci := 4) rfl) rfl hl.1 rfl (Nat.le_of_ble_eq_true rfl) dX5_note_19 ⟨Nat.le_of_ble_eq_true rfl, Nat.le_of_ble_eq_true rfl⟩) I (fun r_19 ph1 H locs hp I => ?_)
      obtain ⟨hp, rfl⟩ := hp
      have hp : r_19 = 0 := hp
      subst hp
      have I : g_I Γ (mG Γ mo ad (upd f 0 1) a rr ph) s H locs := I
      exact g_iret S hr hlk I dX5_note_22 (Nat.le_of_ble_eq_true rfl) (Nat.le_of_ble_eq_true rfl) hQ ⟨_, rfl, (by (try simp only [p_6, p_14]); (try simp [m_hin, p_6, p_14])), (by (try simp only [p_6, p_14]); (try simp [m_hin, p_6, p_14]))⟩

set_option maxHeartbeats 4000000 in
set_option maxRecDepth 100000 in
theorem met_X5_left (l : Launch) (Γ : g_C) (mo : Nat) (ad : Nat → Nat) (f : Nat → Int32) (a : Nat → Nat → Int32) (rr : Nat → UInt32) (ph : g_H)  (hw : WF (a 5)) : g_Met l yX5_left (ws_ yX5_left cX5_left 4 (some .int)) (g_rm 4 0 0) Γ [.ref mo] (mG Γ mo ad f a rr ph) (g_oi (fun v ph' => v = (lefS (a 5) (a 19)) ∧ ph' = mG Γ mo ad (upd f 0 0) a rr ph)) g_no := by
  refine g_start (y := yX5_left) (cc := cX5_left) (maxL := 4) (ret := (some .int)) (rm := g_rm 4 0 0) (by decide) (Nat.le_of_ble_eq_true rfl) ?_
  intro p e s m A below meth c ls Q hQ S hr hlk hex hnm hK I hl
  have hx := S.1
  have hb := S.2.1
  have hown := S.2.2.2.1
  have hts := S.2.2.2.2
  have S : CallFix p m c cX5_left 4 s A lw_all "CrumblingWallModel" := S
  have hl : lv_has ls 4 [(0, .ref mo)] := hl
  refine lv_aload_n hx hb dX5_left_0 rfl (lv_at hl 0 rfl) ?_
  refine lv_iconst (v := 0) hx hb dX5_left_1 (by decide) ?_
  refine g_put S hK I k_X5 (v := .int 0) mG_obj 0 (by decide) q2952 rfl rfl rfl rfl (Nat.le_of_ble_eq_true rfl) dX5_left_2 (fun H locs I => ?_)
  have I := mI_f (f' := (upd f 0 0)) I rfl
  refine lv_iconst (v := 0) hx hb dX5_left_5 (by decide) ?_
  refine lv_istore_n (lv' := [(1, .int 0), (0, .ref mo)]) hx hb dX5_left_6 rfl hl (by decide) rfl (fun ls hl => ?_)
  refine lv_iconst (v := 0) hx hb dX5_left_7 (by decide) ?_
  refine lv_istore_n (lv' := [(2, .int 0), (1, .int 0), (0, .ref mo)]) hx hb dX5_left_8 rfl hl (by decide) rfl (fun ls hl => ?_)
  have L_9 : ∀ (d : Nat) (k : Nat), (hk : k ≤ 6) → 6 - k < d → ∀ (H : Heap) (locs : List Loc) (ls : Array Slot), g_I Γ (mG Γ mo ad (upd f 0 0) a rr ph) s H locs → lv_has ls 4 [(0, .ref mo), (1, .int (sumN k (fun k => lefV (a 5) ((a 19) k)))), (2, .int (nI k))] → W p l e (g_rm 4 0 0) s m A below meth c H locs 0 0 Q (F0 m 9 ls []) := by
    intro d
    induction d with
    | zero => intro k hk hd; exact absurd hd (Nat.not_lt_zero _)
    | succ d ih =>
      intro k hk hd H locs ls I hl
      refine lv_iload_n hx hb dX5_left_9 rfl (lv_at hl 2 rfl) ?_
      refine lv_bipush (v := 6) hx hb dX5_left_10 (by decide) ?_
      refine lv_icmp_ge (tgt := 68) hx hb dX5_left_12 (by decide) (fun c_12 => ?_) (fun c_12 => ?_)
      · have n_12 := Int32.not_lt.mpr c_12
        obtain rfl : k = 6 := k_ge (x := 6) rfl (by decide) hk c_12
        refine lv_iload_n hx hb dX5_left_68 rfl (lv_at hl 1 rfl) ?_
        exact g_iret S hr hlk I dX5_left_69 (Nat.le_of_ble_eq_true rfl) (Nat.le_of_ble_eq_true rfl) hQ ⟨_, rfl, rfl, rfl⟩
      · have n_12 := Int32.not_le.mp c_12
        have hkl : k < 6 := k_lt (x := 6) rfl (by decide) hk c_12
        refine lv_aload_n hx hb dX5_left_15 rfl (lv_at hl 0 rfl) ?_
        refine g_get S hK I k_X5 (v := .ref (ad 19)) (g_at.of mG_obj) 19 (by decide) q2971 rfl rfl dX5_left_16 ?_
        refine lv_iload_n hx hb dX5_left_19 rfl (lv_at hl 2 rfl) ?_
        refine m_iald S hK I (f := (a 19)) (k := k) (g_at.of mG_19) (vp_in_nI hkl (by decide)) (nI_clamp (by omega)) dX5_left_20 ?_
        refine lv_istore_n (lv' := [(3, .int ((a 19) k)), (0, .ref mo), (1, .int (sumN k (fun k => lefV (a 5) ((a 19) k)))), (2, .int (nI k))]) hx hb dX5_left_21 rfl hl (by decide) rfl (fun ls hl => ?_)
        refine lv_iload_n hx hb dX5_left_22 rfl (lv_at hl 2 rfl) ?_
        refine lv_iload_n hx hb dX5_left_23 rfl (lv_at hl 0 rfl) ?_
        have J_60_0 : ∀ (x1 : Int32) (H : Heap) (locs : List Loc) (ls : Array Slot), (hx1 : x1 = (lefV (a 5) ((a 19) k))) → g_I Γ (mG Γ mo ad (upd f 0 0) a rr ph) s H locs → lv_has ls 4 [(3, .int ((a 19) k)), (0, .ref mo), (1, .int (sumN k (fun k => lefV (a 5) ((a 19) k)))), (2, .int (nI k))] → W p l e (g_rm 4 0 0) s m A below meth c H locs 0 0 Q (F0 m 60 ls [.int x1, .int (sumN k (fun k => lefV (a 5) ((a 19) k)))]) := by
          intro x1 H locs ls hx1 I hl
          subst hx1
          refine lv_iadd hx hb dX5_left_60 ?_
          refine lv_istore_n (lv' := [(1, .int (sumN (k + 1) (fun k => lefV (a 5) ((a 19) k)))), (3, .int ((a 19) k)), (0, .ref mo), (2, .int (nI k))]) hx hb dX5_left_61 rfl hl (by decide) rfl (fun ls hl => ?_)
          refine lv_iinc (v := nI (k + 1)) (lv' := [(2, .int (nI (k + 1))), (1, .int (sumN (k + 1) (fun k => lefV (a 5) ((a 19) k)))), (3, .int ((a 19) k)), (0, .ref mo)]) hx hb dX5_left_62 hl (k := 3) rfl (nI_1 k) (by decide) rfl (fun ls hl => ?_)
          refine lv_goto (tgt := 9) hx hb dX5_left_65 (by decide) ?_
          exact ih (k + 1) hkl (by omega) _ _ _ I (lv_sub hl [3, 1, 0] rfl)
        refine lv_if_lt (tgt := 59) hx hb dX5_left_24 (by decide) (fun c_24 => ?_) (fun c_24 => ?_)
        · have n_24 := Int32.not_le.mpr c_24
          refine lv_iconst (v := 0) hx hb dX5_left_59 (by decide) ?_
          exact J_60_0 0 _ _ _ (if_neg (fun q => q.1 c_24)).symm I (lv_sub hl [0, 1, 2, 3] rfl)
        · have n_24 := Int32.not_lt.mp c_24
          refine lv_aload_n hx hb dX5_left_27 rfl (lv_at hl 1 rfl) ?_
          refine lv_iload_n hx hb dX5_left_28 rfl (lv_at hl 0 rfl) ?_
          refine g_ci (g_runV S hK I (As := [.int ((a 19) k)]) (rest := [.int (sumN k (fun k => lefV (a 5) ((a 19) k)))]) (met_X5_isHold l Γ mo ad (upd f 0 0) a rr ph ((a 19) k)) (cwV 1 hts (lw_V q3118 q3120 qs63 q151 q3121) rfl rfl rfl (by decide +kernel) ⟨Nat.le_of_ble_eq_true rfl, Nat.le_of_ble_eq_true rfl⟩) (g_recv hK I (g_at.of mG_obj) (ci := 4) rfl) rfl hl.1 rfl (Nat.le_of_ble_eq_true rfl) dX5_left_29 ⟨Nat.le_of_ble_eq_true rfl, Nat.le_of_ble_eq_true rfl⟩) I (fun r_29 ph1 H locs hp I => ?_)
          obtain ⟨hp, rfl⟩ := hp
          have hp : r_29 = b2i (isHo (a 5) ((a 19) k)) := hp
          subst hp
          refine lv_if_eq (tgt := 59) hx hb dX5_left_32 (by decide) (fun c_32 => ?_) (fun c_32 => ?_)
          · have p_32 := (b2i_eq0 _).mp c_32
            refine lv_iconst (v := 0) hx hb dX5_left_59 (by decide) ?_
            exact J_60_0 0 _ _ _ (if_neg (fun q => absurd q.2.1 (by rw [p_32]; decide))).symm I (lv_sub hl [0, 1, 2, 3] rfl)
          · have p_32 := (b2i_ne0 _).mp c_32
            have hv := (isHo_iff hw).mp p_32
            refine lv_aload_n hx hb dX5_left_35 rfl (lv_at hl 1 rfl) ?_
            refine lv_iload_n hx hb dX5_left_36 rfl (lv_at hl 0 rfl) ?_
            refine g_ci (g_runV S hK I (As := [.int ((a 19) k)]) (rest := [.int (sumN k (fun k => lefV (a 5) ((a 19) k)))]) (met_X5_hasCrumbled l Γ mo ad (upd f 0 0) a rr ph ((a 19) k) (hw.h20 hv)) (cwV 1 hts (lw_V q3122 q3124 qs64 q151 q3125) rfl rfl rfl (by decide +kernel) ⟨Nat.le_of_ble_eq_true rfl, Nat.le_of_ble_eq_true rfl⟩) (g_recv hK I (g_at.of mG_obj) (ci := 4) rfl) rfl hl.1 rfl (Nat.le_of_ble_eq_true rfl) dX5_left_37 ⟨Nat.le_of_ble_eq_true rfl, Nat.le_of_ble_eq_true rfl⟩) I (fun r_37 ph1 H locs hp I => ?_)
            obtain ⟨hp, rfl⟩ := hp
            have hp : r_37 = b2i (hasCr (a 5) ((a 19) k)) := hp
            subst hp
            refine lv_if_ne (tgt := 59) hx hb dX5_left_40 (by decide) (fun c_40 => ?_) (fun c_40 => ?_)
            · have p_40 := (b2i_ne0 _).mp c_40
              refine lv_iconst (v := 0) hx hb dX5_left_59 (by decide) ?_
              exact J_60_0 0 _ _ _ (if_neg (fun q => absurd q.2.2 (by rw [p_40]; decide))).symm I (lv_sub hl [0, 1, 2, 3] rfl)
            · have p_40 := (b2i_eq0 _).mp c_40
              refine lv_aload_n hx hb dX5_left_43 rfl (lv_at hl 1 rfl) ?_
              refine lv_iload_n hx hb dX5_left_44 rfl (lv_at hl 0 rfl) ?_
              refine lv_iconst (v := 3) hx hb dX5_left_45 (by decide) ?_
              refine g_ci (g_runV S hK I (As := [.int ((a 19) k), .int 3]) (rest := [.int (sumN k (fun k => lefV (a 5) ((a 19) k)))]) (met_X5_ofHold l Γ mo ad (upd f 0 0) a rr ph ((a 19) k) 3 (hw.h20 hv) (vp_lit (by decide))) (cwV 2 hts (lw_V q3064 q3066 qs53 q151 q3067) rfl rfl rfl (by decide +kernel) ⟨Nat.le_of_ble_eq_true rfl, Nat.le_of_ble_eq_true rfl⟩) (g_recv hK I (g_at.of mG_obj) (ci := 4) rfl) rfl hl.1 rfl (Nat.le_of_ble_eq_true rfl) dX5_left_46 ⟨Nat.le_of_ble_eq_true rfl, Nat.le_of_ble_eq_true rfl⟩) I (fun r_46 ph1 H locs hp I => ?_)
              obtain ⟨hp, rfl⟩ := hp
              have hp : r_46 = hX (a 5) ((a 19) k) 3 := hp
              subst hp
              refine lv_aload_n hx hb dX5_left_49 rfl (lv_at hl 1 rfl) ?_
              refine lv_iload_n hx hb dX5_left_50 rfl (lv_at hl 0 rfl) ?_
              refine lv_iconst (v := 4) hx hb dX5_left_51 (by decide) ?_
              refine g_ci (g_runV S hK I (As := [.int ((a 19) k), .int 4]) (rest := [.int (hX (a 5) ((a 19) k) 3), .int (sumN k (fun k => lefV (a 5) ((a 19) k)))]) (met_X5_ofHold l Γ mo ad (upd f 0 0) a rr ph ((a 19) k) 4 (hw.h20 hv) (vp_lit (by decide))) (cwV 2 hts (lw_V q3064 q3066 qs53 q151 q3067) rfl rfl rfl (by decide +kernel) ⟨Nat.le_of_ble_eq_true rfl, Nat.le_of_ble_eq_true rfl⟩) (g_recv hK I (g_at.of mG_obj) (ci := 4) rfl) rfl hl.1 rfl (Nat.le_of_ble_eq_true rfl) dX5_left_52 ⟨Nat.le_of_ble_eq_true rfl, Nat.le_of_ble_eq_true rfl⟩) I (fun r_52 ph1 H locs hp I => ?_)
              obtain ⟨hp, rfl⟩ := hp
              have hp : r_52 = hX (a 5) ((a 19) k) 4 := hp
              subst hp
              refine lv_isub hx hb dX5_left_55 ?_
              refine lv_goto (tgt := 60) hx hb dX5_left_56 (by decide) ?_
              exact J_60_0 ((hX (a 5) ((a 19) k) 3) - (hX (a 5) ((a 19) k) 4)) _ _ _ (if_pos ⟨c_24, p_32, p_40⟩).symm I (lv_sub hl [0, 1, 2, 3] rfl)
  exact L_9 _ 0 (Nat.zero_le _) (Nat.lt_succ_self _) _ _ _ I (lv_sub hl [2, 1, 0] rfl)


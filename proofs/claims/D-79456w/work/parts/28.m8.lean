/-! THE REFERENCE: what crumbles, moves -/
set_option maxRecDepth 100000
theorem cr_0 {c : Nat → Int32} {p : Int32} {N : Nat} (h : vp_in p N) : ∀ i, i < 1 → vp_in (upd c 0 p i) N := by
  intro i hi
  obtain rfl : i = 0 := by omega
  rw [upd_s]
  exact h
set_option maxHeartbeats 4000000 in
set_option maxRecDepth 100000 in
theorem met_X5_treats (l : Launch) (Γ : g_C) (mo : Nat) (ad : Nat → Nat) (f : Nat → Int32) (a : Nat → Nat → Int32) (rr : Nat → UInt32) (ph : g_H) (p0 : Int32) (hw : WF (a 5)) (h0 : vp_in p0 (nN (a 5))) (hC : f 13 = nI (nCr f) ∧ nCr f + nAn (a 5) ≤ 24) : g_Met l yX5_treats (ws_ yX5_treats cX5_treats 3 none) (g_rm 6 0 0) Γ [.ref mo, .int p0] (mG Γ mo ad f a rr ph) (g_ov (fun ph' => ph' = mG Γ mo ad (upd f 13 (nI (trW p0 ((a 5), (a 12), nCr f)).2.2)) (va_up (va_up a 12 ((trW p0 ((a 5), (a 12), nCr f)).2.1)) 5 ((trW p0 ((a 5), (a 12), nCr f)).1)) rr ph)) g_no := by
  refine g_start (y := yX5_treats) (cc := cX5_treats) (maxL := 3) (ret := none) (rm := g_rm 6 0 0) (by decide) (Nat.le_of_ble_eq_true rfl) ?_
  intro p e s m A below meth c ls Q hQ S hr hlk hex hnm hK I hl
  have hx := S.1
  have hb := S.2.1
  have hown := S.2.2.2.1
  have hts := S.2.2.2.2
  have S : CallFix p m c cX5_treats 3 s A lw_all "CrumblingWallModel" := S
  have hl : lv_has ls 3 [(0, .ref mo), (1, .int p0)] := hl
  refine lv_aload_n hx hb dX5_treats_0 rfl (lv_at hl 0 rfl) ?_
  refine lv_iload_n hx hb dX5_treats_1 rfl (lv_at hl 1 rfl) ?_
  refine g_cv (g_runV S hK I (As := [.int p0]) (rest := []) (met_X5_takesOut l Γ mo ad f a rr ph p0 hw) (cwV 1 hts (lw_V q3263 q3265 qs87 q151 q3266) rfl rfl rfl (by decide +kernel) ⟨Nat.le_of_ble_eq_true rfl, Nat.le_of_ble_eq_true rfl⟩) (g_recv hK I (g_at.of mG_obj) (ci := 4) rfl) rfl hl.1 rfl (Nat.le_of_ble_eq_true rfl) dX5_treats_2 ⟨Nat.le_of_ble_eq_true rfl, Nat.le_of_ble_eq_true rfl⟩) I (fun ph1 H locs hp I => ?_)
  subst hp
  have I : g_I Γ (mG Γ mo ad f (va_up a 5 (tkW (a 5) p0)) rr ph) s H locs := I
  refine lv_iconst (v := 0) hx hb dX5_treats_5 (by decide) ?_
  refine lv_istore_n (lv' := [(2, .int 0), (0, .ref mo), (1, .int p0)]) hx hb dX5_treats_6 rfl hl (by decide) rfl (fun ls hl => ?_)
  have L_7 : ∀ (d : Nat) (k : Nat), (hk : k ≤ nLa (a 5)) → nLa (a 5) - k < d → ∀ (H : Heap) (locs : List Loc) (ls : Array Slot), g_I Γ (mG Γ mo ad f (va_up a 5 (dropHN (tkW (a 5) p0) p0 k)) rr ph) s H locs → lv_has ls 3 [(0, .ref mo), (1, .int p0), (2, .int (nI k))] → W p l e (g_rm 6 0 0) s m A below meth c H locs 0 0 Q (F0 m 7 ls []) := by
    intro d
    induction d with
    | zero => intro k hk hd; exact absurd hd (Nat.not_lt_zero _)
    | succ d ih =>
      intro k hk hd H locs ls I hl
      refine lv_iload_n hx hb dX5_treats_7 rfl (lv_at hl 2 rfl) ?_
      refine lv_aload_n hx hb dX5_treats_8 rfl (lv_at hl 0 rfl) ?_
      refine g_get S hK I k_X5 (v := .ref (ad 5)) (g_at.of mG_obj) 5 (by decide) q2957 rfl rfl dX5_treats_9 ?_
      refine lv_bipush (v := 104) hx hb dX5_treats_12 (by decide) ?_
      refine m_iald S hK I (f := (dropHN (tkW (a 5) p0) p0 k)) (k := 104) (g_at.of mG_5) (vp_lit (by decide)) (by decide) dX5_treats_14 ?_
      refine lv_icmp_ge (tgt := 68) hx hb dX5_treats_15 (by decide) (fun c_15 => ?_) (fun c_15 => ?_)
      · have n_15 := Int32.not_lt.mpr c_15
        obtain rfl : k = nLa (a 5) := k_ge (by rw [dropHN_n (by omega), tkW_n hw (by omega)]; exact hw.2.1.1) (wf_le4 hw) hk c_15
        have I : g_I Γ (mG Γ mo ad f (va_up a 5 (trD (a 5) p0)) rr ph) s H locs := I
        have hD : WF (trD (a 5) p0) := hw.trD
        have hDN : vp_in p0 (nN (trD (a 5) p0)) := by rw [nN_eq (trD_n hw (by omega))]; exact h0
        refine lv_aload_n hx hb dX5_treats_68 rfl (lv_at hl 0 rfl) ?_
        refine lv_iconst (v := 0) hx hb dX5_treats_69 (by decide) ?_
        refine g_ci (g_runV S hK I (As := [.int 0]) (rest := []) (met_X5_place l Γ mo ad f (va_up a 5 (trD (a 5) p0)) rr ph 0 (vp_lit (by decide))) (cwV 1 hts (lw_V q3095 q3097 qs59 q151 q3098) rfl rfl rfl (by decide +kernel) ⟨Nat.le_of_ble_eq_true rfl, Nat.le_of_ble_eq_true rfl⟩) (g_recv hK I (g_at.of mG_obj) (ci := 4) rfl) rfl hl.1 rfl (Nat.le_of_ble_eq_true rfl) dX5_treats_70 ⟨Nat.le_of_ble_eq_true rfl, Nat.le_of_ble_eq_true rfl⟩) I (fun r_70 ph1 H locs hp I => ?_)
        obtain ⟨hp, rfl⟩ := hp
        have hp : r_70 = plc (trD (a 5) p0) 0 := hp
        subst hp
        refine lv_iload_n hx hb dX5_treats_73 rfl (lv_at hl 1 rfl) ?_
        have J_82_0 : ∀ (H : Heap) (locs : List Loc) (ls : Array Slot), g_I Γ (mG Γ mo ad (upd f 13 (nI (trL p0 (a 5, a 12, nCr f)).2.2)) (va_up (va_up a 12 ((trL p0 (a 5, a 12, nCr f)).2.1)) 5 ((trL p0 (a 5, a 12, nCr f)).1)) rr ph) s H locs → lv_has ls 3 [(0, .ref mo), (1, .int p0), (2, .int (nI (nLa (a 5))))] → W p l e (g_rm 6 0 0) s m A below meth c H locs 0 0 Q (F0 m 82 ls []) := by
          intro  H locs ls  I hl
          have hT : WF (trL p0 (a 5, a 12, nCr f)).1 := (trL_ok (S := (a 5, a 12, nCr f)) hw h0).1
          refine lv_aload_n hx hb dX5_treats_82 rfl (lv_at hl 0 rfl) ?_
          refine lv_iconst (v := 1) hx hb dX5_treats_83 (by decide) ?_
          refine g_ci (g_runV S hK I (As := [.int 1]) (rest := []) (met_X5_place l Γ mo ad (upd f 13 (nI (trL p0 (a 5, a 12, nCr f)).2.2)) (va_up (va_up a 12 ((trL p0 (a 5, a 12, nCr f)).2.1)) 5 ((trL p0 (a 5, a 12, nCr f)).1)) rr ph 1 (vp_lit (by decide))) (cwV 1 hts (lw_V q3095 q3097 qs59 q151 q3098) rfl rfl rfl (by decide +kernel) ⟨Nat.le_of_ble_eq_true rfl, Nat.le_of_ble_eq_true rfl⟩) (g_recv hK I (g_at.of mG_obj) (ci := 4) rfl) rfl hl.1 rfl (Nat.le_of_ble_eq_true rfl) dX5_treats_84 ⟨Nat.le_of_ble_eq_true rfl, Nat.le_of_ble_eq_true rfl⟩) I (fun r_84 ph1 H locs hp I => ?_)
          obtain ⟨hp, rfl⟩ := hp
          have hp : r_84 = plc ((trL p0 (a 5, a 12, nCr f)).1) 1 := hp
          subst hp
          refine lv_iload_n hx hb dX5_treats_87 rfl (lv_at hl 1 rfl) ?_
          refine lv_icmp_ne (tgt := 95) hx hb dX5_treats_88 (by decide) (fun c_88 => ?_) (fun c_88 => ?_)
          · exact g_vret S hr hlk I dX5_treats_95 (Nat.le_of_ble_eq_true rfl) (Nat.le_of_ble_eq_true rfl) hQ ⟨rfl, (by rw [show trW p0 (a 5, a 12, nCr f) = (((trL p0 (a 5, a 12, nCr f)).1), (trL p0 (a 5, a 12, nCr f)).2) from congrArg (·, (trL p0 (a 5, a 12, nCr f)).2) (if_neg c_88)])⟩
          · refine lv_aload_n hx hb dX5_treats_91 rfl (lv_at hl 0 rfl) ?_
            refine g_cv (g_runV S hK I (As := []) (rest := []) (met_X5_followerFalls l Γ mo ad (upd f 13 (nI (trL p0 (a 5, a 12, nCr f)).2.2)) (va_up (va_up a 12 ((trL p0 (a 5, a 12, nCr f)).2.1)) 5 ((trL p0 (a 5, a 12, nCr f)).1)) rr ph hT) (cwV 0 hts (lw_V q3285 q3287 qs92 q151 q3288) rfl rfl rfl (by decide +kernel) ⟨Nat.le_of_ble_eq_true rfl, Nat.le_of_ble_eq_true rfl⟩) (g_recv hK I (g_at.of mG_obj) (ci := 4) rfl) rfl hl.1 rfl (Nat.le_of_ble_eq_true rfl) dX5_treats_92 ⟨Nat.le_of_ble_eq_true rfl, Nat.le_of_ble_eq_true rfl⟩) I (fun ph1 H locs hp I => ?_)
            subst hp
            rw [bx_uu] at I
            have I : g_I Γ (mG Γ mo ad (upd f 13 (nI (trL p0 (a 5, a 12, nCr f)).2.2)) (va_up (va_up a 12 ((trL p0 (a 5, a 12, nCr f)).2.1)) 5 (folF ((trL p0 (a 5, a 12, nCr f)).1))) rr ph) s H locs := I
            exact g_vret S hr hlk I dX5_treats_95 (Nat.le_of_ble_eq_true rfl) (Nat.le_of_ble_eq_true rfl) hQ ⟨rfl, (by rw [show trW p0 (a 5, a 12, nCr f) = ((folF (trL p0 (a 5, a 12, nCr f)).1), (trL p0 (a 5, a 12, nCr f)).2) from congrArg (·, (trL p0 (a 5, a 12, nCr f)).2) (if_pos c_88)])⟩
        refine lv_icmp_ne (tgt := 82) hx hb dX5_treats_74 (by decide) (fun c_74 => ?_) (fun c_74 => ?_)
        · have eT : (trL p0 (a 5, a 12, nCr f)) = (trD (a 5) p0, a 12, nCr f) := if_neg c_74
          have I := mI_ef I (show f = upd f 13 (nI (trL p0 (a 5, a 12, nCr f)).2.2) from by rw [eT]; exact (upd_id hC.1).symm)
          have I := mI_ea I (show (va_up a 5 (trD (a 5) p0)) = va_up (va_up a 12 (trL p0 (a 5, a 12, nCr f)).2.1) 5 (trL p0 (a 5, a 12, nCr f)).1 from by rw [eT, va_upI a 12 rfl])
          exact J_82_0  _ _ _  I (lv_sub hl [0, 1, 2] rfl)
        · refine lv_aload_n hx hb dX5_treats_77 rfl (lv_at hl 0 rfl) ?_
          refine lv_iload_n hx hb dX5_treats_78 rfl (lv_at hl 1 rfl) ?_
          refine g_cv (g_runV S hK I (As := [.int p0]) (rest := []) (met_X5_leaderFalls l Γ mo ad f (va_up a 5 (trD (a 5) p0)) rr ph p0 hD hDN ⟨hC.1, Nat.le_trans (Nat.add_le_add_left (trD_An hw) _) hC.2⟩) (cwV 1 hts (lw_V q3267 q3269 qs88 q151 q3270) rfl rfl rfl (by decide +kernel) ⟨Nat.le_of_ble_eq_true rfl, Nat.le_of_ble_eq_true rfl⟩) (g_recv hK I (g_at.of mG_obj) (ci := 4) rfl) rfl hl.1 rfl (Nat.le_of_ble_eq_true rfl) dX5_treats_79 ⟨Nat.le_of_ble_eq_true rfl, Nat.le_of_ble_eq_true rfl⟩) I (fun ph1 H locs hp I => ?_)
          subst hp
          have I : g_I Γ (mG Γ mo ad (upd f 13 (nI (ldL p0 ((trD (a 5) p0), (a 12), nCr f)).2.2)) (va_up (va_up (va_up a 5 (trD (a 5) p0)) 12 ((ldL p0 ((trD (a 5) p0), (a 12), nCr f)).2.1)) 5 ((ldL p0 ((trD (a 5) p0), (a 12), nCr f)).1)) rr ph) s H locs := I
          have eT : (trL p0 (a 5, a 12, nCr f)) = ldL p0 (trD (a 5) p0, a 12, nCr f) := if_pos c_74
          have I := mI_ef I (show (upd f 13 (nI (ldL p0 ((trD (a 5) p0), (a 12), nCr f)).2.2)) = upd f 13 (nI (trL p0 (a 5, a 12, nCr f)).2.2) from by rw [eT])
          have I := mI_ea I (show (va_up (va_up (va_up a 5 (trD (a 5) p0)) 12 ((ldL p0 ((trD (a 5) p0), (a 12), nCr f)).2.1)) 5 ((ldL p0 ((trD (a 5) p0), (a 12), nCr f)).1)) = va_up (va_up a 12 (trL p0 (a 5, a 12, nCr f)).2.1) 5 (trL p0 (a 5, a 12, nCr f)).1 from by rw [eT]; exact va_512)
          exact J_82_0  _ _ _  I (lv_sub hl [0, 1, 2] rfl)
      · have n_15 := Int32.not_le.mp c_15
        have hkl : k < nLa (a 5) := k_lt (by rw [dropHN_n (by omega), tkW_n hw (by omega)]; exact hw.2.1.1) (wf_le4 hw) hk c_15
        have hk4 : k < 4 := Nat.lt_of_lt_of_le hkl hw.2.1.2
        refine lv_aload_n hx hb dX5_treats_18 rfl (lv_at hl 0 rfl) ?_
        refine lv_iload_n hx hb dX5_treats_19 rfl (lv_at hl 2 rfl) ?_
        refine lv_iconst (v := 1) hx hb dX5_treats_20 (by decide) ?_
        refine g_ci (g_runV S hK I (As := [.int (nI k), .int 1]) (rest := []) (met_X5_ofLamp l Γ mo ad f (va_up a 5 (dropHN (tkW (a 5) p0) p0 k)) rr ph (nI k) 1 (vp_in_nI hk4 (by decide)) (vp_lit (by decide))) (cwV 2 hts (lw_V q3130 q3132 qs66 q151 q3133) rfl rfl rfl (by decide +kernel) ⟨Nat.le_of_ble_eq_true rfl, Nat.le_of_ble_eq_true rfl⟩) (g_recv hK I (g_at.of mG_obj) (ci := 4) rfl) rfl hl.1 rfl (Nat.le_of_ble_eq_true rfl) dX5_treats_21 ⟨Nat.le_of_ble_eq_true rfl, Nat.le_of_ble_eq_true rfl⟩) I (fun r_21 ph1 H locs hp I => ?_)
        obtain ⟨hp, rfl⟩ := hp
        have hp : r_21 = lX (dropHN (tkW (a 5) p0) p0 k) (nI k) 1 := hp
        subst hp
        refine lv_if_ge (tgt := 62) hx hb dX5_treats_24 (by decide) (fun c_24 => ?_) (fun c_24 => ?_)
        · have n_24 := Int32.not_lt.mpr c_24
          have q0 := lX_k (w := (dropHN (tkW (a 5) p0) p0 k)) (t := 0) hk4
          have q1 := lX_k (w := (dropHN (tkW (a 5) p0) p0 k)) (t := 1) hk4
          have I := mI_ea I (show (va_up a 5 (dropHN (tkW (a 5) p0) p0 k)) = (va_up a 5 (dropHN (tkW (a 5) p0) p0 (k + 1))) from congrArg (va_up _ 5) ((if_pos (Or.inl (q1 ▸ c_24))).symm))
          refine lv_iinc (v := nI (k + 1)) (lv' := [(2, .int (nI (k + 1))), (0, .ref mo), (1, .int p0)]) hx hb dX5_treats_62 hl (k := 2) rfl (nI_1 k) (by decide) rfl (fun ls hl => ?_)
          refine lv_goto (tgt := 7) hx hb dX5_treats_65 (by decide) ?_
          exact ih (k + 1) hkl (by omega) _ _ _ I (lv_sub hl [1, 2, 0] rfl)
        · have n_24 := Int32.not_le.mp c_24
          refine lv_aload_n hx hb dX5_treats_27 rfl (lv_at hl 0 rfl) ?_
          refine lv_iload_n hx hb dX5_treats_28 rfl (lv_at hl 2 rfl) ?_
          refine lv_iconst (v := 0) hx hb dX5_treats_29 (by decide) ?_
          refine g_ci (g_runV S hK I (As := [.int (nI k), .int 0]) (rest := []) (met_X5_ofLamp l Γ mo ad f (va_up a 5 (dropHN (tkW (a 5) p0) p0 k)) rr ph (nI k) 0 (vp_in_nI hk4 (by decide)) (vp_lit (by decide))) (cwV 2 hts (lw_V q3130 q3132 qs66 q151 q3133) rfl rfl rfl (by decide +kernel) ⟨Nat.le_of_ble_eq_true rfl, Nat.le_of_ble_eq_true rfl⟩) (g_recv hK I (g_at.of mG_obj) (ci := 4) rfl) rfl hl.1 rfl (Nat.le_of_ble_eq_true rfl) dX5_treats_30 ⟨Nat.le_of_ble_eq_true rfl, Nat.le_of_ble_eq_true rfl⟩) I (fun r_30 ph1 H locs hp I => ?_)
          obtain ⟨hp, rfl⟩ := hp
          have hp : r_30 = lX (dropHN (tkW (a 5) p0) p0 k) (nI k) 0 := hp
          subst hp
          refine lv_iload_n hx hb dX5_treats_33 rfl (lv_at hl 1 rfl) ?_
          refine lv_icmp_eq (tgt := 40) hx hb dX5_treats_34 (by decide) (fun c_34 => ?_) (fun c_34 => ?_)
          · refine lv_aload_n hx hb dX5_treats_40 rfl (lv_at hl 0 rfl) ?_
            refine g_get S hK I k_X5 (v := .ref (ad 5)) (g_at.of mG_obj) 5 (by decide) q2957 rfl rfl dX5_treats_41 ?_
            refine lv_iload_n hx hb dX5_treats_44 rfl (lv_at hl 2 rfl) ?_
            refine lv_iconst (v := 0) hx hb dX5_treats_45 (by decide) ?_
            refine g_ci (g_runS S hK I (As := [.int (nI k), .int 0]) (rest := [.ref (ad 5)]) (met_X5_atLamp l Γ (mG Γ mo ad f (va_up a 5 (dropHN (tkW (a 5) p0) p0 k)) rr ph) (nI k) 0) (va_cwS 2 hts (lw_S q3134 q3135 q151 q3136) rfl rfl rfl (by decide +kernel) ⟨Nat.le_of_ble_eq_true rfl, Nat.le_of_ble_eq_true rfl⟩) rfl hl.1 rfl (Nat.le_of_ble_eq_true rfl) dX5_treats_46 ⟨Nat.le_of_ble_eq_true rfl, Nat.le_of_ble_eq_true rfl⟩) I (fun r_46 ph1 H locs hp I => ?_)
            obtain ⟨hp, rfl⟩ := hp
            have hp : r_46 = 105 + 5 * (nI k) + 0 := hp
            subst hp
            refine lv_iconst (v := (-1)) hx hb dX5_treats_49 (by decide) ?_
            refine m_iast S hK I (f := (dropHN (tkW (a 5) p0) p0 k)) (k := (105 + 5 * k)) mG_5 (ix_lk (t := 0) hk4 (by decide)).1 (ix_lk (t := 0) hk4 (by decide)).2 dX5_treats_50 (fun H locs I => ?_)
            have I := mI_5 I
            rw [bx_uu] at I
            refine lv_aload_n hx hb dX5_treats_51 rfl (lv_at hl 0 rfl) ?_
            refine g_get S hK I k_X5 (v := .ref (ad 5)) (g_at.of mG_obj) 5 (by decide) q2957 rfl rfl dX5_treats_52 ?_
            refine lv_iload_n hx hb dX5_treats_55 rfl (lv_at hl 2 rfl) ?_
            refine lv_iconst (v := 4) hx hb dX5_treats_56 (by decide) ?_
            refine g_ci (g_runS S hK I (As := [.int (nI k), .int 4]) (rest := [.ref (ad 5)]) (met_X5_atLamp l Γ (mG Γ mo ad f (va_up a 5 (upd (dropHN (tkW (a 5) p0) p0 k) (105 + 5 * k) (-1))) rr ph) (nI k) 4) (va_cwS 2 hts (lw_S q3134 q3135 q151 q3136) rfl rfl rfl (by decide +kernel) ⟨Nat.le_of_ble_eq_true rfl, Nat.le_of_ble_eq_true rfl⟩) rfl hl.1 rfl (Nat.le_of_ble_eq_true rfl) dX5_treats_57 ⟨Nat.le_of_ble_eq_true rfl, Nat.le_of_ble_eq_true rfl⟩) I (fun r_57 ph1 H locs hp I => ?_)
            obtain ⟨hp, rfl⟩ := hp
            have hp : r_57 = 105 + 5 * (nI k) + 4 := hp
            subst hp
            refine lv_iconst (v := 0) hx hb dX5_treats_60 (by decide) ?_
            refine m_iast S hK I (f := (upd (dropHN (tkW (a 5) p0) p0 k) (105 + 5 * k) (-1))) (k := (105 + 5 * k + 4)) mG_5 (ix_lk (t := 4) hk4 (by decide)).1 (ix_lk (t := 4) hk4 (by decide)).2 dX5_treats_61 (fun H locs I => ?_)
            have I := mI_5 I
            rw [bx_uu] at I
            have q0 := lX_k (w := (dropHN (tkW (a 5) p0) p0 k)) (t := 0) hk4
            have q1 := lX_k (w := (dropHN (tkW (a 5) p0) p0 k)) (t := 1) hk4
            have I := mI_ea I (show (va_up a 5 (upd (upd (dropHN (tkW (a 5) p0) p0 k) (105 + 5 * k) (-1)) (105 + 5 * k + 4) 0)) = (va_up a 5 (dropHN (tkW (a 5) p0) p0 (k + 1))) from congrArg (va_up _ 5) ((if_neg (fun q => q.elim (fun q => c_24 (q1 ▸ q)) (fun q => q (q0.symm.trans c_34)))).symm))
            refine lv_iinc (v := nI (k + 1)) (lv' := [(2, .int (nI (k + 1))), (0, .ref mo), (1, .int p0)]) hx hb dX5_treats_62 hl (k := 2) rfl (nI_1 k) (by decide) rfl (fun ls hl => ?_)
            refine lv_goto (tgt := 7) hx hb dX5_treats_65 (by decide) ?_
            exact ih (k + 1) hkl (by omega) _ _ _ I (lv_sub hl [1, 2, 0] rfl)
          · refine lv_goto (tgt := 62) hx hb dX5_treats_37 (by decide) ?_
            have q0 := lX_k (w := (dropHN (tkW (a 5) p0) p0 k)) (t := 0) hk4
            have q1 := lX_k (w := (dropHN (tkW (a 5) p0) p0 k)) (t := 1) hk4
            have I := mI_ea I (show (va_up a 5 (dropHN (tkW (a 5) p0) p0 k)) = (va_up a 5 (dropHN (tkW (a 5) p0) p0 (k + 1))) from congrArg (va_up _ 5) ((if_pos (Or.inr (fun q => c_34 (q0.trans q)))).symm))
            refine lv_iinc (v := nI (k + 1)) (lv' := [(2, .int (nI (k + 1))), (0, .ref mo), (1, .int p0)]) hx hb dX5_treats_62 hl (k := 2) rfl (nI_1 k) (by decide) rfl (fun ls hl => ?_)
            refine lv_goto (tgt := 7) hx hb dX5_treats_65 (by decide) ?_
            exact ih (k + 1) hkl (by omega) _ _ _ I (lv_sub hl [1, 2, 0] rfl)
  exact L_7 _ 0 (Nat.zero_le _) (Nat.lt_succ_self _) _ _ _ I (lv_sub hl [1, 2, 0] rfl)

set_option maxHeartbeats 4000000 in
set_option maxRecDepth 100000 in
theorem met_X5_crumbles (l : Launch) (Γ : g_C) (mo : Nat) (ad : Nat → Nat) (f : Nat → Int32) (a : Nat → Nat → Int32) (rr : Nat → UInt32) (ph : g_H) (p0 : Int32) (hw : WF (a 5)) (h0 : vp_in p0 (nN (a 5))) : g_Met l yX5_crumbles (ws_ yX5_crumbles cX5_crumbles 3 none) (g_rm 7 0 0) Γ [.ref mo, .int p0] (mG Γ mo ad f a rr ph) (g_ov (fun ph' => ph' = mG Γ mo ad (upd f 13 (nI (crW (a 5) (a 12) p0).2.2)) (va_up (va_up a 12 ((crW (a 5) (a 12) p0).2.1)) 5 ((crW (a 5) (a 12) p0).1)) rr ph)) g_no := by
  refine g_start (y := yX5_crumbles) (cc := cX5_crumbles) (maxL := 3) (ret := none) (rm := g_rm 7 0 0) (by decide) (Nat.le_of_ble_eq_true rfl) ?_
  intro p e s m A below meth c ls Q hQ S hr hlk hex hnm hK I hl
  have hx := S.1
  have hb := S.2.1
  have hown := S.2.2.2.1
  have hts := S.2.2.2.2
  have S : CallFix p m c cX5_crumbles 3 s A lw_all "CrumblingWallModel" := S
  have hl : lv_has ls 3 [(0, .ref mo), (1, .int p0)] := hl
  refine lv_aload_n hx hb dX5_crumbles_0 rfl (lv_at hl 0 rfl) ?_
  refine lv_iconst (v := 1) hx hb dX5_crumbles_1 (by decide) ?_
  refine g_put S hK I k_X5 (v := .int 1) mG_obj 13 (by decide) q2965 rfl rfl rfl rfl (Nat.le_of_ble_eq_true rfl) dX5_crumbles_2 (fun H locs I => ?_)
  have I := mI_f (f' := (upd f 13 1)) I rfl
  refine lv_aload_n hx hb dX5_crumbles_5 rfl (lv_at hl 0 rfl) ?_
  refine g_get S hK I k_X5 (v := .ref (ad 12)) (g_at.of mG_obj) 12 (by decide) q2964 rfl rfl dX5_crumbles_6 ?_
  refine lv_iconst (v := 0) hx hb dX5_crumbles_9 (by decide) ?_
  refine lv_iload_n hx hb dX5_crumbles_10 rfl (lv_at hl 1 rfl) ?_
  refine m_iast S hK I (f := (a 12)) (k := 0) mG_12 (vp_lit (by decide)) (by decide) dX5_crumbles_11 (fun H locs I => ?_)
  have I := mI_12 I
  refine lv_iconst (v := 0) hx hb dX5_crumbles_12 (by decide) ?_
  refine lv_istore_n (lv' := [(2, .int 0), (0, .ref mo), (1, .int p0)]) hx hb dX5_crumbles_13 rfl hl (by decide) rfl (fun ls hl => ?_)
  have I := mI_ef I (show upd f 13 1 = upd f 13 (nI 1) from rfl)
  have I := mI_ea I (show (va_up a 12 (upd (a 12) 0 p0)) = va_up (va_up a 12 (upd (a 12) 0 p0)) 5 (a 5) from (va_upI _ 5 rfl).symm)
  have L_14 : ∀ (d : Nat) (j : Nat) (k : Nat) (w1 : m_w) (cr : Nat → Int32) (n : Nat), (hm : n + nAn w1 < j + k) → (hW : WF w1) → (hN : nN w1 = nN (a 5)) → (hc : n + nAn w1 ≤ 9) → (hcr : ∀ i, i < n → vp_in (cr i) (nN (a 5))) → (hk : k ≤ n) → (hE : crF j k (w1, cr, n) = (crW (a 5) (a 12) p0)) → j < d → ∀ (H : Heap) (locs : List Loc) (ls : Array Slot), g_I Γ (mG Γ mo ad (upd f 13 (nI n)) (va_up (va_up a 12 cr) 5 w1) rr ph) s H locs → lv_has ls 3 [(0, .ref mo), (1, .int p0), (2, .int (nI k))] → W p l e (g_rm 7 0 0) s m A below meth c H locs 0 0 Q (F0 m 14 ls []) := by
    intro d
    induction d with
    | zero => intro j k w1 cr n hm hW hN hc hcr hk hE hd; exact absurd hd (Nat.not_lt_zero _)
    | succ d ih =>
      intro j k w1 cr n hm hW hN hc hcr hk hE hd H locs ls I hl
      refine lv_iload_n hx hb dX5_crumbles_14 rfl (lv_at hl 2 rfl) ?_
      refine lv_aload_n hx hb dX5_crumbles_15 rfl (lv_at hl 0 rfl) ?_
      refine g_get S hK I k_X5 (v := .int (nI n)) (g_at.of mG_obj) 13 (by decide) q2965 rfl rfl dX5_crumbles_16 ?_
      refine lv_icmp_ge (tgt := 38) hx hb dX5_crumbles_19 (by decide) (fun c_19 => ?_) (fun c_19 => ?_)
      · have n_19 := Int32.not_lt.mpr c_19
        have hkn : ¬ k < n := by rw [nI_leI (by omega) (by omega)] at c_19; omega
        have eC : (w1, cr, n) = (crW (a 5) (a 12) p0) := (crF_end hkn).symm.trans hE
        exact g_vret S hr hlk I dX5_crumbles_38 (Nat.le_of_ble_eq_true rfl) (Nat.le_of_ble_eq_true rfl) hQ ⟨rfl, (by rw [← eC])⟩
      · have n_19 := Int32.not_le.mp c_19
        have hkn : k < n := by rw [nI_leI (by omega) (by omega)] at c_19; omega
        obtain ⟨j, rfl⟩ : ∃ i, j = i + 1 := ⟨j - 1, by omega⟩
        have hT := trW_ok (h := cr k) (S := (w1, cr, n)) hW (by show vp_in _ (nN w1); rw [hN]; exact hcr k hkn)
        have hcr2 : ∀ i, i < (trW (cr k) (w1, cr, n)).2.2 → vp_in ((trW (cr k) (w1, cr, n)).2.1 i) (nN (a 5)) := by
          intro i hi
          by_cases h : i < n
          · rw [show (trW (cr k) (w1, cr, n)).2.1 i = cr i from hT.2.2.2.2.1 i h]; exact hcr i h
          · rw [← hN]; exact hT.2.2.2.2.2.1 i (Nat.not_lt.mp h) hi
        refine lv_aload_n hx hb dX5_crumbles_22 rfl (lv_at hl 0 rfl) ?_
        refine lv_aload_n hx hb dX5_crumbles_23 rfl (lv_at hl 0 rfl) ?_
        refine g_get S hK I k_X5 (v := .ref (ad 12)) (g_at.of mG_obj) 12 (by decide) q2964 rfl rfl dX5_crumbles_24 ?_
        refine lv_iload_n hx hb dX5_crumbles_27 rfl (lv_at hl 2 rfl) ?_
        refine m_iald S hK I (f := cr) (k := k) (g_at.of mG_12) (vp_in_nI (by omega) (by decide)) (nI_clamp (by omega)) dX5_crumbles_28 ?_
        refine g_cv (g_runV S hK I (As := [.int (cr k)]) (rest := []) (met_X5_treats l Γ mo ad (upd f 13 (nI n)) (va_up (va_up a 12 cr) 5 w1) rr ph (cr k) hW (show vp_in (cr k) (nN w1) by rw [hN]; exact hcr k hkn) ⟨by rw [nCr_u (by omega)]; exact upd_s _ _ _, by rw [nCr_u (by omega)]; exact (show n + nAn w1 ≤ 24 by omega)⟩) (cwV 1 hts (lw_V q3259 q3261 qs86 q151 q3262) rfl rfl rfl (by decide +kernel) ⟨Nat.le_of_ble_eq_true rfl, Nat.le_of_ble_eq_true rfl⟩) (g_recv hK I (g_at.of mG_obj) (ci := 4) rfl) rfl hl.1 rfl (Nat.le_of_ble_eq_true rfl) dX5_crumbles_29 ⟨Nat.le_of_ble_eq_true rfl, Nat.le_of_ble_eq_true rfl⟩) I (fun ph1 H locs hp I => ?_)
        subst hp
        have I : g_I Γ (mG Γ mo ad (upd (upd f 13 (nI n)) 13 (nI (trW (cr k) (w1, cr, nCr (upd f 13 (nI n)))).2.2)) (va_up (va_up (va_up (va_up a 12 cr) 5 w1) 12 ((trW (cr k) (w1, cr, nCr (upd f 13 (nI n)))).2.1)) 5 ((trW (cr k) (w1, cr, nCr (upd f 13 (nI n)))).1)) rr ph) s H locs := I
        have I := mI_ef I (show (upd (upd f 13 (nI n)) 13 (nI (trW (cr k) (w1, cr, nCr (upd f 13 (nI n)))).2.2)) = upd f 13 (nI (trW (cr k) (w1, cr, n)).2.2) from by rw [nCr_u (by omega)]; exact upd_uu)
        have I := mI_ea I (show (va_up (va_up (va_up (va_up a 12 cr) 5 w1) 12 ((trW (cr k) (w1, cr, nCr (upd f 13 (nI n)))).2.1)) 5 ((trW (cr k) (w1, cr, nCr (upd f 13 (nI n)))).1)) = va_up (va_up a 12 (trW (cr k) (w1, cr, n)).2.1) 5 (trW (cr k) (w1, cr, n)).1 from by rw [nCr_u (by omega)]; exact va_4)
        refine lv_iinc (v := nI (k + 1)) (lv' := [(2, .int (nI (k + 1))), (0, .ref mo), (1, .int p0)]) hx hb dX5_crumbles_32 hl (k := 2) rfl (nI_1 k) (by decide) rfl (fun ls hl => ?_)
        refine lv_goto (tgt := 14) hx hb dX5_crumbles_35 (by decide) ?_
        exact ih j (k + 1) ((trW (cr k) (w1, cr, n)).1) ((trW (cr k) (w1, cr, n)).2.1) ((trW (cr k) (w1, cr, n)).2.2) (by have := hT.2.2.1; have : n ≤ (trW (cr k) (w1, cr, n)).2.2 := hT.2.2.2.1; have : (trW (cr k) (w1, cr, n)).2.2 + nAn (trW (cr k) (w1, cr, n)).1 ≤ n + nAn w1 := hT.2.2.1; omega) hT.1 (hT.2.1.trans hN) (Nat.le_trans hT.2.2.1 hc) hcr2 (Nat.lt_of_lt_of_le hkn hT.2.2.2.1) ((if_pos hkn).symm.trans hE) (by omega) _ _ _ I (lv_sub hl [1, 2, 0] rfl)
  exact L_14 _ (nAn (a 5) + 2) 0 (a 5) (upd (a 12) 0 p0) 1 (by omega) hw rfl (by have := hw.2.2.1.2; omega) (cr_0 h0) (Nat.zero_le _) rfl (Nat.lt_succ_self _) _ _ _ I (lv_sub hl [1, 2, 0] rfl)

set_option maxHeartbeats 4000000 in
set_option maxRecDepth 100000 in
theorem met_X5_movesTo (l : Launch) (Γ : g_C) (mo : Nat) (ad : Nat → Nat) (f : Nat → Int32) (a : Nat → Nat → Int32) (rr : Nat → UInt32) (ph : g_H) (p0 : Int32) (p1 : Int32) (hw : WF (a 5)) (h0 : vp_in p0 2) (h1 : okP (a 5) p1) (hm : nMove (a 5) p0 p1 = none) (hC : f 13 = nI (nCr f)) (hC9 : nCr f ≤ 9) : g_Met l yX5_movesTo (ws_ yX5_movesTo cX5_movesTo 3 none) (g_rm 8 0 0) Γ [.ref mo, .int p0, .int p1] (mG Γ mo ad f a rr ph) (g_ov (fun ph' => ph' = mG Γ mo ad (upd f 13 (nI (mvFl (a 5) (a 12) (nCr f) p0 p1).2.2)) (va_up (va_up a 12 ((mvFl (a 5) (a 12) (nCr f) p0 p1).2.1)) 5 (minW (mvFl (a 5) (a 12) (nCr f) p0 p1).1)) rr ph)) g_no := by
  refine g_start (y := yX5_movesTo) (cc := cX5_movesTo) (maxL := 3) (ret := none) (rm := g_rm 8 0 0) (by decide) (Nat.le_of_ble_eq_true rfl) ?_
  intro p e s m A below meth c ls Q hQ S hr hlk hex hnm hK I hl
  have hx := S.1
  have hb := S.2.1
  have hown := S.2.2.2.1
  have hts := S.2.2.2.2
  have S : CallFix p m c cX5_movesTo 3 s A lw_all "CrumblingWallModel" := S
  have hl : lv_has ls 3 [(0, .ref mo), (1, .int p0), (2, .int p1)] := hl
  refine lv_aload_n hx hb dX5_movesTo_0 rfl (lv_at hl 0 rfl) ?_
  refine lv_iload_n hx hb dX5_movesTo_1 rfl (lv_at hl 1 rfl) ?_
  refine lv_iconst (v := 2) hx hb dX5_movesTo_2 (by decide) ?_
  refine lv_aload_n hx hb dX5_movesTo_3 rfl (lv_at hl 0 rfl) ?_
  refine lv_iload_n hx hb dX5_movesTo_4 rfl (lv_at hl 1 rfl) ?_
  refine lv_iconst (v := 2) hx hb dX5_movesTo_5 (by decide) ?_
  refine g_ci (g_runV S hK I (As := [.int p0, .int 2]) (rest := [.int 2, .int p0, .ref mo]) (met_X5_ofClimber l Γ mo ad f a rr ph p0 2 h0 (vp_lit (by decide))) (cwV 2 hts (lw_V q3099 q3101 qs60 q151 q3102) rfl rfl rfl (by decide +kernel) ⟨Nat.le_of_ble_eq_true rfl, Nat.le_of_ble_eq_true rfl⟩) (g_recv hK I (g_at.of mG_obj) (ci := 4) rfl) rfl hl.1 rfl (Nat.le_of_ble_eq_true rfl) dX5_movesTo_6 ⟨Nat.le_of_ble_eq_true rfl, Nat.le_of_ble_eq_true rfl⟩) I (fun r_6 ph1 H locs hp I => ?_)
  obtain ⟨hp, rfl⟩ := hp
  have hp : r_6 = cX (a 5) p0 2 := hp
  subst hp
  refine lv_aload_n hx hb dX5_movesTo_9 rfl (lv_at hl 0 rfl) ?_
  refine lv_iload_n hx hb dX5_movesTo_10 rfl (lv_at hl 1 rfl) ?_
  refine lv_iload_n hx hb dX5_movesTo_11 rfl (lv_at hl 2 rfl) ?_
  refine g_ci (g_runV S hK I (As := [.int p0, .int p1]) (rest := [.int (cX (a 5) p0 2), .int 2, .int p0, .ref mo]) (met_X5_costOf l Γ mo ad f a rr ph p0 p1 hw h0 h1) (cwV 2 hts (lw_V q3236 q3238 qs81 q151 q3239) rfl rfl rfl (by decide +kernel) ⟨Nat.le_of_ble_eq_true rfl, Nat.le_of_ble_eq_true rfl⟩) (g_recv hK I (g_at.of mG_obj) (ci := 4) rfl) rfl hl.1 rfl (Nat.le_of_ble_eq_true rfl) dX5_movesTo_12 ⟨Nat.le_of_ble_eq_true rfl, Nat.le_of_ble_eq_true rfl⟩) I (fun r_12 ph1 H locs hp I => ?_)
  obtain ⟨hp, rfl⟩ := hp
  have hp : r_12 = cost (a 5) p0 p1 := hp
  subst hp
  refine lv_isub hx hb dX5_movesTo_15 ?_
  refine g_cv (g_runV S hK I (As := [.int p0, .int 2, .int ((cX (a 5) p0 2) - (cost (a 5) p0 p1))]) (rest := []) (met_X5_setClimber l Γ mo ad f a rr ph p0 2 ((cX (a 5) p0 2) - (cost (a 5) p0 p1)) h0 (vp_lit (by decide))) (cwV 3 hts (lw_V q3247 q3249 qs83 q151 q3250) rfl rfl rfl (by decide +kernel) ⟨Nat.le_of_ble_eq_true rfl, Nat.le_of_ble_eq_true rfl⟩) (g_recv hK I (g_at.of mG_obj) (ci := 4) rfl) rfl hl.1 rfl (Nat.le_of_ble_eq_true rfl) dX5_movesTo_16 ⟨Nat.le_of_ble_eq_true rfl, Nat.le_of_ble_eq_true rfl⟩) I (fun ph1 H locs hp I => ?_)
  subst hp
  have I : g_I Γ (mG Γ mo ad f (va_up a 5 (setC (a 5) p0 2 ((cX (a 5) p0 2) - (cost (a 5) p0 p1)))) rr ph) s H locs := I
  refine lv_aload_n hx hb dX5_movesTo_19 rfl (lv_at hl 0 rfl) ?_
  refine lv_iload_n hx hb dX5_movesTo_20 rfl (lv_at hl 1 rfl) ?_
  refine lv_iconst (v := 0) hx hb dX5_movesTo_21 (by decide) ?_
  refine lv_iload_n hx hb dX5_movesTo_22 rfl (lv_at hl 2 rfl) ?_
  refine g_cv (g_runV S hK I (As := [.int p0, .int 0, .int p1]) (rest := []) (met_X5_setClimber l Γ mo ad f (va_up a 5 (setC (a 5) p0 2 ((cX (a 5) p0 2) - (cost (a 5) p0 p1)))) rr ph p0 0 p1 h0 (vp_lit (by decide))) (cwV 3 hts (lw_V q3247 q3249 qs83 q151 q3250) rfl rfl rfl (by decide +kernel) ⟨Nat.le_of_ble_eq_true rfl, Nat.le_of_ble_eq_true rfl⟩) (g_recv hK I (g_at.of mG_obj) (ci := 4) rfl) rfl hl.1 rfl (Nat.le_of_ble_eq_true rfl) dX5_movesTo_23 ⟨Nat.le_of_ble_eq_true rfl, Nat.le_of_ble_eq_true rfl⟩) I (fun ph1 H locs hp I => ?_)
  subst hp
  rw [bx_uu] at I
  have I : g_I Γ (mG Γ mo ad f (va_up a 5 (setC (setC (a 5) p0 2 ((cX (a 5) p0 2) - (cost (a 5) p0 p1))) p0 0 p1)) rr ph) s H locs := I
  refine lv_aload_n hx hb dX5_movesTo_26 rfl (lv_at hl 0 rfl) ?_
  refine lv_iload_n hx hb dX5_movesTo_27 rfl (lv_at hl 1 rfl) ?_
  refine lv_iconst (v := 1) hx hb dX5_movesTo_28 (by decide) ?_
  refine lv_iconst (v := 0) hx hb dX5_movesTo_29 (by decide) ?_
  refine g_cv (g_runV S hK I (As := [.int p0, .int 1, .int 0]) (rest := []) (met_X5_setClimber l Γ mo ad f (va_up a 5 (setC (setC (a 5) p0 2 ((cX (a 5) p0 2) - (cost (a 5) p0 p1))) p0 0 p1)) rr ph p0 1 0 h0 (vp_lit (by decide))) (cwV 3 hts (lw_V q3247 q3249 qs83 q151 q3250) rfl rfl rfl (by decide +kernel) ⟨Nat.le_of_ble_eq_true rfl, Nat.le_of_ble_eq_true rfl⟩) (g_recv hK I (g_at.of mG_obj) (ci := 4) rfl) rfl hl.1 rfl (Nat.le_of_ble_eq_true rfl) dX5_movesTo_30 ⟨Nat.le_of_ble_eq_true rfl, Nat.le_of_ble_eq_true rfl⟩) I (fun ph1 H locs hp I => ?_)
  subst hp
  rw [bx_uu] at I
  have I : g_I Γ (mG Γ mo ad f (va_up a 5 (setC (setC (setC (a 5) p0 2 ((cX (a 5) p0 2) - (cost (a 5) p0 p1))) p0 0 p1) p0 1 0)) rr ph) s H locs := I
  refine lv_aload_n hx hb dX5_movesTo_33 rfl (lv_at hl 0 rfl) ?_
  refine g_get S hK I k_X5 (v := .ref (ad 5)) (g_at.of mG_obj) 5 (by decide) q2957 rfl rfl dX5_movesTo_34 ?_
  refine lv_sipush (v := 141) hx hb dX5_movesTo_37 (by decide) ?_
  refine lv_dup2_11 hx hb dX5_movesTo_40 rfl rfl ?_
  refine m_iald S hK I (f := (setC (setC (setC (a 5) p0 2 ((cX (a 5) p0 2) - (cost (a 5) p0 p1))) p0 0 p1) p0 1 0)) (k := 141) (g_at.of mG_5) (vp_lit (by decide)) (by decide) dX5_movesTo_41 ?_
  refine lv_iconst (v := 1) hx hb dX5_movesTo_42 (by decide) ?_
  refine lv_iadd hx hb dX5_movesTo_43 ?_
  refine m_iast S hK I (f := (setC (setC (setC (a 5) p0 2 ((cX (a 5) p0 2) - (cost (a 5) p0 p1))) p0 0 p1) p0 1 0)) (k := 141) mG_5 (vp_lit (by decide)) (by decide) dX5_movesTo_44 (fun H locs I => ?_)
  have I := mI_5 I
  rw [bx_uu] at I
  have I : g_I Γ (mG Γ mo ad f (va_up a 5 (mv0 (a 5) p0 p1)) rr ph) s H locs := I
  refine lv_iload_n hx hb dX5_movesTo_45 rfl (lv_at hl 2 rfl) ?_
  refine lv_iconst (v := (-1)) hx hb dX5_movesTo_46 (by decide) ?_
  have J_82_0 : ∀ (H : Heap) (locs : List Loc) (ls : Array Slot), g_I Γ (mG Γ mo ad (upd f 13 (nI (mvFl (a 5) (a 12) (nCr f) p0 p1).2.2)) (va_up (va_up a 12 ((mvFl (a 5) (a 12) (nCr f) p0 p1).2.1)) 5 ((mvFl (a 5) (a 12) (nCr f) p0 p1).1)) rr ph) s H locs → lv_has ls 3 [(0, .ref mo), (1, .int p0), (2, .int p1)] → W p l e (g_rm 8 0 0) s m A below meth c H locs 0 0 Q (F0 m 82 ls []) := by
    intro  H locs ls  I hl
    refine lv_aload_n hx hb dX5_movesTo_82 rfl (lv_at hl 0 rfl) ?_
    refine g_cv (g_runV S hK I (As := []) (rest := []) (met_X5_minute l Γ mo ad (upd f 13 (nI (mvFl (a 5) (a 12) (nCr f) p0 p1).2.2)) (va_up (va_up a 12 ((mvFl (a 5) (a 12) (nCr f) p0 p1).2.1)) 5 ((mvFl (a 5) (a 12) (nCr f) p0 p1).1)) rr ph (mvFl_ok hw h0 h1 hm hC9).1) (cwV 0 hts (lw_V q3289 q3291 qs93 q151 q3292) rfl rfl rfl (by decide +kernel) ⟨Nat.le_of_ble_eq_true rfl, Nat.le_of_ble_eq_true rfl⟩) (g_recv hK I (g_at.of mG_obj) (ci := 4) rfl) rfl hl.1 rfl (Nat.le_of_ble_eq_true rfl) dX5_movesTo_83 ⟨Nat.le_of_ble_eq_true rfl, Nat.le_of_ble_eq_true rfl⟩) I (fun ph1 H locs hp I => ?_)
    subst hp
    rw [bx_uu] at I
    have I : g_I Γ (mG Γ mo ad (upd f 13 (nI (mvFl (a 5) (a 12) (nCr f) p0 p1).2.2)) (va_up (va_up a 12 ((mvFl (a 5) (a 12) (nCr f) p0 p1).2.1)) 5 (minW ((mvFl (a 5) (a 12) (nCr f) p0 p1).1))) rr ph) s H locs := I
    exact g_vret S hr hlk I dX5_movesTo_86 (Nat.le_of_ble_eq_true rfl) (Nat.le_of_ble_eq_true rfl) hQ ⟨rfl, rfl⟩
  refine lv_icmp_eq (tgt := 82) hx hb dX5_movesTo_47 (by decide) (fun c_47 => ?_) (fun c_47 => ?_)
  · have eT : (mvFl (a 5) (a 12) (nCr f) p0 p1) = ((mv0 (a 5) p0 p1), a 12, nCr f) := if_pos c_47
    have I := mI_ef I (show f = upd f 13 (nI (mvFl (a 5) (a 12) (nCr f) p0 p1).2.2) from by rw [eT]; exact (upd_id hC).symm)
    have I := mI_ea I (show (va_up a 5 (mv0 (a 5) p0 p1)) = va_up (va_up a 12 (mvFl (a 5) (a 12) (nCr f) p0 p1).2.1) 5 (mvFl (a 5) (a 12) (nCr f) p0 p1).1 from by rw [eT, va_upI a 12 rfl])
    exact J_82_0  _ _ _  I (lv_sub hl [0, 1, 2] rfl)
  · have hpN := h1.resolve_left c_47
    have hp20 := hw.h20 hpN
    refine lv_aload_n hx hb dX5_movesTo_50 rfl (lv_at hl 0 rfl) ?_
    refine g_get S hK I k_X5 (v := .ref (ad 5)) (g_at.of mG_obj) 5 (by decide) q2957 rfl rfl dX5_movesTo_51 ?_
    refine lv_iload_n hx hb dX5_movesTo_54 rfl (lv_at hl 2 rfl) ?_
    refine lv_iconst (v := 4) hx hb dX5_movesTo_55 (by decide) ?_
    refine g_ci (g_runS S hK I (As := [.int p1, .int 4]) (rest := [.ref (ad 5)]) (met_X5_atHold l Γ (mG Γ mo ad f (va_up a 5 (mv0 (a 5) p0 p1)) rr ph) p1 4) (va_cwS 2 hts (lw_S q3068 q3069 q151 q3070) rfl rfl rfl (by decide +kernel) ⟨Nat.le_of_ble_eq_true rfl, Nat.le_of_ble_eq_true rfl⟩) rfl hl.1 rfl (Nat.le_of_ble_eq_true rfl) dX5_movesTo_56 ⟨Nat.le_of_ble_eq_true rfl, Nat.le_of_ble_eq_true rfl⟩) I (fun r_56 ph1 H locs hp I => ?_)
    obtain ⟨hp, rfl⟩ := hp
    have hp : r_56 = 1 + 5 * p1 + 4 := hp
    subst hp
    refine lv_dup2_11 hx hb dX5_movesTo_59 rfl rfl ?_
    refine m_iald S hK I (f := (mv0 (a 5) p0 p1)) (k := (1 + 5 * p1.toNatClampNeg + 4)) (g_at.of mG_5) (ix_h (t := 4) hp20 (vp_lit (by decide))).1 (ix_h (t := 4) hp20 (vp_lit (by decide))).2 dX5_movesTo_60 ?_
    refine lv_aload_n hx hb dX5_movesTo_61 rfl (lv_at hl 0 rfl) ?_
    refine lv_iload_n hx hb dX5_movesTo_62 rfl (lv_at hl 2 rfl) ?_
    refine lv_iload_n hx hb dX5_movesTo_63 rfl (lv_at hl 1 rfl) ?_
    refine g_ci (g_runV S hK I (As := [.int p1, .int p0]) (rest := [.int ((mv0 (a 5) p0 p1) (1 + 5 * p1.toNatClampNeg + 4)), .int (1 + 5 * p1 + 4), .ref (ad 5)]) (met_X5_wearOf l Γ mo ad f (va_up a 5 (mv0 (a 5) p0 p1)) rr ph p1 p0 (mv0_wf hw h0 h1 hm) hp20) (cwV 2 hts (lw_V q3251 q3253 qs84 q151 q3254) rfl rfl rfl (by decide +kernel) ⟨Nat.le_of_ble_eq_true rfl, Nat.le_of_ble_eq_true rfl⟩) (g_recv hK I (g_at.of mG_obj) (ci := 4) rfl) rfl hl.1 rfl (Nat.le_of_ble_eq_true rfl) dX5_movesTo_64 ⟨Nat.le_of_ble_eq_true rfl, Nat.le_of_ble_eq_true rfl⟩) I (fun r_64 ph1 H locs hp I => ?_)
    obtain ⟨hp, rfl⟩ := hp
    have hp : r_64 = wearO (mv0 (a 5) p0 p1) p1 p0 := hp
    subst hp
    refine lv_iadd hx hb dX5_movesTo_67 ?_
    refine m_iast S hK I (f := (mv0 (a 5) p0 p1)) (k := (1 + 5 * p1.toNatClampNeg + 4)) mG_5 (ix_h (t := 4) hp20 (vp_lit (by decide))).1 (ix_h (t := 4) hp20 (vp_lit (by decide))).2 dX5_movesTo_68 (fun H locs I => ?_)
    have I := mI_5 I
    rw [bx_uu] at I
    have I : g_I Γ (mG Γ mo ad f (va_up a 5 (mvR (a 5) p0 p1)) rr ph) s H locs := I
    refine lv_aload_n hx hb dX5_movesTo_69 rfl (lv_at hl 0 rfl) ?_
    refine lv_iload_n hx hb dX5_movesTo_70 rfl (lv_at hl 2 rfl) ?_
    refine g_ci (g_runV S hK I (As := [.int p1]) (rest := []) (met_X5_hasCrumbled l Γ mo ad f (va_up a 5 (mvR (a 5) p0 p1)) rr ph p1 hp20) (cwV 1 hts (lw_V q3122 q3124 qs64 q151 q3125) rfl rfl rfl (by decide +kernel) ⟨Nat.le_of_ble_eq_true rfl, Nat.le_of_ble_eq_true rfl⟩) (g_recv hK I (g_at.of mG_obj) (ci := 4) rfl) rfl hl.1 rfl (Nat.le_of_ble_eq_true rfl) dX5_movesTo_71 ⟨Nat.le_of_ble_eq_true rfl, Nat.le_of_ble_eq_true rfl⟩) I (fun r_71 ph1 H locs hp I => ?_)
    obtain ⟨hp, rfl⟩ := hp
    have hp : r_71 = b2i (hasCr (mvR (a 5) p0 p1) p1) := hp
    subst hp
    refine lv_if_eq (tgt := 82) hx hb dX5_movesTo_74 (by decide) (fun c_74 => ?_) (fun c_74 => ?_)
    · have p_74 := (b2i_eq0 _).mp c_74
      have eT : (mvFl (a 5) (a 12) (nCr f) p0 p1) = ((mvR (a 5) p0 p1), a 12, nCr f) := (if_neg c_47).trans (if_neg (by rw [p_74]; decide))
      have I := mI_ef I (show f = upd f 13 (nI (mvFl (a 5) (a 12) (nCr f) p0 p1).2.2) from by rw [eT]; exact (upd_id hC).symm)
      have I := mI_ea I (show (va_up a 5 (mvR (a 5) p0 p1)) = va_up (va_up a 12 (mvFl (a 5) (a 12) (nCr f) p0 p1).2.1) 5 (mvFl (a 5) (a 12) (nCr f) p0 p1).1 from by rw [eT, va_upI a 12 rfl])
      exact J_82_0  _ _ _  I (lv_sub hl [0, 1, 2] rfl)
    · have p_74 := (b2i_ne0 _).mp c_74
      refine lv_aload_n hx hb dX5_movesTo_77 rfl (lv_at hl 0 rfl) ?_
      refine lv_iload_n hx hb dX5_movesTo_78 rfl (lv_at hl 2 rfl) ?_
      refine g_cv (g_runV S hK I (As := [.int p1]) (rest := []) (met_X5_crumbles l Γ mo ad f (va_up a 5 (mvR (a 5) p0 p1)) rr ph p1 (mvR_wf hw h0 hpN hm) (show vp_in p1 (nN (mvR (a 5) p0 p1)) by rw [nN_eq (mvR_n hw h0 hpN (j := 0) (by decide))]; exact hpN)) (cwV 1 hts (lw_V q3255 q3257 qs85 q151 q3258) rfl rfl rfl (by decide +kernel) ⟨Nat.le_of_ble_eq_true rfl, Nat.le_of_ble_eq_true rfl⟩) (g_recv hK I (g_at.of mG_obj) (ci := 4) rfl) rfl hl.1 rfl (Nat.le_of_ble_eq_true rfl) dX5_movesTo_79 ⟨Nat.le_of_ble_eq_true rfl, Nat.le_of_ble_eq_true rfl⟩) I (fun ph1 H locs hp I => ?_)
      subst hp
      have I : g_I Γ (mG Γ mo ad (upd f 13 (nI (crW (mvR (a 5) p0 p1) (a 12) p1).2.2)) (va_up (va_up (va_up a 5 (mvR (a 5) p0 p1)) 12 ((crW (mvR (a 5) p0 p1) (a 12) p1).2.1)) 5 ((crW (mvR (a 5) p0 p1) (a 12) p1).1)) rr ph) s H locs := I
      have eT : (mvFl (a 5) (a 12) (nCr f) p0 p1) = crW (mvR (a 5) p0 p1) (a 12) p1 := (if_neg c_47).trans (if_pos p_74)
      have I := mI_ef I (show (upd f 13 (nI (crW (mvR (a 5) p0 p1) (a 12) p1).2.2)) = upd f 13 (nI (mvFl (a 5) (a 12) (nCr f) p0 p1).2.2) from by rw [eT])
      have I := mI_ea I (show (va_up (va_up (va_up a 5 (mvR (a 5) p0 p1)) 12 ((crW (mvR (a 5) p0 p1) (a 12) p1).2.1)) 5 ((crW (mvR (a 5) p0 p1) (a 12) p1).1)) = va_up (va_up a 12 (mvFl (a 5) (a 12) (nCr f) p0 p1).2.1) 5 (mvFl (a 5) (a 12) (nCr f) p0 p1).1 from by rw [eT]; exact va_512)
      exact J_82_0  _ _ _  I (lv_sub hl [0, 1, 2] rfl)

set_option maxHeartbeats 4000000 in
set_option maxRecDepth 100000 in
theorem met_X5_move (l : Launch) (Γ : g_C) (mo : Nat) (ad : Nat → Nat) (f : Nat → Int32) (a : Nat → Nat → Int32) (rr : Nat → UInt32) (ph : g_H) (p0 : Int32) (p1 : Int32) (hw : WF (a 5)) (hU : okU f) (hC : f 13 = nI (nCr f)) (hC9 : nCr f ≤ 9) : g_Met l yX5_move (ws_ yX5_move cX5_move 3 (some .int)) (g_rm 9 0 0) Γ [.ref mo, .int p0, .int p1] (mG Γ mo ad f a rr ph) (g_oi (fun v ph' => v = (if (isCl p0 && isPl (a 5) p1) = false then 0 else pubR (nMove (a 5) p0 p1) (cX (minW (mvT f a p0 p1).1) p0 1)) ∧ ph' = mG Γ mo ad (if (isCl p0 && isPl (a 5) p1) = false then upd f 0 1 else pubFm f (nMove (a 5) p0 p1) (mvT f a p0 p1)) (if (isCl p0 && isPl (a 5) p1) = false then a else pubAm f a (nMove (a 5) p0 p1) (mvT f a p0 p1)) rr ph)) g_no := by
  refine g_start (y := yX5_move) (cc := cX5_move) (maxL := 3) (ret := (some .int)) (rm := g_rm 9 0 0) (by decide) (Nat.le_of_ble_eq_true rfl) ?_
  intro p e s m A below meth c ls Q hQ S hr hlk hex hnm hK I hl
  have hx := S.1
  have hb := S.2.1
  have hown := S.2.2.2.1
  have hts := S.2.2.2.2
  have S : CallFix p m c cX5_move 3 s A lw_all "CrumblingWallModel" := S
  have hl : lv_has ls 3 [(0, .ref mo), (1, .int p0), (2, .int p1)] := hl
  refine lv_iload_n hx hb dX5_move_0 rfl (lv_at hl 1 rfl) ?_
  refine g_ci (g_runS S hK I (As := [.int p0]) (rest := []) (met_X5_isClimber l Γ (mG Γ mo ad f a rr ph) p0) (va_cwS 1 hts (lw_S q3217 q3218 q151 q3219) rfl rfl rfl (by decide +kernel) ⟨Nat.le_of_ble_eq_true rfl, Nat.le_of_ble_eq_true rfl⟩) rfl hl.1 rfl (Nat.le_of_ble_eq_true rfl) dX5_move_1 ⟨Nat.le_of_ble_eq_true rfl, Nat.le_of_ble_eq_true rfl⟩) I (fun r_1 ph1 H locs hp I => ?_)
  obtain ⟨hp, rfl⟩ := hp
  have hp : r_1 = b2i (isCl p0) := hp
  subst hp
  refine lv_if_eq (tgt := 15) hx hb dX5_move_4 (by decide) (fun c_4 => ?_) (fun c_4 => ?_)
  · have p_4 := (b2i_eq0 _).mp c_4
    refine lv_aload_n hx hb dX5_move_15 rfl (lv_at hl 0 rfl) ?_
    refine lv_iconst (v := 1) hx hb dX5_move_16 (by decide) ?_
    refine g_ci (g_runV S hK I (As := [.int 1]) (rest := []) (met_X5_fails l Γ mo ad f a rr ph 1) (cwV 1 hts (lw_V q3056 q3058 qs51 q151 q3059) rfl rfl rfl (by decide +kernel) ⟨Nat.le_of_ble_eq_true rfl, Nat.le_of_ble_eq_true rfl⟩) (g_recv hK I (g_at.of mG_obj) (ci := 4) rfl) rfl hl.1 rfl (Nat.le_of_ble_eq_true rfl) dX5_move_17 ⟨Nat.le_of_ble_eq_true rfl, Nat.le_of_ble_eq_true rfl⟩) I (fun r_17 ph1 H locs hp I => ?_)
    obtain ⟨hp, rfl⟩ := hp
    have hp : r_17 = 0 := hp
    subst hp
    have I : g_I Γ (mG Γ mo ad (upd f 0 1) a rr ph) s H locs := I
    exact g_iret S hr hlk I dX5_move_20 (Nat.le_of_ble_eq_true rfl) (Nat.le_of_ble_eq_true rfl) hQ ⟨_, rfl, (by (try simp only [p_4]); (try simp [pubFm, pubAm, cmM, pubR, p_4])), (by (try simp only [p_4]); (try simp [pubFm, pubAm, cmM, pubR, p_4]))⟩
  · have p_4 := (b2i_ne0 _).mp c_4
    have hc := isCl_iff.mp p_4
    refine lv_aload_n hx hb dX5_move_7 rfl (lv_at hl 0 rfl) ?_
    refine lv_iload_n hx hb dX5_move_8 rfl (lv_at hl 2 rfl) ?_
    refine g_ci (g_runV S hK I (As := [.int p1]) (rest := []) (met_X5_isPlace l Γ mo ad f a rr ph p1) (cwV 1 hts (lw_V q3157 q3159 qs71 q151 q3160) rfl rfl rfl (by decide +kernel) ⟨Nat.le_of_ble_eq_true rfl, Nat.le_of_ble_eq_true rfl⟩) (g_recv hK I (g_at.of mG_obj) (ci := 4) rfl) rfl hl.1 rfl (Nat.le_of_ble_eq_true rfl) dX5_move_9 ⟨Nat.le_of_ble_eq_true rfl, Nat.le_of_ble_eq_true rfl⟩) I (fun r_9 ph1 H locs hp I => ?_)
    obtain ⟨hp, rfl⟩ := hp
    have hp : r_9 = b2i (isPl (a 5) p1) := hp
    subst hp
    refine lv_if_ne (tgt := 21) hx hb dX5_move_12 (by decide) (fun c_12 => ?_) (fun c_12 => ?_)
    · have p_12 := (b2i_ne0 _).mp c_12
      have hv := (isPl_iff hw).mp p_12
      refine lv_aload_n hx hb dX5_move_21 rfl (lv_at hl 0 rfl) ?_
      refine lv_iload_n hx hb dX5_move_22 rfl (lv_at hl 1 rfl) ?_
      refine lv_iload_n hx hb dX5_move_23 rfl (lv_at hl 2 rfl) ?_
      refine g_ci (g_runV S hK I (As := [.int p0, .int p1]) (rest := []) (met_X5_mayNotMove l Γ mo ad f a rr ph p0 p1 hw hc hv) (cwV 2 hts (lw_V q3232 q3234 qs80 q151 q3235) rfl rfl rfl (by decide +kernel) ⟨Nat.le_of_ble_eq_true rfl, Nat.le_of_ble_eq_true rfl⟩) (g_recv hK I (g_at.of mG_obj) (ci := 4) rfl) rfl hl.1 rfl (Nat.le_of_ble_eq_true rfl) dX5_move_24 ⟨Nat.le_of_ble_eq_true rfl, Nat.le_of_ble_eq_true rfl⟩) I (fun r_24 ph1 H locs hp I => ?_)
      obtain ⟨hp, rfl⟩ := hp
      have hp : r_24 = b2i ((nMove (a 5) p0 p1).isSome) := hp
      subst hp
      have I : g_I Γ (mG Γ mo ad (m_hin f (nMove (a 5) p0 p1)) a rr ph) s H locs := I
      refine lv_if_eq (tgt := 36) hx hb dX5_move_27 (by decide) (fun c_27 => ?_) (fun c_27 => ?_)
      · have p_27 := (b2i_eq0 _).mp c_27
        have z_27 := wk_none p_27
        have I := mI_ef I (show _ = f from by rw [z_27]; rfl)
        refine lv_aload_n hx hb dX5_move_36 rfl (lv_at hl 0 rfl) ?_
        refine lv_iconst (v := 0) hx hb dX5_move_37 (by decide) ?_
        refine g_put S hK I k_X5 (v := .int 0) mG_obj 0 (by decide) q2952 rfl rfl rfl rfl (Nat.le_of_ble_eq_true rfl) dX5_move_38 (fun H locs I => ?_)
        have I := mI_f (f' := (upd f 0 0)) I rfl
        refine lv_aload_n hx hb dX5_move_41 rfl (lv_at hl 0 rfl) ?_
        refine g_cv (g_runV S hK I (As := []) (rest := []) (met_X5_notes l Γ mo ad (upd f 0 0) a rr ph ) (cwV 0 hts (lw_V q3079 q3081 qs56 q151 q3082) rfl rfl rfl (by decide +kernel) ⟨Nat.le_of_ble_eq_true rfl, Nat.le_of_ble_eq_true rfl⟩) (g_recv hK I (g_at.of mG_obj) (ci := 4) rfl) rfl hl.1 rfl (Nat.le_of_ble_eq_true rfl) dX5_move_42 ⟨Nat.le_of_ble_eq_true rfl, Nat.le_of_ble_eq_true rfl⟩) I (fun ph1 H locs hp I => ?_)
        subst hp
        have I : g_I Γ (mG Γ mo ad (upd f 0 0) (va_up a 8 (va_cpy (a 5) (a 8) 0 0 170)) rr ph) s H locs := I
        refine lv_aload_n hx hb dX5_move_45 rfl (lv_at hl 0 rfl) ?_
        refine g_cv (g_runV S hK I (As := []) (rest := []) (met_X5_remembers l Γ mo ad (upd f 0 0) (va_up a 8 (va_cpy (a 5) (a 8) 0 0 170)) rr ph (okU_0 hU)) (cwV 0 hts (lw_V q3083 q3085 qs57 q151 q3086) rfl rfl rfl (by decide +kernel) ⟨Nat.le_of_ble_eq_true rfl, Nat.le_of_ble_eq_true rfl⟩) (g_recv hK I (g_at.of mG_obj) (ci := 4) rfl) rfl hl.1 rfl (Nat.le_of_ble_eq_true rfl) dX5_move_46 ⟨Nat.le_of_ble_eq_true rfl, Nat.le_of_ble_eq_true rfl⟩) I (fun ph1 H locs hp I => ?_)
        subst hp
        have I : g_I Γ (mG Γ mo ad (remF (upd f 0 0)) (va_up (va_up a 8 (va_cpy (a 5) (a 8) 0 0 170)) 6 (va_cpy (va_cpy (a 5) (a 8) 0 0 170) (a 6) 0 (170 * rSl (upd f 0 0)) 170)) rr ph) s H locs := I
        refine lv_aload_n hx hb dX5_move_49 rfl (lv_at hl 0 rfl) ?_
        refine lv_iload_n hx hb dX5_move_50 rfl (lv_at hl 1 rfl) ?_
        refine lv_iload_n hx hb dX5_move_51 rfl (lv_at hl 2 rfl) ?_
        refine g_cv (g_runV S hK I (As := [.int p0, .int p1]) (rest := []) (met_X5_movesTo l Γ mo ad (remF (upd f 0 0)) (va_up (va_up a 8 (va_cpy (a 5) (a 8) 0 0 170)) 6 (va_cpy (va_cpy (a 5) (a 8) 0 0 170) (a 6) 0 (170 * rSl (upd f 0 0)) 170)) rr ph p0 p1 hw hc hv z_27 hC hC9) (cwV 2 hts (lw_V q3243 q3245 qs82 q151 q3246) rfl rfl rfl (by decide +kernel) ⟨Nat.le_of_ble_eq_true rfl, Nat.le_of_ble_eq_true rfl⟩) (g_recv hK I (g_at.of mG_obj) (ci := 4) rfl) rfl hl.1 rfl (Nat.le_of_ble_eq_true rfl) dX5_move_52 ⟨Nat.le_of_ble_eq_true rfl, Nat.le_of_ble_eq_true rfl⟩) I (fun ph1 H locs hp I => ?_)
        subst hp
        have I : g_I Γ (mG Γ mo ad (upd (remF (upd f 0 0)) 13 (nI (mvFl (a 5) (a 12) (nCr (remF (upd f 0 0))) p0 p1).2.2)) (va_up (va_up (va_up (va_up a 8 (va_cpy (a 5) (a 8) 0 0 170)) 6 (va_cpy (va_cpy (a 5) (a 8) 0 0 170) (a 6) 0 (170 * rSl (upd f 0 0)) 170)) 12 ((mvFl (a 5) (a 12) (nCr (remF (upd f 0 0))) p0 p1).2.1)) 5 (minW (mvFl (a 5) (a 12) (nCr (remF (upd f 0 0))) p0 p1).1)) rr ph) s H locs := I
        have I : g_I Γ (mG Γ mo ad (upd (remF (upd f 0 0)) 13 (nI (mvT f a p0 p1).2.2)) (va_up (va_up (va_up (va_up a 8 (va_cpy (a 5) (a 8) 0 0 170)) 6 (va_cpy (va_cpy (a 5) (a 8) 0 0 170) (a 6) 0 (170 * rSl (upd f 0 0)) 170)) 12 ((mvT f a p0 p1).2.1)) 5 (minW (mvT f a p0 p1).1)) rr ph) s H locs := I
        refine lv_aload_n hx hb dX5_move_55 rfl (lv_at hl 0 rfl) ?_
        refine lv_iload_n hx hb dX5_move_56 rfl (lv_at hl 1 rfl) ?_
        refine lv_iconst (v := 1) hx hb dX5_move_57 (by decide) ?_
        refine g_ci (g_runV S hK I (As := [.int p0, .int 1]) (rest := []) (met_X5_ofClimber l Γ mo ad (upd (remF (upd f 0 0)) 13 (nI (mvT f a p0 p1).2.2)) (va_up (va_up (va_up (va_up a 8 (va_cpy (a 5) (a 8) 0 0 170)) 6 (va_cpy (va_cpy (a 5) (a 8) 0 0 170) (a 6) 0 (170 * rSl (upd f 0 0)) 170)) 12 ((mvT f a p0 p1).2.1)) 5 (minW (mvT f a p0 p1).1)) rr ph p0 1 hc (vp_lit (by decide))) (cwV 2 hts (lw_V q3099 q3101 qs60 q151 q3102) rfl rfl rfl (by decide +kernel) ⟨Nat.le_of_ble_eq_true rfl, Nat.le_of_ble_eq_true rfl⟩) (g_recv hK I (g_at.of mG_obj) (ci := 4) rfl) rfl hl.1 rfl (Nat.le_of_ble_eq_true rfl) dX5_move_58 ⟨Nat.le_of_ble_eq_true rfl, Nat.le_of_ble_eq_true rfl⟩) I (fun r_58 ph1 H locs hp I => ?_)
        obtain ⟨hp, rfl⟩ := hp
        have hp : r_58 = cX (minW (mvT f a p0 p1).1) p0 1 := hp
        subst hp
        exact g_iret S hr hlk I dX5_move_61 (Nat.le_of_ble_eq_true rfl) (Nat.le_of_ble_eq_true rfl) hQ ⟨_, rfl, (by (try simp only [p_4, p_12, z_27]); (try simp [pubFm, pubAm, cmM, pubR, p_4, p_12, z_27])), (by (try simp only [p_4, p_12, z_27]); (try simp [pubFm, pubAm, cmM, pubR, p_4, p_12, z_27]))⟩
      · have p_27 := (b2i_ne0 _).mp c_27
        obtain ⟨q_27, hq_27⟩ := wk_some p_27
        refine lv_aload_n hx hb dX5_move_30 rfl (lv_at hl 0 rfl) ?_
        refine lv_iconst (v := 2) hx hb dX5_move_31 (by decide) ?_
        refine g_ci (g_runV S hK I (As := [.int 2]) (rest := []) (met_X5_refuses l Γ mo ad (m_hin f (nMove (a 5) p0 p1)) a rr ph 2) (cwV 1 hts (lw_V q3075 q3077 qs55 q151 q3078) rfl rfl rfl (by decide +kernel) ⟨Nat.le_of_ble_eq_true rfl, Nat.le_of_ble_eq_true rfl⟩) (g_recv hK I (g_at.of mG_obj) (ci := 4) rfl) rfl hl.1 rfl (Nat.le_of_ble_eq_true rfl) dX5_move_32 ⟨Nat.le_of_ble_eq_true rfl, Nat.le_of_ble_eq_true rfl⟩) I (fun r_32 ph1 H locs hp I => ?_)
        obtain ⟨hp, rfl⟩ := hp
        have hp : r_32 = 0 := hp
        subst hp
        have I : g_I Γ (mG Γ mo ad (m_ref (m_hin f (nMove (a 5) p0 p1)) 2) a rr ph) s H locs := I
        exact g_iret S hr hlk I dX5_move_35 (Nat.le_of_ble_eq_true rfl) (Nat.le_of_ble_eq_true rfl) hQ ⟨_, rfl, (by (try simp only [p_4, p_12, p_27, hq_27]); (try simp [pubFm, pubAm, cmM, pubR, p_4, p_12, p_27, hq_27])), (by (try simp only [p_4, p_12, p_27, hq_27]); (try simp [pubFm, pubAm, cmM, pubR, p_4, p_12, p_27, hq_27]))⟩
    · have p_12 := (b2i_eq0 _).mp c_12
      refine lv_aload_n hx hb dX5_move_15 rfl (lv_at hl 0 rfl) ?_
      refine lv_iconst (v := 1) hx hb dX5_move_16 (by decide) ?_
      refine g_ci (g_runV S hK I (As := [.int 1]) (rest := []) (met_X5_fails l Γ mo ad f a rr ph 1) (cwV 1 hts (lw_V q3056 q3058 qs51 q151 q3059) rfl rfl rfl (by decide +kernel) ⟨Nat.le_of_ble_eq_true rfl, Nat.le_of_ble_eq_true rfl⟩) (g_recv hK I (g_at.of mG_obj) (ci := 4) rfl) rfl hl.1 rfl (Nat.le_of_ble_eq_true rfl) dX5_move_17 ⟨Nat.le_of_ble_eq_true rfl, Nat.le_of_ble_eq_true rfl⟩) I (fun r_17 ph1 H locs hp I => ?_)
      obtain ⟨hp, rfl⟩ := hp
      have hp : r_17 = 0 := hp
      subst hp
      have I : g_I Γ (mG Γ mo ad (upd f 0 1) a rr ph) s H locs := I
      exact g_iret S hr hlk I dX5_move_20 (Nat.le_of_ble_eq_true rfl) (Nat.le_of_ble_eq_true rfl) hQ ⟨_, rfl, (by (try simp only [p_4, p_12]); (try simp [pubFm, pubAm, cmM, pubR, p_4, p_12])), (by (try simp only [p_4, p_12]); (try simp [pubFm, pubAm, cmM, pubR, p_4, p_12]))⟩


/-! THE REFERENCE: what changes the wall, further -/
set_option maxRecDepth 100000
def rC (f : Nat → Int32) : Nat := (f 9).toNatClampNeg
def rF (f : Nat → Int32) : Nat := (f 10).toNatClampNeg
def rC' (f : Nat → Int32) : Nat := if rC f = 8 then 7 else rC f
def rF' (f : Nat → Int32) : Nat := if rC f = 8 then (rF f + 1) % 8 else rF f
def rSl (f : Nat → Int32) : Nat := (rF' f + rC' f) % 8
def rem1 (f : Nat → Int32) : Nat → Int32 := fun j => if j = 9 then nI (rC' f) else if j = 10 then nI (rF' f) else f j
def remF (f : Nat → Int32) : Nat → Int32 := fun j => if j = 9 then nI (rC' f + 1) else if j = 10 then nI (rF' f) else f j
def okU (f : Nat → Int32) : Prop := (f 9 = nI (rC f) ∧ rC f ≤ 8) ∧ f 10 = nI (rF f) ∧ rF f < 8
theorem rem_a {f : Nat → Int32} (h : okU f) (c : f 9 = 8) : upd (upd f 10 (f 10 + 1 - (f 10 + 1) / 8 * 8)) 9 (f 9 - 1) = rem1 f := by
  have h8 : rC f = 8 := by unfold rC; rw [c]; rfl
  funext j
  unfold rem1 upd
  by_cases h9 : j = 9
  · rw [if_pos h9, if_pos h9]
    unfold rC'
    rw [if_pos h8, c]; rfl
  · rw [if_neg h9, if_neg h9]
    by_cases h10 : j = 10
    · rw [if_pos h10, if_pos h10]
      unfold rF'
      have h7 := h.2.2
      rw [if_pos h8, h.2.1, nI_1, show (8 : Int32) = nI 8 from rfl, pk_rem (by omega) (by decide) (by decide)]
    · rw [if_neg h10, if_neg h10]
theorem rem_b {f : Nat → Int32} (h : okU f) (c : ¬ f 9 = 8) : f = rem1 f := by
  have h8 : ¬ rC f = 8 := fun e => c (by rw [h.1.1, e]; rfl)
  funext j
  unfold rem1 rC' rF'
  rw [if_neg h8, if_neg h8]
  by_cases h9 : j = 9
  · subst h9; rw [if_pos rfl]; exact h.1.1
  · rw [if_neg h9]
    by_cases h10 : j = 10
    · subst h10; rw [if_pos rfl]; exact h.2.1
    · rw [if_neg h10]
theorem rC'_le {f : Nat → Int32} (h : okU f) : rC' f ≤ 7 := by
  have := h.1.2
  unfold rC'
  split <;> omega
theorem rF'_lt {f : Nat → Int32} (h : okU f) : rF' f < 8 := by
  have := h.2.2
  unfold rF'
  split <;> omega
theorem rSl_lt {f : Nat → Int32} : rSl f < 8 := Nat.mod_lt _ (by decide)
theorem rem_s {f : Nat → Int32} (h : okU f) : 170 * ((rem1 f 10 + rem1 f 9) - (rem1 f 10 + rem1 f 9) / 8 * 8) = nI (170 * rSl f) := by
  have e9 : rem1 f 9 = nI (rC' f) := rfl
  have e10 : rem1 f 10 = nI (rF' f) := rfl
  have a1 := rC'_le h
  have a2 := rF'_lt h
  rw [e9, e10, nI_add, show (8 : Int32) = nI 8 from rfl, pk_rem (by omega) (by decide) (by decide), show (170 : Int32) = nI 170 from rfl, pk_mul]
  rfl
theorem rem_e {f : Nat → Int32} : upd (rem1 f) 9 (rem1 f 9 + 1) = remF f := by
  funext j
  unfold upd remF
  by_cases h9 : j = 9
  · rw [if_pos h9, if_pos h9, ← nI_1]; rfl
  · rw [if_neg h9, if_neg h9]
    unfold rem1
    rw [if_neg h9]
theorem rs_in {f : Nat → Int32} {k : Nat} (hk : k < 170) : vp_in (nI (170 * rSl f) + nI k) 1360 ∧ (nI (170 * rSl f) + nI k).toNatClampNeg = 170 * rSl f + k := ix_k (by have := rSl_lt (f := f); omega) (by decide)
set_option maxHeartbeats 4000000 in
set_option maxRecDepth 100000 in
theorem met_X5_minute (l : Launch) (Γ : g_C) (mo : Nat) (ad : Nat → Nat) (f : Nat → Int32) (a : Nat → Nat → Int32) (rr : Nat → UInt32) (ph : g_H)  (hw : WF (a 5)) : g_Met l yX5_minute (ws_ yX5_minute cX5_minute 2 none) (g_rm 3 0 0) Γ [.ref mo] (mG Γ mo ad f a rr ph) (g_ov (fun ph' => ph' = mG Γ mo ad f (va_up a 5 (minW (a 5))) rr ph)) g_no := by
  refine g_start (y := yX5_minute) (cc := cX5_minute) (maxL := 2) (ret := none) (rm := g_rm 3 0 0) (by decide) (Nat.le_of_ble_eq_true rfl) ?_
  intro p e s m A below meth c ls Q hQ S hr hlk hex hnm hK I hl
  have hx := S.1
  have hb := S.2.1
  have hown := S.2.2.2.1
  have hts := S.2.2.2.2
  have S : CallFix p m c cX5_minute 2 s A lw_all "CrumblingWallModel" := S
  have hl : lv_has ls 2 [(0, .ref mo)] := hl
  refine lv_aload_n hx hb dX5_minute_0 rfl (lv_at hl 0 rfl) ?_
  refine g_get S hK I k_X5 (v := .ref (ad 5)) (g_at.of mG_obj) 5 (by decide) q2957 rfl rfl dX5_minute_1 ?_
  refine lv_sipush (v := 140) hx hb dX5_minute_4 (by decide) ?_
  refine lv_dup2_11 hx hb dX5_minute_7 rfl rfl ?_
  refine m_iald S hK I (f := (a 5)) (k := 140) (g_at.of mG_5) (vp_lit (by decide)) (by decide) dX5_minute_8 ?_
  refine lv_iconst (v := 1) hx hb dX5_minute_9 (by decide) ?_
  refine lv_iadd hx hb dX5_minute_10 ?_
  refine m_iast S hK I (f := (a 5)) (k := 140) mG_5 (vp_lit (by decide)) (by decide) dX5_minute_11 (fun H locs I => ?_)
  have I := mI_5 I
  refine lv_iconst (v := 0) hx hb dX5_minute_12 (by decide) ?_
  refine lv_istore_n (lv' := [(1, .int 0), (0, .ref mo)]) hx hb dX5_minute_13 rfl hl (by decide) rfl (fun ls hl => ?_)
  have L_14 : ∀ (d : Nat) (k : Nat), (hk : k ≤ nLa (a 5)) → nLa (a 5) - k < d → ∀ (H : Heap) (locs : List Loc) (ls : Array Slot), g_I Γ (mG Γ mo ad f (va_up a 5 (burnN (incW (a 5) 140) k)) rr ph) s H locs → lv_has ls 2 [(0, .ref mo), (1, .int (nI k))] → W p l e (g_rm 3 0 0) s m A below meth c H locs 0 0 Q (F0 m 14 ls []) := by
    intro d
    induction d with
    | zero => intro k hk hd; exact absurd hd (Nat.not_lt_zero _)
    | succ d ih =>
      intro k hk hd H locs ls I hl
      refine lv_iload_n hx hb dX5_minute_14 rfl (lv_at hl 1 rfl) ?_
      refine lv_aload_n hx hb dX5_minute_15 rfl (lv_at hl 0 rfl) ?_
      refine g_get S hK I k_X5 (v := .ref (ad 5)) (g_at.of mG_obj) 5 (by decide) q2957 rfl rfl dX5_minute_16 ?_
      refine lv_bipush (v := 104) hx hb dX5_minute_19 (by decide) ?_
      refine m_iald S hK I (f := (burnN (incW (a 5) 140) k)) (k := 104) (g_at.of mG_5) (vp_lit (by decide)) (by decide) dX5_minute_21 ?_
      refine lv_icmp_ge (tgt := 81) hx hb dX5_minute_22 (by decide) (fun c_22 => ?_) (fun c_22 => ?_)
      · have n_22 := Int32.not_lt.mpr c_22
        obtain rfl : k = nLa (a 5) := k_ge (by rw [burnN_n (by omega), incW_n (by decide)]; exact hw.2.1.1) (wf_le4 hw) hk c_22
        exact g_vret S hr hlk I dX5_minute_81 (Nat.le_of_ble_eq_true rfl) (Nat.le_of_ble_eq_true rfl) hQ ⟨rfl, rfl⟩
      · have n_22 := Int32.not_le.mp c_22
        have hkl : k < nLa (a 5) := k_lt (by rw [burnN_n (by omega), incW_n (by decide)]; exact hw.2.1.1) (wf_le4 hw) hk c_22
        have hk4 : k < 4 := Nat.lt_of_lt_of_le hkl hw.2.1.2
        refine lv_aload_n hx hb dX5_minute_25 rfl (lv_at hl 0 rfl) ?_
        refine lv_iload_n hx hb dX5_minute_26 rfl (lv_at hl 1 rfl) ?_
        refine lv_iconst (v := 4) hx hb dX5_minute_27 (by decide) ?_
        refine g_ci (g_runV S hK I (As := [.int (nI k), .int 4]) (rest := []) (met_X5_ofLamp l Γ mo ad f (va_up a 5 (burnN (incW (a 5) 140) k)) rr ph (nI k) 4 (vp_in_nI hk4 (by decide)) (vp_lit (by decide))) (cwV 2 hts (lw_V q3130 q3132 qs66 q151 q3133) rfl rfl rfl (by decide +kernel) ⟨Nat.le_of_ble_eq_true rfl, Nat.le_of_ble_eq_true rfl⟩) (g_recv hK I (g_at.of mG_obj) (ci := 4) rfl) rfl hl.1 rfl (Nat.le_of_ble_eq_true rfl) dX5_minute_28 ⟨Nat.le_of_ble_eq_true rfl, Nat.le_of_ble_eq_true rfl⟩) I (fun r_28 ph1 H locs hp I => ?_)
        obtain ⟨hp, rfl⟩ := hp
        have hp : r_28 = lX (burnN (incW (a 5) 140) k) (nI k) 4 := hp
        subst hp
        refine lv_if_ne (tgt := 37) hx hb dX5_minute_31 (by decide) (fun c_31 => ?_) (fun c_31 => ?_)
        · refine lv_aload_n hx hb dX5_minute_37 rfl (lv_at hl 0 rfl) ?_
          refine g_get S hK I k_X5 (v := .ref (ad 5)) (g_at.of mG_obj) 5 (by decide) q2957 rfl rfl dX5_minute_38 ?_
          refine lv_iload_n hx hb dX5_minute_41 rfl (lv_at hl 1 rfl) ?_
          refine lv_iconst (v := 3) hx hb dX5_minute_42 (by decide) ?_
          refine g_ci (g_runS S hK I (As := [.int (nI k), .int 3]) (rest := [.ref (ad 5)]) (met_X5_atLamp l Γ (mG Γ mo ad f (va_up a 5 (burnN (incW (a 5) 140) k)) rr ph) (nI k) 3) (va_cwS 2 hts (lw_S q3134 q3135 q151 q3136) rfl rfl rfl (by decide +kernel) ⟨Nat.le_of_ble_eq_true rfl, Nat.le_of_ble_eq_true rfl⟩) rfl hl.1 rfl (Nat.le_of_ble_eq_true rfl) dX5_minute_43 ⟨Nat.le_of_ble_eq_true rfl, Nat.le_of_ble_eq_true rfl⟩) I (fun r_43 ph1 H locs hp I => ?_)
          obtain ⟨hp, rfl⟩ := hp
          have hp : r_43 = 105 + 5 * (nI k) + 3 := hp
          subst hp
          refine lv_dup2_11 hx hb dX5_minute_46 rfl rfl ?_
          refine m_iald S hK I (f := (burnN (incW (a 5) 140) k)) (k := (105 + 5 * k + 3)) (g_at.of mG_5) (ix_lk (t := 3) hk4 (by decide)).1 (ix_lk (t := 3) hk4 (by decide)).2 dX5_minute_47 ?_
          refine lv_iconst (v := 1) hx hb dX5_minute_48 (by decide) ?_
          refine lv_isub hx hb dX5_minute_49 ?_
          refine m_iast S hK I (f := (burnN (incW (a 5) 140) k)) (k := (105 + 5 * k + 3)) mG_5 (ix_lk (t := 3) hk4 (by decide)).1 (ix_lk (t := 3) hk4 (by decide)).2 dX5_minute_50 (fun H locs I => ?_)
          have I := mI_5 I
          rw [bx_uu] at I
          refine lv_aload_n hx hb dX5_minute_51 rfl (lv_at hl 0 rfl) ?_
          refine g_get S hK I k_X5 (v := .ref (ad 5)) (g_at.of mG_obj) 5 (by decide) q2957 rfl rfl dX5_minute_52 ?_
          refine lv_iload_n hx hb dX5_minute_55 rfl (lv_at hl 1 rfl) ?_
          refine lv_iconst (v := 4) hx hb dX5_minute_56 (by decide) ?_
          refine g_ci (g_runS S hK I (As := [.int (nI k), .int 4]) (rest := [.ref (ad 5)]) (met_X5_atLamp l Γ (mG Γ mo ad f (va_up a 5 (upd (burnN (incW (a 5) 140) k) (105 + 5 * k + 3) (((burnN (incW (a 5) 140) k) (105 + 5 * k + 3)) - 1))) rr ph) (nI k) 4) (va_cwS 2 hts (lw_S q3134 q3135 q151 q3136) rfl rfl rfl (by decide +kernel) ⟨Nat.le_of_ble_eq_true rfl, Nat.le_of_ble_eq_true rfl⟩) rfl hl.1 rfl (Nat.le_of_ble_eq_true rfl) dX5_minute_57 ⟨Nat.le_of_ble_eq_true rfl, Nat.le_of_ble_eq_true rfl⟩) I (fun r_57 ph1 H locs hp I => ?_)
          obtain ⟨hp, rfl⟩ := hp
          have hp : r_57 = 105 + 5 * (nI k) + 4 := hp
          subst hp
          refine lv_aload_n hx hb dX5_minute_60 rfl (lv_at hl 0 rfl) ?_
          refine lv_iload_n hx hb dX5_minute_61 rfl (lv_at hl 1 rfl) ?_
          refine lv_iconst (v := 3) hx hb dX5_minute_62 (by decide) ?_
          refine g_ci (g_runV S hK I (As := [.int (nI k), .int 3]) (rest := [.int (105 + 5 * (nI k) + 4), .ref (ad 5)]) (met_X5_ofLamp l Γ mo ad f (va_up a 5 (upd (burnN (incW (a 5) 140) k) (105 + 5 * k + 3) (((burnN (incW (a 5) 140) k) (105 + 5 * k + 3)) - 1))) rr ph (nI k) 3 (vp_in_nI hk4 (by decide)) (vp_lit (by decide))) (cwV 2 hts (lw_V q3130 q3132 qs66 q151 q3133) rfl rfl rfl (by decide +kernel) ⟨Nat.le_of_ble_eq_true rfl, Nat.le_of_ble_eq_true rfl⟩) (g_recv hK I (g_at.of mG_obj) (ci := 4) rfl) rfl hl.1 rfl (Nat.le_of_ble_eq_true rfl) dX5_minute_63 ⟨Nat.le_of_ble_eq_true rfl, Nat.le_of_ble_eq_true rfl⟩) I (fun r_63 ph1 H locs hp I => ?_)
          obtain ⟨hp, rfl⟩ := hp
          have hp : r_63 = lX (upd (burnN (incW (a 5) 140) k) (105 + 5 * k + 3) (((burnN (incW (a 5) 140) k) (105 + 5 * k + 3)) - 1)) (nI k) 3 := hp
          subst hp
          have J_74_0 : ∀ (x1 : Int32) (H : Heap) (locs : List Loc) (ls : Array Slot), (hx1 : x1 = (if 0 < (burnN (incW (a 5) 140) k) (105 + 5 * k + 3) - 1 then 1 else 0)) → g_I Γ (mG Γ mo ad f (va_up a 5 (upd (burnN (incW (a 5) 140) k) (105 + 5 * k + 3) (((burnN (incW (a 5) 140) k) (105 + 5 * k + 3)) - 1))) rr ph) s H locs → lv_has ls 2 [(0, .ref mo), (1, .int (nI k))] → W p l e (g_rm 3 0 0) s m A below meth c H locs 0 0 Q (F0 m 74 ls [.int x1, .int (105 + 5 * (nI k) + 4), .ref (ad 5)]) := by
            intro x1 H locs ls hx1 I hl
            refine m_iast S hK I (f := (upd (burnN (incW (a 5) 140) k) (105 + 5 * k + 3) (((burnN (incW (a 5) 140) k) (105 + 5 * k + 3)) - 1))) (k := (105 + 5 * k + 4)) mG_5 (ix_lk (t := 4) hk4 (by decide)).1 (ix_lk (t := 4) hk4 (by decide)).2 dX5_minute_74 (fun H locs I => ?_)
            have I := mI_5 I
            rw [bx_uu] at I
            have I := mI_ea I (show (va_up a 5 (upd (upd (burnN (incW (a 5) 140) k) (105 + 5 * k + 3) (((burnN (incW (a 5) 140) k) (105 + 5 * k + 3)) - 1)) (105 + 5 * k + 4) x1)) = (va_up a 5 (burnN (incW (a 5) 140) (k + 1))) from congrArg (va_up _ 5) ((burnN_do (fun q => c_31 ((lX_k hk4).trans q)) hx1).symm))
            refine lv_iinc (v := nI (k + 1)) (lv' := [(1, .int (nI (k + 1))), (0, .ref mo)]) hx hb dX5_minute_75 hl (k := 1) rfl (nI_1 k) (by decide) rfl (fun ls hl => ?_)
            refine lv_goto (tgt := 14) hx hb dX5_minute_78 (by decide) ?_
            exact ih (k + 1) hkl (by omega) _ _ _ I (lv_sub hl [1, 0] rfl)
          refine lv_if_le (tgt := 73) hx hb dX5_minute_66 (by decide) (fun c_66 => ?_) (fun c_66 => ?_)
          · have n_66 := Int32.not_lt.mpr c_66
            refine lv_iconst (v := 0) hx hb dX5_minute_73 (by decide) ?_
            exact J_74_0 0 _ _ _ (by have q : lX (upd (burnN (incW (a 5) 140) k) (105 + 5 * k + 3) ((burnN (incW (a 5) 140) k) (105 + 5 * k + 3) - 1)) (nI k) 3 = (burnN (incW (a 5) 140) k) (105 + 5 * k + 3) - 1 := (lX_k hk4).trans (upd_s _ _ _); have c := c_66; rw [show lX _ (nI k) 3 = _ from q] at c; simp [c]) I (lv_sub hl [0, 1] rfl)
          · have n_66 := Int32.not_le.mp c_66
            refine lv_iconst (v := 1) hx hb dX5_minute_69 (by decide) ?_
            refine lv_goto (tgt := 74) hx hb dX5_minute_70 (by decide) ?_
            exact J_74_0 1 _ _ _ (by have q : lX (upd (burnN (incW (a 5) 140) k) (105 + 5 * k + 3) ((burnN (incW (a 5) 140) k) (105 + 5 * k + 3) - 1)) (nI k) 3 = (burnN (incW (a 5) 140) k) (105 + 5 * k + 3) - 1 := (lX_k hk4).trans (upd_s _ _ _); have c := c_66; rw [show lX _ (nI k) 3 = _ from q] at c; simp [c]) I (lv_sub hl [0, 1] rfl)
        · refine lv_goto (tgt := 75) hx hb dX5_minute_34 (by decide) ?_
          have I := mI_ea I (show (va_up a 5 (burnN (incW (a 5) 140) k)) = (va_up a 5 (burnN (incW (a 5) 140) (k + 1))) from congrArg (va_up _ 5) ((burnN_skip ((lX_k hk4).symm.trans c_31)).symm))
          refine lv_iinc (v := nI (k + 1)) (lv' := [(1, .int (nI (k + 1))), (0, .ref mo)]) hx hb dX5_minute_75 hl (k := 1) rfl (nI_1 k) (by decide) rfl (fun ls hl => ?_)
          refine lv_goto (tgt := 14) hx hb dX5_minute_78 (by decide) ?_
          exact ih (k + 1) hkl (by omega) _ _ _ I (lv_sub hl [1, 0] rfl)
  exact L_14 _ 0 (Nat.zero_le _) (Nat.lt_succ_self _) _ _ _ I (lv_sub hl [1, 0] rfl)

set_option maxHeartbeats 4000000 in
set_option maxRecDepth 100000 in
theorem met_X5_toGround (l : Launch) (Γ : g_C) (mo : Nat) (ad : Nat → Nat) (f : Nat → Int32) (a : Nat → Nat → Int32) (rr : Nat → UInt32) (ph : g_H) (p0 : Int32) (hw : WF (a 5)) (h0 : vp_in p0 2) : g_Met l yX5_toGround (ws_ yX5_toGround cX5_toGround 3 none) (g_rm 3 0 0) Γ [.ref mo, .int p0] (mG Γ mo ad f a rr ph) (g_ov (fun ph' => ph' = mG Γ mo ad f (va_up a 5 (toGr (a 5) p0)) rr ph)) g_no := by
  refine g_start (y := yX5_toGround) (cc := cX5_toGround) (maxL := 3) (ret := none) (rm := g_rm 3 0 0) (by decide) (Nat.le_of_ble_eq_true rfl) ?_
  intro p e s m A below meth c ls Q hQ S hr hlk hex hnm hK I hl
  have hx := S.1
  have hb := S.2.1
  have hown := S.2.2.2.1
  have hts := S.2.2.2.2
  have S : CallFix p m c cX5_toGround 3 s A lw_all "CrumblingWallModel" := S
  have hl : lv_has ls 3 [(0, .ref mo), (1, .int p0)] := hl
  refine lv_iconst (v := 0) hx hb dX5_toGround_0 (by decide) ?_
  refine lv_istore_n (lv' := [(2, .int 0), (0, .ref mo), (1, .int p0)]) hx hb dX5_toGround_1 rfl hl (by decide) rfl (fun ls hl => ?_)
  have I := mI_ea I (va_upI a 5 (v := dropCN (a 5) p0 0) rfl).symm
  have L_2 : ∀ (d : Nat) (k : Nat), (hk : k ≤ nLa (a 5)) → nLa (a 5) - k < d → ∀ (H : Heap) (locs : List Loc) (ls : Array Slot), g_I Γ (mG Γ mo ad f (va_up a 5 (dropCN (a 5) p0 k)) rr ph) s H locs → lv_has ls 3 [(0, .ref mo), (1, .int p0), (2, .int (nI k))] → W p l e (g_rm 3 0 0) s m A below meth c H locs 0 0 Q (F0 m 2 ls []) := by
    intro d
    induction d with
    | zero => intro k hk hd; exact absurd hd (Nat.not_lt_zero _)
    | succ d ih =>
      intro k hk hd H locs ls I hl
      refine lv_iload_n hx hb dX5_toGround_2 rfl (lv_at hl 2 rfl) ?_
      refine lv_aload_n hx hb dX5_toGround_3 rfl (lv_at hl 0 rfl) ?_
      refine g_get S hK I k_X5 (v := .ref (ad 5)) (g_at.of mG_obj) 5 (by decide) q2957 rfl rfl dX5_toGround_4 ?_
      refine lv_bipush (v := 104) hx hb dX5_toGround_7 (by decide) ?_
      refine m_iald S hK I (f := (dropCN (a 5) p0 k)) (k := 104) (g_at.of mG_5) (vp_lit (by decide)) (by decide) dX5_toGround_9 ?_
      refine lv_icmp_ge (tgt := 65) hx hb dX5_toGround_10 (by decide) (fun c_10 => ?_) (fun c_10 => ?_)
      · have n_10 := Int32.not_lt.mpr c_10
        obtain rfl : k = nLa (a 5) := k_ge (by rw [dropCN_n (by omega)]; exact hw.2.1.1) (wf_le4 hw) hk c_10
        refine lv_aload_n hx hb dX5_toGround_65 rfl (lv_at hl 0 rfl) ?_
        refine lv_iload_n hx hb dX5_toGround_66 rfl (lv_at hl 1 rfl) ?_
        refine lv_iconst (v := 0) hx hb dX5_toGround_67 (by decide) ?_
        refine lv_iconst (v := (-1)) hx hb dX5_toGround_68 (by decide) ?_
        refine g_cv (g_runV S hK I (As := [.int p0, .int 0, .int (-1)]) (rest := []) (met_X5_setClimber l Γ mo ad f (va_up a 5 (dropCN (a 5) p0 (nLa (a 5)))) rr ph p0 0 (-1) h0 (vp_lit (by decide))) (cwV 3 hts (lw_V q3247 q3249 qs83 q151 q3250) rfl rfl rfl (by decide +kernel) ⟨Nat.le_of_ble_eq_true rfl, Nat.le_of_ble_eq_true rfl⟩) (g_recv hK I (g_at.of mG_obj) (ci := 4) rfl) rfl hl.1 rfl (Nat.le_of_ble_eq_true rfl) dX5_toGround_69 ⟨Nat.le_of_ble_eq_true rfl, Nat.le_of_ble_eq_true rfl⟩) I (fun ph1 H locs hp I => ?_)
        subst hp
        rw [bx_uu] at I
        have I : g_I Γ (mG Γ mo ad f (va_up a 5 (setC (dropCN (a 5) p0 (nLa (a 5))) p0 0 (-1))) rr ph) s H locs := I
        refine lv_aload_n hx hb dX5_toGround_72 rfl (lv_at hl 0 rfl) ?_
        refine lv_iload_n hx hb dX5_toGround_73 rfl (lv_at hl 1 rfl) ?_
        refine lv_iconst (v := 1) hx hb dX5_toGround_74 (by decide) ?_
        refine lv_iconst (v := 2) hx hb dX5_toGround_75 (by decide) ?_
        refine g_cv (g_runV S hK I (As := [.int p0, .int 1, .int 2]) (rest := []) (met_X5_setClimber l Γ mo ad f (va_up a 5 (setC (dropCN (a 5) p0 (nLa (a 5))) p0 0 (-1))) rr ph p0 1 2 h0 (vp_lit (by decide))) (cwV 3 hts (lw_V q3247 q3249 qs83 q151 q3250) rfl rfl rfl (by decide +kernel) ⟨Nat.le_of_ble_eq_true rfl, Nat.le_of_ble_eq_true rfl⟩) (g_recv hK I (g_at.of mG_obj) (ci := 4) rfl) rfl hl.1 rfl (Nat.le_of_ble_eq_true rfl) dX5_toGround_76 ⟨Nat.le_of_ble_eq_true rfl, Nat.le_of_ble_eq_true rfl⟩) I (fun ph1 H locs hp I => ?_)
        subst hp
        rw [bx_uu] at I
        have I : g_I Γ (mG Γ mo ad f (va_up a 5 (setC (setC (dropCN (a 5) p0 (nLa (a 5))) p0 0 (-1)) p0 1 2)) rr ph) s H locs := I
        refine lv_aload_n hx hb dX5_toGround_79 rfl (lv_at hl 0 rfl) ?_
        refine g_get S hK I k_X5 (v := .ref (ad 5)) (g_at.of mG_obj) 5 (by decide) q2957 rfl rfl dX5_toGround_80 ?_
        refine lv_sipush (v := 144) hx hb dX5_toGround_83 (by decide) ?_
        refine lv_dup2_11 hx hb dX5_toGround_86 rfl rfl ?_
        refine m_iald S hK I (f := (setC (setC (dropCN (a 5) p0 (nLa (a 5))) p0 0 (-1)) p0 1 2)) (k := 144) (g_at.of mG_5) (vp_lit (by decide)) (by decide) dX5_toGround_87 ?_
        refine lv_iconst (v := 1) hx hb dX5_toGround_88 (by decide) ?_
        refine lv_iadd hx hb dX5_toGround_89 ?_
        refine m_iast S hK I (f := (setC (setC (dropCN (a 5) p0 (nLa (a 5))) p0 0 (-1)) p0 1 2)) (k := 144) mG_5 (vp_lit (by decide)) (by decide) dX5_toGround_90 (fun H locs I => ?_)
        have I := mI_5 I
        rw [bx_uu] at I
        exact g_vret S hr hlk I dX5_toGround_91 (Nat.le_of_ble_eq_true rfl) (Nat.le_of_ble_eq_true rfl) hQ ⟨rfl, rfl⟩
      · have n_10 := Int32.not_le.mp c_10
        have hkl : k < nLa (a 5) := k_lt (by rw [dropCN_n (by omega)]; exact hw.2.1.1) (wf_le4 hw) hk c_10
        have hk4 : k < 4 := Nat.lt_of_lt_of_le hkl hw.2.1.2
        refine lv_aload_n hx hb dX5_toGround_13 rfl (lv_at hl 0 rfl) ?_
        refine lv_iload_n hx hb dX5_toGround_14 rfl (lv_at hl 2 rfl) ?_
        refine lv_iconst (v := 1) hx hb dX5_toGround_15 (by decide) ?_
        refine g_ci (g_runV S hK I (As := [.int (nI k), .int 1]) (rest := []) (met_X5_ofLamp l Γ mo ad f (va_up a 5 (dropCN (a 5) p0 k)) rr ph (nI k) 1 (vp_in_nI hk4 (by decide)) (vp_lit (by decide))) (cwV 2 hts (lw_V q3130 q3132 qs66 q151 q3133) rfl rfl rfl (by decide +kernel) ⟨Nat.le_of_ble_eq_true rfl, Nat.le_of_ble_eq_true rfl⟩) (g_recv hK I (g_at.of mG_obj) (ci := 4) rfl) rfl hl.1 rfl (Nat.le_of_ble_eq_true rfl) dX5_toGround_16 ⟨Nat.le_of_ble_eq_true rfl, Nat.le_of_ble_eq_true rfl⟩) I (fun r_16 ph1 H locs hp I => ?_)
        obtain ⟨hp, rfl⟩ := hp
        have hp : r_16 = lX (dropCN (a 5) p0 k) (nI k) 1 := hp
        subst hp
        refine lv_iload_n hx hb dX5_toGround_19 rfl (lv_at hl 1 rfl) ?_
        refine lv_icmp_eq (tgt := 26) hx hb dX5_toGround_20 (by decide) (fun c_20 => ?_) (fun c_20 => ?_)
        · refine lv_aload_n hx hb dX5_toGround_26 rfl (lv_at hl 0 rfl) ?_
          refine g_get S hK I k_X5 (v := .ref (ad 5)) (g_at.of mG_obj) 5 (by decide) q2957 rfl rfl dX5_toGround_27 ?_
          refine lv_iload_n hx hb dX5_toGround_30 rfl (lv_at hl 2 rfl) ?_
          refine lv_iconst (v := 1) hx hb dX5_toGround_31 (by decide) ?_
          refine g_ci (g_runS S hK I (As := [.int (nI k), .int 1]) (rest := [.ref (ad 5)]) (met_X5_atLamp l Γ (mG Γ mo ad f (va_up a 5 (dropCN (a 5) p0 k)) rr ph) (nI k) 1) (va_cwS 2 hts (lw_S q3134 q3135 q151 q3136) rfl rfl rfl (by decide +kernel) ⟨Nat.le_of_ble_eq_true rfl, Nat.le_of_ble_eq_true rfl⟩) rfl hl.1 rfl (Nat.le_of_ble_eq_true rfl) dX5_toGround_32 ⟨Nat.le_of_ble_eq_true rfl, Nat.le_of_ble_eq_true rfl⟩) I (fun r_32 ph1 H locs hp I => ?_)
          obtain ⟨hp, rfl⟩ := hp
          have hp : r_32 = 105 + 5 * (nI k) + 1 := hp
          subst hp
          refine lv_iconst (v := (-1)) hx hb dX5_toGround_35 (by decide) ?_
          refine m_iast S hK I (f := (dropCN (a 5) p0 k)) (k := (105 + 5 * k + 1)) mG_5 (ix_lk (t := 1) hk4 (by decide)).1 (ix_lk (t := 1) hk4 (by decide)).2 dX5_toGround_36 (fun H locs I => ?_)
          have I := mI_5 I
          rw [bx_uu] at I
          refine lv_aload_n hx hb dX5_toGround_37 rfl (lv_at hl 0 rfl) ?_
          refine g_get S hK I k_X5 (v := .ref (ad 5)) (g_at.of mG_obj) 5 (by decide) q2957 rfl rfl dX5_toGround_38 ?_
          refine lv_iload_n hx hb dX5_toGround_41 rfl (lv_at hl 2 rfl) ?_
          refine lv_iconst (v := 0) hx hb dX5_toGround_42 (by decide) ?_
          refine g_ci (g_runS S hK I (As := [.int (nI k), .int 0]) (rest := [.ref (ad 5)]) (met_X5_atLamp l Γ (mG Γ mo ad f (va_up a 5 (upd (dropCN (a 5) p0 k) (105 + 5 * k + 1) (-1))) rr ph) (nI k) 0) (va_cwS 2 hts (lw_S q3134 q3135 q151 q3136) rfl rfl rfl (by decide +kernel) ⟨Nat.le_of_ble_eq_true rfl, Nat.le_of_ble_eq_true rfl⟩) rfl hl.1 rfl (Nat.le_of_ble_eq_true rfl) dX5_toGround_43 ⟨Nat.le_of_ble_eq_true rfl, Nat.le_of_ble_eq_true rfl⟩) I (fun r_43 ph1 H locs hp I => ?_)
          obtain ⟨hp, rfl⟩ := hp
          have hp : r_43 = 105 + 5 * (nI k) + 0 := hp
          subst hp
          refine lv_iconst (v := (-1)) hx hb dX5_toGround_46 (by decide) ?_
          refine m_iast S hK I (f := (upd (dropCN (a 5) p0 k) (105 + 5 * k + 1) (-1))) (k := (105 + 5 * k)) mG_5 (ix_lk (t := 0) hk4 (by decide)).1 (ix_lk (t := 0) hk4 (by decide)).2 dX5_toGround_47 (fun H locs I => ?_)
          have I := mI_5 I
          rw [bx_uu] at I
          refine lv_aload_n hx hb dX5_toGround_48 rfl (lv_at hl 0 rfl) ?_
          refine g_get S hK I k_X5 (v := .ref (ad 5)) (g_at.of mG_obj) 5 (by decide) q2957 rfl rfl dX5_toGround_49 ?_
          refine lv_iload_n hx hb dX5_toGround_52 rfl (lv_at hl 2 rfl) ?_
          refine lv_iconst (v := 4) hx hb dX5_toGround_53 (by decide) ?_
          refine g_ci (g_runS S hK I (As := [.int (nI k), .int 4]) (rest := [.ref (ad 5)]) (met_X5_atLamp l Γ (mG Γ mo ad f (va_up a 5 (upd (upd (dropCN (a 5) p0 k) (105 + 5 * k + 1) (-1)) (105 + 5 * k) (-1))) rr ph) (nI k) 4) (va_cwS 2 hts (lw_S q3134 q3135 q151 q3136) rfl rfl rfl (by decide +kernel) ⟨Nat.le_of_ble_eq_true rfl, Nat.le_of_ble_eq_true rfl⟩) rfl hl.1 rfl (Nat.le_of_ble_eq_true rfl) dX5_toGround_54 ⟨Nat.le_of_ble_eq_true rfl, Nat.le_of_ble_eq_true rfl⟩) I (fun r_54 ph1 H locs hp I => ?_)
          obtain ⟨hp, rfl⟩ := hp
          have hp : r_54 = 105 + 5 * (nI k) + 4 := hp
          subst hp
          refine lv_iconst (v := 0) hx hb dX5_toGround_57 (by decide) ?_
          refine m_iast S hK I (f := (upd (upd (dropCN (a 5) p0 k) (105 + 5 * k + 1) (-1)) (105 + 5 * k) (-1))) (k := (105 + 5 * k + 4)) mG_5 (ix_lk (t := 4) hk4 (by decide)).1 (ix_lk (t := 4) hk4 (by decide)).2 dX5_toGround_58 (fun H locs I => ?_)
          have I := mI_5 I
          rw [bx_uu] at I
          have I := mI_ea I (show (va_up a 5 (upd (upd (upd (dropCN (a 5) p0 k) (105 + 5 * k + 1) (-1)) (105 + 5 * k) (-1)) (105 + 5 * k + 4) 0)) = (va_up a 5 (dropCN (a 5) p0 (k + 1))) from congrArg (va_up _ 5) ((if_pos ((lX_k hk4).symm.trans c_20)).symm))
          refine lv_iinc (v := nI (k + 1)) (lv' := [(2, .int (nI (k + 1))), (0, .ref mo), (1, .int p0)]) hx hb dX5_toGround_59 hl (k := 2) rfl (nI_1 k) (by decide) rfl (fun ls hl => ?_)
          refine lv_goto (tgt := 2) hx hb dX5_toGround_62 (by decide) ?_
          exact ih (k + 1) hkl (by omega) _ _ _ I (lv_sub hl [1, 2, 0] rfl)
        · refine lv_goto (tgt := 59) hx hb dX5_toGround_23 (by decide) ?_
          have I := mI_ea I (show (va_up a 5 (dropCN (a 5) p0 k)) = (va_up a 5 (dropCN (a 5) p0 (k + 1))) from congrArg (va_up _ 5) ((if_neg (fun q => c_20 ((lX_k hk4).trans q))).symm))
          refine lv_iinc (v := nI (k + 1)) (lv' := [(2, .int (nI (k + 1))), (0, .ref mo), (1, .int p0)]) hx hb dX5_toGround_59 hl (k := 2) rfl (nI_1 k) (by decide) rfl (fun ls hl => ?_)
          refine lv_goto (tgt := 2) hx hb dX5_toGround_62 (by decide) ?_
          exact ih (k + 1) hkl (by omega) _ _ _ I (lv_sub hl [1, 2, 0] rfl)
  exact L_2 _ 0 (Nat.zero_le _) (Nat.lt_succ_self _) _ _ _ I (lv_sub hl [1, 2, 0] rfl)

set_option maxHeartbeats 4000000 in
set_option maxRecDepth 100000 in
theorem met_X5_hangs (l : Launch) (Γ : g_C) (mo : Nat) (ad : Nat → Nat) (f : Nat → Int32) (a : Nat → Nat → Int32) (rr : Nat → UInt32) (ph : g_H) (p0 : Int32) (p1 : Int32) (h0 : vp_in p0 2) : g_Met l yX5_hangs (ws_ yX5_hangs cX5_hangs 3 none) (g_rm 2 0 0) Γ [.ref mo, .int p0, .int p1] (mG Γ mo ad f a rr ph) (g_ov (fun ph' => ph' = mG Γ mo ad f (va_up a 5 (hangW (a 5) p0 p1)) rr ph)) g_no := by
  refine g_start (y := yX5_hangs) (cc := cX5_hangs) (maxL := 3) (ret := none) (rm := g_rm 2 0 0) (by decide) (Nat.le_of_ble_eq_true rfl) ?_
  intro p e s m A below meth c ls Q hQ S hr hlk hex hnm hK I hl
  have hx := S.1
  have hb := S.2.1
  have hown := S.2.2.2.1
  have hts := S.2.2.2.2
  have S : CallFix p m c cX5_hangs 3 s A lw_all "CrumblingWallModel" := S
  have hl : lv_has ls 3 [(0, .ref mo), (1, .int p0), (2, .int p1)] := hl
  refine lv_aload_n hx hb dX5_hangs_0 rfl (lv_at hl 0 rfl) ?_
  refine lv_iload_n hx hb dX5_hangs_1 rfl (lv_at hl 1 rfl) ?_
  refine lv_iconst (v := 0) hx hb dX5_hangs_2 (by decide) ?_
  refine lv_iload_n hx hb dX5_hangs_3 rfl (lv_at hl 2 rfl) ?_
  refine g_cv (g_runV S hK I (As := [.int p0, .int 0, .int p1]) (rest := []) (met_X5_setClimber l Γ mo ad f a rr ph p0 0 p1 h0 (vp_lit (by decide))) (cwV 3 hts (lw_V q3247 q3249 qs83 q151 q3250) rfl rfl rfl (by decide +kernel) ⟨Nat.le_of_ble_eq_true rfl, Nat.le_of_ble_eq_true rfl⟩) (g_recv hK I (g_at.of mG_obj) (ci := 4) rfl) rfl hl.1 rfl (Nat.le_of_ble_eq_true rfl) dX5_hangs_4 ⟨Nat.le_of_ble_eq_true rfl, Nat.le_of_ble_eq_true rfl⟩) I (fun ph1 H locs hp I => ?_)
  subst hp
  have I : g_I Γ (mG Γ mo ad f (va_up a 5 (setC (a 5) p0 0 p1)) rr ph) s H locs := I
  refine lv_aload_n hx hb dX5_hangs_7 rfl (lv_at hl 0 rfl) ?_
  refine lv_iload_n hx hb dX5_hangs_8 rfl (lv_at hl 1 rfl) ?_
  refine lv_iconst (v := 1) hx hb dX5_hangs_9 (by decide) ?_
  refine lv_iconst (v := 1) hx hb dX5_hangs_10 (by decide) ?_
  refine g_cv (g_runV S hK I (As := [.int p0, .int 1, .int 1]) (rest := []) (met_X5_setClimber l Γ mo ad f (va_up a 5 (setC (a 5) p0 0 p1)) rr ph p0 1 1 h0 (vp_lit (by decide))) (cwV 3 hts (lw_V q3247 q3249 qs83 q151 q3250) rfl rfl rfl (by decide +kernel) ⟨Nat.le_of_ble_eq_true rfl, Nat.le_of_ble_eq_true rfl⟩) (g_recv hK I (g_at.of mG_obj) (ci := 4) rfl) rfl hl.1 rfl (Nat.le_of_ble_eq_true rfl) dX5_hangs_11 ⟨Nat.le_of_ble_eq_true rfl, Nat.le_of_ble_eq_true rfl⟩) I (fun ph1 H locs hp I => ?_)
  subst hp
  rw [bx_uu] at I
  have I : g_I Γ (mG Γ mo ad f (va_up a 5 (setC (setC (a 5) p0 0 p1) p0 1 1)) rr ph) s H locs := I
  refine lv_aload_n hx hb dX5_hangs_14 rfl (lv_at hl 0 rfl) ?_
  refine g_get S hK I k_X5 (v := .ref (ad 5)) (g_at.of mG_obj) 5 (by decide) q2957 rfl rfl dX5_hangs_15 ?_
  refine lv_sipush (v := 143) hx hb dX5_hangs_18 (by decide) ?_
  refine lv_dup2_11 hx hb dX5_hangs_21 rfl rfl ?_
  refine m_iald S hK I (f := (setC (setC (a 5) p0 0 p1) p0 1 1)) (k := 143) (g_at.of mG_5) (vp_lit (by decide)) (by decide) dX5_hangs_22 ?_
  refine lv_iconst (v := 1) hx hb dX5_hangs_23 (by decide) ?_
  refine lv_iadd hx hb dX5_hangs_24 ?_
  refine m_iast S hK I (f := (setC (setC (a 5) p0 0 p1) p0 1 1)) (k := 143) mG_5 (vp_lit (by decide)) (by decide) dX5_hangs_25 (fun H locs I => ?_)
  have I := mI_5 I
  rw [bx_uu] at I
  exact g_vret S hr hlk I dX5_hangs_26 (Nat.le_of_ble_eq_true rfl) (Nat.le_of_ble_eq_true rfl) hQ ⟨rfl, rfl⟩


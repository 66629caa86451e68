/-! THE REFERENCE: text, reasons, accounts, undo, the snapshot -/
set_option maxRecDepth 100000
def tL (f : Nat → Int32) : Nat := (f 25).toNatClampNeg
def tA (f : Nat → Int32) : Nat := (f 26).toNatClampNeg
def tS (f : Nat → Int32) : Nat := (f 27).toNatClampNeg
def okL (f : Nat → Int32) : Prop := f 25 = nI (tL f) ∧ tL f ≤ 60
def chr (x : Int32) : Int32 := vp_nar .char x
theorem ap_ix {f : Nat → Int32} (h : okL f) (hn : ¬ f 25 = 60) : vp_in (f 25) 60 := by
  rw [h.1]
  refine vp_in_nI ?_ (by decide)
  rcases Nat.lt_or_ge (tL f) 60 with q | q
  · exact q
  · exact absurd (by rw [h.1, show tL f = 60 by have := h.2; omega]; rfl) hn
set_option maxHeartbeats 4000000 in
set_option maxRecDepth 100000 in
theorem met_X5_append (l : Launch) (Γ : g_C) (mo : Nat) (ad : Nat → Nat) (f : Nat → Int32) (a : Nat → Nat → Int32) (rr : Nat → UInt32) (ph : g_H) (p0 : Int32) (hL : okL f) : g_Met l yX5_append (ws_ yX5_append cX5_append 2 (some .int)) (g_rm 2 0 0) Γ [.ref mo, .int p0] (mG Γ mo ad f a rr ph) (g_oi (fun v ph' => v = (if f 25 = 60 then 0 else f 25 + 1) ∧ ph' = mG Γ mo ad (if f 25 = 60 then upd f 0 1 else upd (upd f 0 0) 25 (f 25 + 1)) (if f 25 = 60 then a else va_up a 21 (upd (a 21) (tL f) (chr p0))) rr ph)) g_no := by
  refine g_start (y := yX5_append) (cc := cX5_append) (maxL := 2) (ret := (some .int)) (rm := g_rm 2 0 0) (by decide) (Nat.le_of_ble_eq_true rfl) ?_
  intro p e s m A below meth c ls Q hQ S hr hlk hex hnm hK I hl
  have hx := S.1
  have hb := S.2.1
  have hown := S.2.2.2.1
  have hts := S.2.2.2.2
  have S : CallFix p m c cX5_append 2 s A lw_all "CrumblingWallModel" := S
  have hl : lv_has ls 2 [(0, .ref mo), (1, .int p0)] := hl
  refine lv_aload_n hx hb dX5_append_0 rfl (lv_at hl 0 rfl) ?_
  refine g_get S hK I k_X5 (v := .int (f 25)) (g_at.of mG_obj) 25 (by decide) q2977 rfl rfl dX5_append_1 ?_
  refine lv_bipush (v := 60) hx hb dX5_append_4 (by decide) ?_
  refine lv_icmp_ne (tgt := 15) hx hb dX5_append_6 (by decide) (fun c_6 => ?_) (fun c_6 => ?_)
  · refine lv_aload_n hx hb dX5_append_15 rfl (lv_at hl 0 rfl) ?_
    refine lv_iconst (v := 0) hx hb dX5_append_16 (by decide) ?_
    refine g_put S hK I k_X5 (v := .int 0) mG_obj 0 (by decide) q2952 rfl rfl rfl rfl (Nat.le_of_ble_eq_true rfl) dX5_append_17 (fun H locs I => ?_)
    have I := mI_f (f' := (upd f 0 0)) I rfl
    refine lv_aload_n hx hb dX5_append_20 rfl (lv_at hl 0 rfl) ?_
    refine g_get S hK I k_X5 (v := .ref (ad 21)) (g_at.of mG_obj) 21 (by decide) q2973 rfl rfl dX5_append_21 ?_
    refine lv_aload_n hx hb dX5_append_24 rfl (lv_at hl 0 rfl) ?_
    refine g_get S hK I k_X5 (v := .int (f 25)) (g_at.of mG_obj) 25 (by decide) q2977 rfl rfl dX5_append_25 ?_
    refine lv_iload_n hx hb dX5_append_28 rfl (lv_at hl 1 rfl) ?_
    refine m_cast S hK I (f := (a 21)) (k := (tL f)) mG_21 (ap_ix hL c_6) rfl dX5_append_29 (fun H locs I => ?_)
    have I := mI_21 I
    refine lv_aload_n hx hb dX5_append_30 rfl (lv_at hl 0 rfl) ?_
    refine lv_dup hx hb dX5_append_31 rfl ?_
    refine g_get S hK I k_X5 (v := .int (f 25)) (g_at.of mG_obj) 25 (by decide) q2977 rfl rfl dX5_append_32 ?_
    refine lv_iconst (v := 1) hx hb dX5_append_35 (by decide) ?_
    refine lv_iadd hx hb dX5_append_36 ?_
    refine g_put S hK I k_X5 (v := .int ((f 25) + 1)) mG_obj 25 (by decide) q2977 rfl rfl rfl rfl (Nat.le_of_ble_eq_true rfl) dX5_append_37 (fun H locs I => ?_)
    have I := mI_f (f' := (upd (upd f 0 0) 25 ((f 25) + 1))) I rfl
    refine lv_aload_n hx hb dX5_append_40 rfl (lv_at hl 0 rfl) ?_
    refine g_get S hK I k_X5 (v := .int ((f 25) + 1)) (g_at.of mG_obj) 25 (by decide) q2977 rfl rfl dX5_append_41 ?_
    exact g_iret S hr hlk I dX5_append_44 (Nat.le_of_ble_eq_true rfl) (Nat.le_of_ble_eq_true rfl) hQ ⟨_, rfl, (by (try simp [chr, c_6])), (by (try simp [chr, c_6]))⟩
  · refine lv_aload_n hx hb dX5_append_9 rfl (lv_at hl 0 rfl) ?_
    refine lv_iconst (v := 1) hx hb dX5_append_10 (by decide) ?_
    refine g_ci (g_runV S hK I (As := [.int 1]) (rest := []) (met_X5_fails l Γ mo ad f a rr ph 1) (cwV 1 hts (lw_V q3056 q3058 qs51 q151 q3059) rfl rfl rfl (by decide +kernel) ⟨Nat.le_of_ble_eq_true rfl, Nat.le_of_ble_eq_true rfl⟩) (g_recv hK I (g_at.of mG_obj) (ci := 4) rfl) rfl hl.1 rfl (Nat.le_of_ble_eq_true rfl) dX5_append_11 ⟨Nat.le_of_ble_eq_true rfl, Nat.le_of_ble_eq_true rfl⟩) I (fun r_11 ph1 H locs hp I => ?_)
    obtain ⟨hp, rfl⟩ := hp
    have hp : r_11 = 0 := hp
    subst hp
    have I : g_I Γ (mG Γ mo ad (upd f 0 1) a rr ph) s H locs := I
    exact g_iret S hr hlk I dX5_append_14 (Nat.le_of_ble_eq_true rfl) (Nat.le_of_ble_eq_true rfl) hQ ⟨_, rfl, (by (try simp [chr, c_6])), (by (try simp [chr, c_6]))⟩

set_option maxHeartbeats 4000000 in
set_option maxRecDepth 100000 in
theorem met_X5_errorPosition (l : Launch) (Γ : g_C) (mo : Nat) (ad : Nat → Nat) (f : Nat → Int32) (a : Nat → Nat → Int32) (rr : Nat → UInt32) (ph : g_H) : g_Met l yX5_errorPosition (ws_ yX5_errorPosition cX5_errorPosition 1 (some .int)) (g_rm 2 0 0) Γ [.ref mo] (mG Γ mo ad f a rr ph) (g_oi (fun v ph' => v = (if f 28 < 0 then 0 else f 28) ∧ ph' = mG Γ mo ad (if f 28 < 0 then upd f 0 1 else upd f 0 0) a rr ph)) g_no := by
  refine g_start (y := yX5_errorPosition) (cc := cX5_errorPosition) (maxL := 1) (ret := (some .int)) (rm := g_rm 2 0 0) (by decide) (Nat.le_of_ble_eq_true rfl) ?_
  intro p e s m A below meth c ls Q hQ S hr hlk hex hnm hK I hl
  have hx := S.1
  have hb := S.2.1
  have hown := S.2.2.2.1
  have hts := S.2.2.2.2
  have S : CallFix p m c cX5_errorPosition 1 s A lw_all "CrumblingWallModel" := S
  have hl : lv_has ls 1 [(0, .ref mo)] := hl
  refine lv_aload_n hx hb dX5_errorPosition_0 rfl (lv_at hl 0 rfl) ?_
  refine g_get S hK I k_X5 (v := .int (f 28)) (g_at.of mG_obj) 28 (by decide) q2980 rfl rfl dX5_errorPosition_1 ?_
  refine lv_if_ge (tgt := 13) hx hb dX5_errorPosition_4 (by decide) (fun c_4 => ?_) (fun c_4 => ?_)
  · have n_4 := Int32.not_lt.mpr c_4
    refine lv_aload_n hx hb dX5_errorPosition_13 rfl (lv_at hl 0 rfl) ?_
    refine lv_iconst (v := 0) hx hb dX5_errorPosition_14 (by decide) ?_
    refine g_put S hK I k_X5 (v := .int 0) mG_obj 0 (by decide) q2952 rfl rfl rfl rfl (Nat.le_of_ble_eq_true rfl) dX5_errorPosition_15 (fun H locs I => ?_)
    have I := mI_f (f' := (upd f 0 0)) I rfl
    refine lv_aload_n hx hb dX5_errorPosition_18 rfl (lv_at hl 0 rfl) ?_
    refine g_get S hK I k_X5 (v := .int (f 28)) (g_at.of mG_obj) 28 (by decide) q2980 rfl rfl dX5_errorPosition_19 ?_
    exact g_iret S hr hlk I dX5_errorPosition_22 (Nat.le_of_ble_eq_true rfl) (Nat.le_of_ble_eq_true rfl) hQ ⟨_, rfl, (by (try simp [c_4, n_4])), (by (try simp [c_4, n_4]))⟩
  · have n_4 := Int32.not_le.mp c_4
    refine lv_aload_n hx hb dX5_errorPosition_7 rfl (lv_at hl 0 rfl) ?_
    refine lv_iconst (v := 1) hx hb dX5_errorPosition_8 (by decide) ?_
    refine g_ci (g_runV S hK I (As := [.int 1]) (rest := []) (met_X5_fails l Γ mo ad f a rr ph 1) (cwV 1 hts (lw_V q3056 q3058 qs51 q151 q3059) rfl rfl rfl (by decide +kernel) ⟨Nat.le_of_ble_eq_true rfl, Nat.le_of_ble_eq_true rfl⟩) (g_recv hK I (g_at.of mG_obj) (ci := 4) rfl) rfl hl.1 rfl (Nat.le_of_ble_eq_true rfl) dX5_errorPosition_9 ⟨Nat.le_of_ble_eq_true rfl, Nat.le_of_ble_eq_true rfl⟩) I (fun r_9 ph1 H locs hp I => ?_)
    obtain ⟨hp, rfl⟩ := hp
    have hp : r_9 = 0 := hp
    subst hp
    have I : g_I Γ (mG Γ mo ad (upd f 0 1) a rr ph) s H locs := I
    exact g_iret S hr hlk I dX5_errorPosition_12 (Nat.le_of_ble_eq_true rfl) (Nat.le_of_ble_eq_true rfl) hQ ⟨_, rfl, (by (try simp [c_4, n_4])), (by (try simp [c_4, n_4]))⟩

set_option maxHeartbeats 4000000 in
set_option maxRecDepth 100000 in
theorem met_X5_reason (l : Launch) (Γ : g_C) (mo : Nat) (ad : Nat → Nat) (f : Nat → Int32) (a : Nat → Nat → Int32) (rr : Nat → UInt32) (ph : g_H) (p0 : Int32) : g_Met l yX5_reason (ws_ yX5_reason cX5_reason 2 (some .int)) (g_rm 2 0 0) Γ [.ref mo, .int p0] (mG Γ mo ad f a rr ph) (g_oi (fun v ph' => v = (if f 1 = 0 then 0 else if p0 = 0 then f 1 else f 2) ∧ ph' = mG Γ mo ad (if f 1 = 0 then upd f 0 1 else upd f 0 0) a rr ph)) g_no := by
  refine g_start (y := yX5_reason) (cc := cX5_reason) (maxL := 2) (ret := (some .int)) (rm := g_rm 2 0 0) (by decide) (Nat.le_of_ble_eq_true rfl) ?_
  intro p e s m A below meth c ls Q hQ S hr hlk hex hnm hK I hl
  have hx := S.1
  have hb := S.2.1
  have hown := S.2.2.2.1
  have hts := S.2.2.2.2
  have S : CallFix p m c cX5_reason 2 s A lw_all "CrumblingWallModel" := S
  have hl : lv_has ls 2 [(0, .ref mo), (1, .int p0)] := hl
  refine lv_aload_n hx hb dX5_reason_0 rfl (lv_at hl 0 rfl) ?_
  refine g_get S hK I k_X5 (v := .int (f 1)) (g_at.of mG_obj) 1 (by decide) q2953 rfl rfl dX5_reason_1 ?_
  refine lv_if_ne (tgt := 13) hx hb dX5_reason_4 (by decide) (fun c_4 => ?_) (fun c_4 => ?_)
  · refine lv_aload_n hx hb dX5_reason_13 rfl (lv_at hl 0 rfl) ?_
    refine lv_iconst (v := 0) hx hb dX5_reason_14 (by decide) ?_
    refine g_put S hK I k_X5 (v := .int 0) mG_obj 0 (by decide) q2952 rfl rfl rfl rfl (Nat.le_of_ble_eq_true rfl) dX5_reason_15 (fun H locs I => ?_)
    have I := mI_f (f' := (upd f 0 0)) I rfl
    refine lv_iload_n hx hb dX5_reason_18 rfl (lv_at hl 1 rfl) ?_
    refine lv_if_eq (tgt := 29) hx hb dX5_reason_19 (by decide) (fun c_19 => ?_) (fun c_19 => ?_)
    · refine lv_aload_n hx hb dX5_reason_29 rfl (lv_at hl 0 rfl) ?_
      refine g_get S hK I k_X5 (v := .int (f 1)) (g_at.of mG_obj) 1 (by decide) q2953 rfl rfl dX5_reason_30 ?_
      exact g_iret S hr hlk I dX5_reason_33 (Nat.le_of_ble_eq_true rfl) (Nat.le_of_ble_eq_true rfl) hQ ⟨_, rfl, (by (try simp [c_4, c_19])), (by (try simp [c_4, c_19]))⟩
    · refine lv_aload_n hx hb dX5_reason_22 rfl (lv_at hl 0 rfl) ?_
      refine g_get S hK I k_X5 (v := .int (f 2)) (g_at.of mG_obj) 2 (by decide) q2954 rfl rfl dX5_reason_23 ?_
      refine lv_goto (tgt := 33) hx hb dX5_reason_26 (by decide) ?_
      exact g_iret S hr hlk I dX5_reason_33 (Nat.le_of_ble_eq_true rfl) (Nat.le_of_ble_eq_true rfl) hQ ⟨_, rfl, (by (try simp [c_4, c_19])), (by (try simp [c_4, c_19]))⟩
  · refine lv_aload_n hx hb dX5_reason_7 rfl (lv_at hl 0 rfl) ?_
    refine lv_iconst (v := 1) hx hb dX5_reason_8 (by decide) ?_
    refine g_ci (g_runV S hK I (As := [.int 1]) (rest := []) (met_X5_fails l Γ mo ad f a rr ph 1) (cwV 1 hts (lw_V q3056 q3058 qs51 q151 q3059) rfl rfl rfl (by decide +kernel) ⟨Nat.le_of_ble_eq_true rfl, Nat.le_of_ble_eq_true rfl⟩) (g_recv hK I (g_at.of mG_obj) (ci := 4) rfl) rfl hl.1 rfl (Nat.le_of_ble_eq_true rfl) dX5_reason_9 ⟨Nat.le_of_ble_eq_true rfl, Nat.le_of_ble_eq_true rfl⟩) I (fun r_9 ph1 H locs hp I => ?_)
    obtain ⟨hp, rfl⟩ := hp
    have hp : r_9 = 0 := hp
    subst hp
    have I : g_I Γ (mG Γ mo ad (upd f 0 1) a rr ph) s H locs := I
    exact g_iret S hr hlk I dX5_reason_12 (Nat.le_of_ble_eq_true rfl) (Nat.le_of_ble_eq_true rfl) hQ ⟨_, rfl, (by (try simp [c_4])), (by (try simp [c_4]))⟩

def cntK (w : m_w) (how : Int32) (k : Nat) : Int32 := if how = 0 then b2i (hasCr w (nI k)) else if how = 1 then hX w (nI k) 4 else b2i (isBr w (nI k))
def cntH (w : m_w) (how : Int32) : Int32 := sumN (nN w) (cntK w how)
def litS (w : m_w) : Int32 := sumN (nLa w) (fun k => lX w (nI k) 4)
set_option maxHeartbeats 4000000 in
set_option maxRecDepth 100000 in
theorem met_X5_countHolds (l : Launch) (Γ : g_C) (mo : Nat) (ad : Nat → Nat) (f : Nat → Int32) (a : Nat → Nat → Int32) (rr : Nat → UInt32) (ph : g_H) (p0 : Int32) (hw : WF (a 5)) : g_Met l yX5_countHolds (ws_ yX5_countHolds cX5_countHolds 4 (some .int)) (g_rm 5 0 0) Γ [.ref mo, .int p0] (mG Γ mo ad f a rr ph) (g_oi (fun v ph' => v = (cntH (a 5) p0) ∧ ph' = mG Γ mo ad f a rr ph)) g_no := by
  refine g_start (y := yX5_countHolds) (cc := cX5_countHolds) (maxL := 4) (ret := (some .int)) (rm := g_rm 5 0 0) (by decide) (Nat.le_of_ble_eq_true rfl) ?_
  intro p e s m A below meth c ls Q hQ S hr hlk hex hnm hK I hl
  have hx := S.1
  have hb := S.2.1
  have hown := S.2.2.2.1
  have hts := S.2.2.2.2
  have S : CallFix p m c cX5_countHolds 4 s A lw_all "CrumblingWallModel" := S
  have hl : lv_has ls 4 [(0, .ref mo), (1, .int p0)] := hl
  refine lv_iconst (v := 0) hx hb dX5_countHolds_0 (by decide) ?_
  refine lv_istore_n (lv' := [(2, .int 0), (0, .ref mo), (1, .int p0)]) hx hb dX5_countHolds_1 rfl hl (by decide) rfl (fun ls hl => ?_)
  refine lv_iconst (v := 0) hx hb dX5_countHolds_2 (by decide) ?_
  refine lv_istore_n (lv' := [(3, .int 0), (2, .int 0), (0, .ref mo), (1, .int p0)]) hx hb dX5_countHolds_3 rfl hl (by decide) rfl (fun ls hl => ?_)
  have L_4 : ∀ (d : Nat) (k : Nat), (hk : k ≤ nN (a 5)) → nN (a 5) - k < d → ∀ (H : Heap) (locs : List Loc) (ls : Array Slot), g_I Γ (mG Γ mo ad f a rr ph) s H locs → lv_has ls 4 [(0, .ref mo), (1, .int p0), (2, .int (sumN k (cntK (a 5) p0))), (3, .int (nI k))] → W p l e (g_rm 5 0 0) s m A below meth c H locs 0 0 Q (F0 m 4 ls []) := by
    intro d
    induction d with
    | zero => intro k hk hd; exact absurd hd (Nat.not_lt_zero _)
    | succ d ih =>
      intro k hk hd H locs ls I hl
      refine lv_iload_n hx hb dX5_countHolds_4 rfl (lv_at hl 3 rfl) ?_
      refine lv_aload_n hx hb dX5_countHolds_5 rfl (lv_at hl 0 rfl) ?_
      refine g_get S hK I k_X5 (v := .ref (ad 5)) (g_at.of mG_obj) 5 (by decide) q2957 rfl rfl dX5_countHolds_6 ?_
      refine lv_iconst (v := 0) hx hb dX5_countHolds_9 (by decide) ?_
      refine m_iald S hK I (f := (a 5)) (k := 0) (g_at.of mG_5) (vp_lit (by decide)) (by decide) dX5_countHolds_10 ?_
      refine lv_icmp_ge (tgt := 70) hx hb dX5_countHolds_11 (by decide) (fun c_11 => ?_) (fun c_11 => ?_)
      · have n_11 := Int32.not_lt.mpr c_11
        obtain rfl : k = nN (a 5) := k_ge hw.1.1 (wf_le20 hw) hk c_11
        refine lv_iload_n hx hb dX5_countHolds_70 rfl (lv_at hl 2 rfl) ?_
        exact g_iret S hr hlk I dX5_countHolds_71 (Nat.le_of_ble_eq_true rfl) (Nat.le_of_ble_eq_true rfl) hQ ⟨_, rfl, rfl, rfl⟩
      · have n_11 := Int32.not_le.mp c_11
        have hkl : k < nN (a 5) := k_lt hw.1.1 (wf_le20 hw) hk c_11
        have hkv : vp_in (nI k) (nN (a 5)) := vp_k hkl (Nat.le_refl _) (Nat.lt_of_le_of_lt hw.1.2 (by decide))
        refine lv_iload_n hx hb dX5_countHolds_14 rfl (lv_at hl 2 rfl) ?_
        refine lv_iload_n hx hb dX5_countHolds_15 rfl (lv_at hl 1 rfl) ?_
        have J_62_0 : ∀ (x1 : Int32) (H : Heap) (locs : List Loc) (ls : Array Slot), (hx1 : x1 = (cntK (a 5) p0 k)) → g_I Γ (mG Γ mo ad f a rr ph) s H locs → lv_has ls 4 [(0, .ref mo), (1, .int p0), (2, .int (sumN k (cntK (a 5) p0))), (3, .int (nI k))] → W p l e (g_rm 5 0 0) s m A below meth c H locs 0 0 Q (F0 m 62 ls [.int x1, .int (sumN k (cntK (a 5) p0))]) := by
          intro x1 H locs ls hx1 I hl
          subst hx1
          refine lv_iadd hx hb dX5_countHolds_62 ?_
          refine lv_istore_n (lv' := [(2, .int (sumN (k + 1) (cntK (a 5) p0))), (0, .ref mo), (1, .int p0), (3, .int (nI k))]) hx hb dX5_countHolds_63 rfl hl (by decide) rfl (fun ls hl => ?_)
          refine lv_iinc (v := nI (k + 1)) (lv' := [(3, .int (nI (k + 1))), (2, .int (sumN (k + 1) (cntK (a 5) p0))), (0, .ref mo), (1, .int p0)]) hx hb dX5_countHolds_64 hl (k := 3) rfl (nI_1 k) (by decide) rfl (fun ls hl => ?_)
          refine lv_goto (tgt := 4) hx hb dX5_countHolds_67 (by decide) ?_
          exact ih (k + 1) hkl (by omega) _ _ _ I (lv_sub hl [2, 3, 1, 0] rfl)
        refine lv_if_ne (tgt := 35) hx hb dX5_countHolds_16 (by decide) (fun c_16 => ?_) (fun c_16 => ?_)
        · refine lv_iload_n hx hb dX5_countHolds_35 rfl (lv_at hl 1 rfl) ?_
          refine lv_iconst (v := 1) hx hb dX5_countHolds_36 (by decide) ?_
          refine lv_icmp_ne (tgt := 49) hx hb dX5_countHolds_37 (by decide) (fun c_37 => ?_) (fun c_37 => ?_)
          · refine lv_aload_n hx hb dX5_countHolds_49 rfl (lv_at hl 0 rfl) ?_
            refine lv_iload_n hx hb dX5_countHolds_50 rfl (lv_at hl 3 rfl) ?_
            refine g_ci (g_runV S hK I (As := [.int (nI k)]) (rest := [.int (sumN k (cntK (a 5) p0))]) (met_X5_isBright l Γ mo ad f a rr ph (nI k) hw (hw.h20 hkv)) (cwV 1 hts (lw_V q3126 q3128 qs65 q151 q3129) rfl rfl rfl (by decide +kernel) ⟨Nat.le_of_ble_eq_true rfl, Nat.le_of_ble_eq_true rfl⟩) (g_recv hK I (g_at.of mG_obj) (ci := 4) rfl) rfl hl.1 rfl (Nat.le_of_ble_eq_true rfl) dX5_countHolds_51 ⟨Nat.le_of_ble_eq_true rfl, Nat.le_of_ble_eq_true rfl⟩) I (fun r_51 ph1 H locs hp I => ?_)
            obtain ⟨hp, rfl⟩ := hp
            have hp : r_51 = b2i (isBr (a 5) (nI k)) := hp
            subst hp
            refine lv_if_eq (tgt := 61) hx hb dX5_countHolds_54 (by decide) (fun c_54 => ?_) (fun c_54 => ?_)
            · have p_54 := (b2i_eq0 _).mp c_54
              refine lv_iconst (v := 0) hx hb dX5_countHolds_61 (by decide) ?_
              exact J_62_0 0 _ _ _ (by simp [cntK, b2i, c_16, c_37, p_54]) I (lv_sub hl [0, 1, 2, 3] rfl)
            · have p_54 := (b2i_ne0 _).mp c_54
              refine lv_iconst (v := 1) hx hb dX5_countHolds_57 (by decide) ?_
              refine lv_goto (tgt := 62) hx hb dX5_countHolds_58 (by decide) ?_
              exact J_62_0 1 _ _ _ (by simp [cntK, b2i, c_16, c_37, p_54]) I (lv_sub hl [0, 1, 2, 3] rfl)
          · refine lv_aload_n hx hb dX5_countHolds_40 rfl (lv_at hl 0 rfl) ?_
            refine lv_iload_n hx hb dX5_countHolds_41 rfl (lv_at hl 3 rfl) ?_
            refine lv_iconst (v := 4) hx hb dX5_countHolds_42 (by decide) ?_
            refine g_ci (g_runV S hK I (As := [.int (nI k), .int 4]) (rest := [.int (sumN k (cntK (a 5) p0))]) (met_X5_ofHold l Γ mo ad f a rr ph (nI k) 4 (hw.h20 hkv) (vp_lit (by decide))) (cwV 2 hts (lw_V q3064 q3066 qs53 q151 q3067) rfl rfl rfl (by decide +kernel) ⟨Nat.le_of_ble_eq_true rfl, Nat.le_of_ble_eq_true rfl⟩) (g_recv hK I (g_at.of mG_obj) (ci := 4) rfl) rfl hl.1 rfl (Nat.le_of_ble_eq_true rfl) dX5_countHolds_43 ⟨Nat.le_of_ble_eq_true rfl, Nat.le_of_ble_eq_true rfl⟩) I (fun r_43 ph1 H locs hp I => ?_)
            obtain ⟨hp, rfl⟩ := hp
            have hp : r_43 = hX (a 5) (nI k) 4 := hp
            subst hp
            refine lv_goto (tgt := 62) hx hb dX5_countHolds_46 (by decide) ?_
            exact J_62_0 (hX (a 5) (nI k) 4) _ _ _ (by simp [cntK, b2i, c_16, c_37]) I (lv_sub hl [0, 1, 2, 3] rfl)
        · refine lv_aload_n hx hb dX5_countHolds_19 rfl (lv_at hl 0 rfl) ?_
          refine lv_iload_n hx hb dX5_countHolds_20 rfl (lv_at hl 3 rfl) ?_
          refine g_ci (g_runV S hK I (As := [.int (nI k)]) (rest := [.int (sumN k (cntK (a 5) p0))]) (met_X5_hasCrumbled l Γ mo ad f a rr ph (nI k) (hw.h20 hkv)) (cwV 1 hts (lw_V q3122 q3124 qs64 q151 q3125) rfl rfl rfl (by decide +kernel) ⟨Nat.le_of_ble_eq_true rfl, Nat.le_of_ble_eq_true rfl⟩) (g_recv hK I (g_at.of mG_obj) (ci := 4) rfl) rfl hl.1 rfl (Nat.le_of_ble_eq_true rfl) dX5_countHolds_21 ⟨Nat.le_of_ble_eq_true rfl, Nat.le_of_ble_eq_true rfl⟩) I (fun r_21 ph1 H locs hp I => ?_)
          obtain ⟨hp, rfl⟩ := hp
          have hp : r_21 = b2i (hasCr (a 5) (nI k)) := hp
          subst hp
          refine lv_if_eq (tgt := 31) hx hb dX5_countHolds_24 (by decide) (fun c_24 => ?_) (fun c_24 => ?_)
          · have p_24 := (b2i_eq0 _).mp c_24
            refine lv_iconst (v := 0) hx hb dX5_countHolds_31 (by decide) ?_
            refine lv_goto (tgt := 62) hx hb dX5_countHolds_32 (by decide) ?_
            exact J_62_0 0 _ _ _ (by simp [cntK, b2i, c_16, p_24]) I (lv_sub hl [0, 1, 2, 3] rfl)
          · have p_24 := (b2i_ne0 _).mp c_24
            refine lv_iconst (v := 1) hx hb dX5_countHolds_27 (by decide) ?_
            refine lv_goto (tgt := 62) hx hb dX5_countHolds_28 (by decide) ?_
            exact J_62_0 1 _ _ _ (by simp [cntK, b2i, c_16, p_24]) I (lv_sub hl [0, 1, 2, 3] rfl)
  exact L_4 _ 0 (Nat.zero_le _) (Nat.lt_succ_self _) _ _ _ I (lv_sub hl [2, 3, 1, 0] rfl)

set_option maxHeartbeats 4000000 in
set_option maxRecDepth 100000 in
theorem met_X5_lit (l : Launch) (Γ : g_C) (mo : Nat) (ad : Nat → Nat) (f : Nat → Int32) (a : Nat → Nat → Int32) (rr : Nat → UInt32) (ph : g_H)  (hw : WF (a 5)) : g_Met l yX5_lit (ws_ yX5_lit cX5_lit 3 (some .int)) (g_rm 3 0 0) Γ [.ref mo] (mG Γ mo ad f a rr ph) (g_oi (fun v ph' => v = (litS (a 5)) ∧ ph' = mG Γ mo ad f a rr ph)) g_no := by
  refine g_start (y := yX5_lit) (cc := cX5_lit) (maxL := 3) (ret := (some .int)) (rm := g_rm 3 0 0) (by decide) (Nat.le_of_ble_eq_true rfl) ?_
  intro p e s m A below meth c ls Q hQ S hr hlk hex hnm hK I hl
  have hx := S.1
  have hb := S.2.1
  have hown := S.2.2.2.1
  have hts := S.2.2.2.2
  have S : CallFix p m c cX5_lit 3 s A lw_all "CrumblingWallModel" := S
  have hl : lv_has ls 3 [(0, .ref mo)] := hl
  refine lv_iconst (v := 0) hx hb dX5_lit_0 (by decide) ?_
  refine lv_istore_n (lv' := [(1, .int 0), (0, .ref mo)]) hx hb dX5_lit_1 rfl hl (by decide) rfl (fun ls hl => ?_)
  refine lv_iconst (v := 0) hx hb dX5_lit_2 (by decide) ?_
  refine lv_istore_n (lv' := [(2, .int 0), (1, .int 0), (0, .ref mo)]) hx hb dX5_lit_3 rfl hl (by decide) rfl (fun ls hl => ?_)
  have L_4 : ∀ (d : Nat) (k : Nat), (hk : k ≤ nLa (a 5)) → nLa (a 5) - k < d → ∀ (H : Heap) (locs : List Loc) (ls : Array Slot), g_I Γ (mG Γ mo ad f a rr ph) s H locs → lv_has ls 3 [(0, .ref mo), (1, .int (sumN k (fun k => lX (a 5) (nI k) 4))), (2, .int (nI k))] → W p l e (g_rm 3 0 0) s m A below meth c H locs 0 0 Q (F0 m 4 ls []) := by
    intro d
    induction d with
    | zero => intro k hk hd; exact absurd hd (Nat.not_lt_zero _)
    | succ d ih =>
      intro k hk hd H locs ls I hl
      refine lv_iload_n hx hb dX5_lit_4 rfl (lv_at hl 2 rfl) ?_
      refine lv_aload_n hx hb dX5_lit_5 rfl (lv_at hl 0 rfl) ?_
      refine g_get S hK I k_X5 (v := .ref (ad 5)) (g_at.of mG_obj) 5 (by decide) q2957 rfl rfl dX5_lit_6 ?_
      refine lv_bipush (v := 104) hx hb dX5_lit_9 (by decide) ?_
      refine m_iald S hK I (f := (a 5)) (k := 104) (g_at.of mG_5) (vp_lit (by decide)) (by decide) dX5_lit_11 ?_
      refine lv_icmp_ge (tgt := 30) hx hb dX5_lit_12 (by decide) (fun c_12 => ?_) (fun c_12 => ?_)
      · have n_12 := Int32.not_lt.mpr c_12
        obtain rfl : k = nLa (a 5) := k_ge hw.2.1.1 (wf_le4 hw) hk c_12
        refine lv_iload_n hx hb dX5_lit_30 rfl (lv_at hl 1 rfl) ?_
        exact g_iret S hr hlk I dX5_lit_31 (Nat.le_of_ble_eq_true rfl) (Nat.le_of_ble_eq_true rfl) hQ ⟨_, rfl, rfl, rfl⟩
      · have n_12 := Int32.not_le.mp c_12
        have hkl : k < nLa (a 5) := k_lt hw.2.1.1 (wf_le4 hw) hk c_12
        have hkv : vp_in (nI k) (nLa (a 5)) := vp_k hkl (Nat.le_refl _) (Nat.lt_of_le_of_lt hw.2.1.2 (by decide))
        refine lv_iload_n hx hb dX5_lit_15 rfl (lv_at hl 1 rfl) ?_
        refine lv_aload_n hx hb dX5_lit_16 rfl (lv_at hl 0 rfl) ?_
        refine lv_iload_n hx hb dX5_lit_17 rfl (lv_at hl 2 rfl) ?_
        refine lv_iconst (v := 4) hx hb dX5_lit_18 (by decide) ?_
        refine g_ci (g_runV S hK I (As := [.int (nI k), .int 4]) (rest := [.int (sumN k (fun k => lX (a 5) (nI k) 4))]) (met_X5_ofLamp l Γ mo ad f a rr ph (nI k) 4 (hw.l4 hkv) (vp_lit (by decide))) (cwV 2 hts (lw_V q3130 q3132 qs66 q151 q3133) rfl rfl rfl (by decide +kernel) ⟨Nat.le_of_ble_eq_true rfl, Nat.le_of_ble_eq_true rfl⟩) (g_recv hK I (g_at.of mG_obj) (ci := 4) rfl) rfl hl.1 rfl (Nat.le_of_ble_eq_true rfl) dX5_lit_19 ⟨Nat.le_of_ble_eq_true rfl, Nat.le_of_ble_eq_true rfl⟩) I (fun r_19 ph1 H locs hp I => ?_)
        obtain ⟨hp, rfl⟩ := hp
        have hp : r_19 = lX (a 5) (nI k) 4 := hp
        subst hp
        refine lv_iadd hx hb dX5_lit_22 ?_
        refine lv_istore_n (lv' := [(1, .int (sumN (k + 1) (fun k => lX (a 5) (nI k) 4))), (0, .ref mo), (2, .int (nI k))]) hx hb dX5_lit_23 rfl hl (by decide) rfl (fun ls hl => ?_)
        refine lv_iinc (v := nI (k + 1)) (lv' := [(2, .int (nI (k + 1))), (1, .int (sumN (k + 1) (fun k => lX (a 5) (nI k) 4))), (0, .ref mo)]) hx hb dX5_lit_24 hl (k := 2) rfl (nI_1 k) (by decide) rfl (fun ls hl => ?_)
        refine lv_goto (tgt := 4) hx hb dX5_lit_27 (by decide) ?_
        exact ih (k + 1) hkl (by omega) _ _ _ I (lv_sub hl [2, 1, 0] rfl)
  exact L_4 _ 0 (Nat.zero_le _) (Nat.lt_succ_self _) _ _ _ I (lv_sub hl [2, 1, 0] rfl)

/-- an account of a wall w, of what is on the rack, of the text's length and the changes -/
def accO (w : m_w) (x rk ln ch : Int32) : Int32 := if x = 0 then w 0 else if x = 1 then cntH w 0 else if x = 2 then cntH w 1 else if x = 8 then w 145 else if x = 9 then w 104 else if x = 10 then litS w else if x = 11 then cntH w 2 else if x = 12 then rk else if x = 13 then ln else if x = 14 then ch else w (137 + x.toNatClampNeg)
theorem acc_ix {x : Int32} (h : btw x 0 14 = true) (h0 : ¬ x = 0) (h1 : ¬ x = 1) (h2 : ¬ x = 2) : vp_in (140 + x - 3) 170 ∧ (140 + x - 3).toNatClampNeg = 137 + x.toNatClampNeg := by
  have h3 : vp_in x 15 := (vp_isBtw (n := 15) (by decide)).mp h
  obtain ⟨j, g1, rfl, g3⟩ := vp_j h3 (by decide)
  rw [g3, show (140 : Int32) = nI 140 from rfl, nI_add, show nI (140 + j) = nI (137 + j) + nI 3 from by rw [nI_add, show 137 + j + 3 = 140 + j by omega], show (3 : Int32) = nI 3 from rfl, Int32.add_sub_cancel]
  exact ⟨vp_in_nI (by omega) (by decide), nI_clamp (by omega)⟩
set_option maxHeartbeats 4000000 in
set_option maxRecDepth 100000 in
theorem met_X5_account (l : Launch) (Γ : g_C) (mo : Nat) (ad : Nat → Nat) (f : Nat → Int32) (a : Nat → Nat → Int32) (rr : Nat → UInt32) (ph : g_H) (p0 : Int32) (hw : WF (a 5)) : g_Met l yX5_account (ws_ yX5_account cX5_account 2 (some .int)) (g_rm 6 0 0) Γ [.ref mo, .int p0] (mG Γ mo ad f a rr ph) (g_oi (fun v ph' => v = (if btw p0 0 14 = false then 0 else accO (a 5) p0 (onRk (a 19)) (f 25) (f 9)) ∧ ph' = mG Γ mo ad (if btw p0 0 14 = false then upd f 0 1 else upd f 0 0) a rr ph)) g_no := by
  refine g_start (y := yX5_account) (cc := cX5_account) (maxL := 2) (ret := (some .int)) (rm := g_rm 6 0 0) (by decide) (Nat.le_of_ble_eq_true rfl) ?_
  intro p e s m A below meth c ls Q hQ S hr hlk hex hnm hK I hl
  have hx := S.1
  have hb := S.2.1
  have hown := S.2.2.2.1
  have hts := S.2.2.2.2
  have S : CallFix p m c cX5_account 2 s A lw_all "CrumblingWallModel" := S
  have hl : lv_has ls 2 [(0, .ref mo), (1, .int p0)] := hl
  refine lv_iload_n hx hb dX5_account_0 rfl (lv_at hl 1 rfl) ?_
  refine lv_iconst (v := 0) hx hb dX5_account_1 (by decide) ?_
  refine lv_bipush (v := 14) hx hb dX5_account_2 (by decide) ?_
  refine g_ci (g_runS S hK I (As := [.int p0, .int 0, .int 14]) (rest := []) (met_X5_isBetween l Γ (mG Γ mo ad f a rr ph) p0 0 14) (va_cwS 3 hts (lw_S q3053 q3054 q151 q3055) rfl rfl rfl (by decide +kernel) ⟨Nat.le_of_ble_eq_true rfl, Nat.le_of_ble_eq_true rfl⟩) rfl hl.1 rfl (Nat.le_of_ble_eq_true rfl) dX5_account_4 ⟨Nat.le_of_ble_eq_true rfl, Nat.le_of_ble_eq_true rfl⟩) I (fun r_4 ph1 H locs hp I => ?_)
  obtain ⟨hp, rfl⟩ := hp
  have hp : r_4 = b2i (btw p0 0 14) := hp
  subst hp
  refine lv_if_ne (tgt := 16) hx hb dX5_account_7 (by decide) (fun c_7 => ?_) (fun c_7 => ?_)
  · have p_7 := (b2i_ne0 _).mp c_7
    refine lv_aload_n hx hb dX5_account_16 rfl (lv_at hl 0 rfl) ?_
    refine lv_iconst (v := 0) hx hb dX5_account_17 (by decide) ?_
    refine g_put S hK I k_X5 (v := .int 0) mG_obj 0 (by decide) q2952 rfl rfl rfl rfl (Nat.le_of_ble_eq_true rfl) dX5_account_18 (fun H locs I => ?_)
    have I := mI_f (f' := (upd f 0 0)) I rfl
    refine lv_iload_n hx hb dX5_account_21 rfl (lv_at hl 1 rfl) ?_
    by_cases s22_0 : p0 = 0
    · refine lv_tableIn (tgt := 96) hx hb dX5_account_22 (by rw [s22_0]; decide) (by rw [s22_0]; decide) (by rw [s22_0]; rfl) (by decide) ?_
      refine lv_aload_n hx hb dX5_account_96 rfl (lv_at hl 0 rfl) ?_
      refine g_get S hK I k_X5 (v := .ref (ad 5)) (g_at.of mG_obj) 5 (by decide) q2957 rfl rfl dX5_account_97 ?_
      refine lv_iconst (v := 0) hx hb dX5_account_100 (by decide) ?_
      refine m_iald S hK I (f := (a 5)) (k := 0) (g_at.of mG_5) (vp_lit (by decide)) (by decide) dX5_account_101 ?_
      exact g_iret S hr hlk I dX5_account_102 (Nat.le_of_ble_eq_true rfl) (Nat.le_of_ble_eq_true rfl) hQ ⟨_, rfl, (by simp only [if_neg (show ¬ btw p0 0 14 = false by rw [p_7]; decide)]; simp [accO, s22_0]), (by (try simp only [p_7]); (try simp [p_7, s22_0]))⟩
    by_cases s22_1 : p0 = 1
    · refine lv_tableIn (tgt := 103) hx hb dX5_account_22 (by rw [s22_1]; decide) (by rw [s22_1]; decide) (by rw [s22_1]; rfl) (by decide) ?_
      refine lv_aload_n hx hb dX5_account_103 rfl (lv_at hl 0 rfl) ?_
      refine lv_iconst (v := 0) hx hb dX5_account_104 (by decide) ?_
      refine g_ci (g_runV S hK I (As := [.int 0]) (rest := []) (met_X5_countHolds l Γ mo ad (upd f 0 0) a rr ph 0 hw) (cwV 1 hts (lw_V q3479 q3481 qs117 q151 q3482) rfl rfl rfl (by decide +kernel) ⟨Nat.le_of_ble_eq_true rfl, Nat.le_of_ble_eq_true rfl⟩) (g_recv hK I (g_at.of mG_obj) (ci := 4) rfl) rfl hl.1 rfl (Nat.le_of_ble_eq_true rfl) dX5_account_105 ⟨Nat.le_of_ble_eq_true rfl, Nat.le_of_ble_eq_true rfl⟩) I (fun r_105 ph1 H locs hp I => ?_)
      obtain ⟨hp, rfl⟩ := hp
      have hp : r_105 = cntH (a 5) 0 := hp
      subst hp
      exact g_iret S hr hlk I dX5_account_108 (Nat.le_of_ble_eq_true rfl) (Nat.le_of_ble_eq_true rfl) hQ ⟨_, rfl, (by simp only [if_neg (show ¬ btw p0 0 14 = false by rw [p_7]; decide)]; simp [accO, s22_1]), (by (try simp only [p_7]); (try simp [p_7, s22_1]))⟩
    by_cases s22_2 : p0 = 2
    · refine lv_tableIn (tgt := 109) hx hb dX5_account_22 (by rw [s22_2]; decide) (by rw [s22_2]; decide) (by rw [s22_2]; rfl) (by decide) ?_
      refine lv_aload_n hx hb dX5_account_109 rfl (lv_at hl 0 rfl) ?_
      refine lv_iconst (v := 1) hx hb dX5_account_110 (by decide) ?_
      refine g_ci (g_runV S hK I (As := [.int 1]) (rest := []) (met_X5_countHolds l Γ mo ad (upd f 0 0) a rr ph 1 hw) (cwV 1 hts (lw_V q3479 q3481 qs117 q151 q3482) rfl rfl rfl (by decide +kernel) ⟨Nat.le_of_ble_eq_true rfl, Nat.le_of_ble_eq_true rfl⟩) (g_recv hK I (g_at.of mG_obj) (ci := 4) rfl) rfl hl.1 rfl (Nat.le_of_ble_eq_true rfl) dX5_account_111 ⟨Nat.le_of_ble_eq_true rfl, Nat.le_of_ble_eq_true rfl⟩) I (fun r_111 ph1 H locs hp I => ?_)
      obtain ⟨hp, rfl⟩ := hp
      have hp : r_111 = cntH (a 5) 1 := hp
      subst hp
      exact g_iret S hr hlk I dX5_account_114 (Nat.le_of_ble_eq_true rfl) (Nat.le_of_ble_eq_true rfl) hQ ⟨_, rfl, (by simp only [if_neg (show ¬ btw p0 0 14 = false by rw [p_7]; decide)]; simp [accO, s22_2]), (by (try simp only [p_7]); (try simp [p_7, s22_2]))⟩
    by_cases s22_3 : p0 = 3
    · refine lv_tableIn (tgt := 158) hx hb dX5_account_22 (by rw [s22_3]; decide) (by rw [s22_3]; decide) (by rw [s22_3]; rfl) (by decide) ?_
      refine lv_aload_n hx hb dX5_account_158 rfl (lv_at hl 0 rfl) ?_
      refine g_get S hK I k_X5 (v := .ref (ad 5)) (g_at.of mG_obj) 5 (by decide) q2957 rfl rfl dX5_account_159 ?_
      refine lv_sipush (v := 140) hx hb dX5_account_162 (by decide) ?_
      refine lv_iload_n hx hb dX5_account_165 rfl (lv_at hl 1 rfl) ?_
      refine lv_iadd hx hb dX5_account_166 ?_
      refine lv_iconst (v := 3) hx hb dX5_account_167 (by decide) ?_
      refine lv_isub hx hb dX5_account_168 ?_
      refine m_iald S hK I (f := (a 5)) (k := (137 + p0.toNatClampNeg)) (g_at.of mG_5) (acc_ix p_7 s22_0 s22_1 s22_2).1 (acc_ix p_7 s22_0 s22_1 s22_2).2 dX5_account_169 ?_
      exact g_iret S hr hlk I dX5_account_170 (Nat.le_of_ble_eq_true rfl) (Nat.le_of_ble_eq_true rfl) hQ ⟨_, rfl, (by simp only [if_neg (show ¬ btw p0 0 14 = false by rw [p_7]; decide)]; simp [accO, s22_3]), (by (try simp only [p_7]); (try simp [p_7, s22_3]))⟩
    by_cases s22_4 : p0 = 4
    · refine lv_tableIn (tgt := 158) hx hb dX5_account_22 (by rw [s22_4]; decide) (by rw [s22_4]; decide) (by rw [s22_4]; rfl) (by decide) ?_
      refine lv_aload_n hx hb dX5_account_158 rfl (lv_at hl 0 rfl) ?_
      refine g_get S hK I k_X5 (v := .ref (ad 5)) (g_at.of mG_obj) 5 (by decide) q2957 rfl rfl dX5_account_159 ?_
      refine lv_sipush (v := 140) hx hb dX5_account_162 (by decide) ?_
      refine lv_iload_n hx hb dX5_account_165 rfl (lv_at hl 1 rfl) ?_
      refine lv_iadd hx hb dX5_account_166 ?_
      refine lv_iconst (v := 3) hx hb dX5_account_167 (by decide) ?_
      refine lv_isub hx hb dX5_account_168 ?_
      refine m_iald S hK I (f := (a 5)) (k := (137 + p0.toNatClampNeg)) (g_at.of mG_5) (acc_ix p_7 s22_0 s22_1 s22_2).1 (acc_ix p_7 s22_0 s22_1 s22_2).2 dX5_account_169 ?_
      exact g_iret S hr hlk I dX5_account_170 (Nat.le_of_ble_eq_true rfl) (Nat.le_of_ble_eq_true rfl) hQ ⟨_, rfl, (by simp only [if_neg (show ¬ btw p0 0 14 = false by rw [p_7]; decide)]; simp [accO, s22_4]), (by (try simp only [p_7]); (try simp [p_7, s22_4]))⟩
    by_cases s22_5 : p0 = 5
    · refine lv_tableIn (tgt := 158) hx hb dX5_account_22 (by rw [s22_5]; decide) (by rw [s22_5]; decide) (by rw [s22_5]; rfl) (by decide) ?_
      refine lv_aload_n hx hb dX5_account_158 rfl (lv_at hl 0 rfl) ?_
      refine g_get S hK I k_X5 (v := .ref (ad 5)) (g_at.of mG_obj) 5 (by decide) q2957 rfl rfl dX5_account_159 ?_
      refine lv_sipush (v := 140) hx hb dX5_account_162 (by decide) ?_
      refine lv_iload_n hx hb dX5_account_165 rfl (lv_at hl 1 rfl) ?_
      refine lv_iadd hx hb dX5_account_166 ?_
      refine lv_iconst (v := 3) hx hb dX5_account_167 (by decide) ?_
      refine lv_isub hx hb dX5_account_168 ?_
      refine m_iald S hK I (f := (a 5)) (k := (137 + p0.toNatClampNeg)) (g_at.of mG_5) (acc_ix p_7 s22_0 s22_1 s22_2).1 (acc_ix p_7 s22_0 s22_1 s22_2).2 dX5_account_169 ?_
      exact g_iret S hr hlk I dX5_account_170 (Nat.le_of_ble_eq_true rfl) (Nat.le_of_ble_eq_true rfl) hQ ⟨_, rfl, (by simp only [if_neg (show ¬ btw p0 0 14 = false by rw [p_7]; decide)]; simp [accO, s22_5]), (by (try simp only [p_7]); (try simp [p_7, s22_5]))⟩
    by_cases s22_6 : p0 = 6
    · refine lv_tableIn (tgt := 158) hx hb dX5_account_22 (by rw [s22_6]; decide) (by rw [s22_6]; decide) (by rw [s22_6]; rfl) (by decide) ?_
      refine lv_aload_n hx hb dX5_account_158 rfl (lv_at hl 0 rfl) ?_
      refine g_get S hK I k_X5 (v := .ref (ad 5)) (g_at.of mG_obj) 5 (by decide) q2957 rfl rfl dX5_account_159 ?_
      refine lv_sipush (v := 140) hx hb dX5_account_162 (by decide) ?_
      refine lv_iload_n hx hb dX5_account_165 rfl (lv_at hl 1 rfl) ?_
      refine lv_iadd hx hb dX5_account_166 ?_
      refine lv_iconst (v := 3) hx hb dX5_account_167 (by decide) ?_
      refine lv_isub hx hb dX5_account_168 ?_
      refine m_iald S hK I (f := (a 5)) (k := (137 + p0.toNatClampNeg)) (g_at.of mG_5) (acc_ix p_7 s22_0 s22_1 s22_2).1 (acc_ix p_7 s22_0 s22_1 s22_2).2 dX5_account_169 ?_
      exact g_iret S hr hlk I dX5_account_170 (Nat.le_of_ble_eq_true rfl) (Nat.le_of_ble_eq_true rfl) hQ ⟨_, rfl, (by simp only [if_neg (show ¬ btw p0 0 14 = false by rw [p_7]; decide)]; simp [accO, s22_6]), (by (try simp only [p_7]); (try simp [p_7, s22_6]))⟩
    by_cases s22_7 : p0 = 7
    · refine lv_tableIn (tgt := 158) hx hb dX5_account_22 (by rw [s22_7]; decide) (by rw [s22_7]; decide) (by rw [s22_7]; rfl) (by decide) ?_
      refine lv_aload_n hx hb dX5_account_158 rfl (lv_at hl 0 rfl) ?_
      refine g_get S hK I k_X5 (v := .ref (ad 5)) (g_at.of mG_obj) 5 (by decide) q2957 rfl rfl dX5_account_159 ?_
      refine lv_sipush (v := 140) hx hb dX5_account_162 (by decide) ?_
      refine lv_iload_n hx hb dX5_account_165 rfl (lv_at hl 1 rfl) ?_
      refine lv_iadd hx hb dX5_account_166 ?_
      refine lv_iconst (v := 3) hx hb dX5_account_167 (by decide) ?_
      refine lv_isub hx hb dX5_account_168 ?_
      refine m_iald S hK I (f := (a 5)) (k := (137 + p0.toNatClampNeg)) (g_at.of mG_5) (acc_ix p_7 s22_0 s22_1 s22_2).1 (acc_ix p_7 s22_0 s22_1 s22_2).2 dX5_account_169 ?_
      exact g_iret S hr hlk I dX5_account_170 (Nat.le_of_ble_eq_true rfl) (Nat.le_of_ble_eq_true rfl) hQ ⟨_, rfl, (by simp only [if_neg (show ¬ btw p0 0 14 = false by rw [p_7]; decide)]; simp [accO, s22_7]), (by (try simp only [p_7]); (try simp [p_7, s22_7]))⟩
    by_cases s22_8 : p0 = 8
    · refine lv_tableIn (tgt := 115) hx hb dX5_account_22 (by rw [s22_8]; decide) (by rw [s22_8]; decide) (by rw [s22_8]; rfl) (by decide) ?_
      refine lv_aload_n hx hb dX5_account_115 rfl (lv_at hl 0 rfl) ?_
      refine g_get S hK I k_X5 (v := .ref (ad 5)) (g_at.of mG_obj) 5 (by decide) q2957 rfl rfl dX5_account_116 ?_
      refine lv_sipush (v := 145) hx hb dX5_account_119 (by decide) ?_
      refine m_iald S hK I (f := (a 5)) (k := 145) (g_at.of mG_5) (vp_lit (by decide)) (by decide) dX5_account_122 ?_
      exact g_iret S hr hlk I dX5_account_123 (Nat.le_of_ble_eq_true rfl) (Nat.le_of_ble_eq_true rfl) hQ ⟨_, rfl, (by simp only [if_neg (show ¬ btw p0 0 14 = false by rw [p_7]; decide)]; simp [accO, s22_8]), (by (try simp only [p_7]); (try simp [p_7, s22_8]))⟩
    by_cases s22_9 : p0 = 9
    · refine lv_tableIn (tgt := 124) hx hb dX5_account_22 (by rw [s22_9]; decide) (by rw [s22_9]; decide) (by rw [s22_9]; rfl) (by decide) ?_
      refine lv_aload_n hx hb dX5_account_124 rfl (lv_at hl 0 rfl) ?_
      refine g_get S hK I k_X5 (v := .ref (ad 5)) (g_at.of mG_obj) 5 (by decide) q2957 rfl rfl dX5_account_125 ?_
      refine lv_bipush (v := 104) hx hb dX5_account_128 (by decide) ?_
      refine m_iald S hK I (f := (a 5)) (k := 104) (g_at.of mG_5) (vp_lit (by decide)) (by decide) dX5_account_130 ?_
      exact g_iret S hr hlk I dX5_account_131 (Nat.le_of_ble_eq_true rfl) (Nat.le_of_ble_eq_true rfl) hQ ⟨_, rfl, (by simp only [if_neg (show ¬ btw p0 0 14 = false by rw [p_7]; decide)]; simp [accO, s22_9]), (by (try simp only [p_7]); (try simp [p_7, s22_9]))⟩
    by_cases s22_10 : p0 = 10
    · refine lv_tableIn (tgt := 132) hx hb dX5_account_22 (by rw [s22_10]; decide) (by rw [s22_10]; decide) (by rw [s22_10]; rfl) (by decide) ?_
      refine lv_aload_n hx hb dX5_account_132 rfl (lv_at hl 0 rfl) ?_
      refine g_ci (g_runV S hK I (As := []) (rest := []) (met_X5_lit l Γ mo ad (upd f 0 0) a rr ph hw) (cwV 0 hts (lw_V q3483 q3485 qs118 q151 q3486) rfl rfl rfl (by decide +kernel) ⟨Nat.le_of_ble_eq_true rfl, Nat.le_of_ble_eq_true rfl⟩) (g_recv hK I (g_at.of mG_obj) (ci := 4) rfl) rfl hl.1 rfl (Nat.le_of_ble_eq_true rfl) dX5_account_133 ⟨Nat.le_of_ble_eq_true rfl, Nat.le_of_ble_eq_true rfl⟩) I (fun r_133 ph1 H locs hp I => ?_)
      obtain ⟨hp, rfl⟩ := hp
      have hp : r_133 = litS (a 5) := hp
      subst hp
      exact g_iret S hr hlk I dX5_account_136 (Nat.le_of_ble_eq_true rfl) (Nat.le_of_ble_eq_true rfl) hQ ⟨_, rfl, (by simp only [if_neg (show ¬ btw p0 0 14 = false by rw [p_7]; decide)]; simp [accO, s22_10]), (by (try simp only [p_7]); (try simp [p_7, s22_10]))⟩
    by_cases s22_11 : p0 = 11
    · refine lv_tableIn (tgt := 137) hx hb dX5_account_22 (by rw [s22_11]; decide) (by rw [s22_11]; decide) (by rw [s22_11]; rfl) (by decide) ?_
      refine lv_aload_n hx hb dX5_account_137 rfl (lv_at hl 0 rfl) ?_
      refine lv_iconst (v := 2) hx hb dX5_account_138 (by decide) ?_
      refine g_ci (g_runV S hK I (As := [.int 2]) (rest := []) (met_X5_countHolds l Γ mo ad (upd f 0 0) a rr ph 2 hw) (cwV 1 hts (lw_V q3479 q3481 qs117 q151 q3482) rfl rfl rfl (by decide +kernel) ⟨Nat.le_of_ble_eq_true rfl, Nat.le_of_ble_eq_true rfl⟩) (g_recv hK I (g_at.of mG_obj) (ci := 4) rfl) rfl hl.1 rfl (Nat.le_of_ble_eq_true rfl) dX5_account_139 ⟨Nat.le_of_ble_eq_true rfl, Nat.le_of_ble_eq_true rfl⟩) I (fun r_139 ph1 H locs hp I => ?_)
      obtain ⟨hp, rfl⟩ := hp
      have hp : r_139 = cntH (a 5) 2 := hp
      subst hp
      exact g_iret S hr hlk I dX5_account_142 (Nat.le_of_ble_eq_true rfl) (Nat.le_of_ble_eq_true rfl) hQ ⟨_, rfl, (by simp only [if_neg (show ¬ btw p0 0 14 = false by rw [p_7]; decide)]; simp [accO, s22_11]), (by (try simp only [p_7]); (try simp [p_7, s22_11]))⟩
    by_cases s22_12 : p0 = 12
    · refine lv_tableIn (tgt := 143) hx hb dX5_account_22 (by rw [s22_12]; decide) (by rw [s22_12]; decide) (by rw [s22_12]; rfl) (by decide) ?_
      refine lv_aload_n hx hb dX5_account_143 rfl (lv_at hl 0 rfl) ?_
      refine g_ci (g_runV S hK I (As := []) (rest := []) (met_X5_onRack l Γ mo ad (upd f 0 0) a rr ph ) (cwV 0 hts (lw_V q3395 q3397 qs104 q151 q3398) rfl rfl rfl (by decide +kernel) ⟨Nat.le_of_ble_eq_true rfl, Nat.le_of_ble_eq_true rfl⟩) (g_recv hK I (g_at.of mG_obj) (ci := 4) rfl) rfl hl.1 rfl (Nat.le_of_ble_eq_true rfl) dX5_account_144 ⟨Nat.le_of_ble_eq_true rfl, Nat.le_of_ble_eq_true rfl⟩) I (fun r_144 ph1 H locs hp I => ?_)
      obtain ⟨hp, rfl⟩ := hp
      have hp : r_144 = onRk (a 19) := hp
      subst hp
      exact g_iret S hr hlk I dX5_account_147 (Nat.le_of_ble_eq_true rfl) (Nat.le_of_ble_eq_true rfl) hQ ⟨_, rfl, (by simp only [if_neg (show ¬ btw p0 0 14 = false by rw [p_7]; decide)]; simp [accO, s22_12]), (by (try simp only [p_7]); (try simp [p_7, s22_12]))⟩
    by_cases s22_13 : p0 = 13
    · refine lv_tableIn (tgt := 148) hx hb dX5_account_22 (by rw [s22_13]; decide) (by rw [s22_13]; decide) (by rw [s22_13]; rfl) (by decide) ?_
      refine lv_aload_n hx hb dX5_account_148 rfl (lv_at hl 0 rfl) ?_
      refine g_get S hK I k_X5 (v := .int (f 25)) (g_at.of mG_obj) 25 (by decide) q2977 rfl rfl dX5_account_149 ?_
      exact g_iret S hr hlk I dX5_account_152 (Nat.le_of_ble_eq_true rfl) (Nat.le_of_ble_eq_true rfl) hQ ⟨_, rfl, (by simp only [if_neg (show ¬ btw p0 0 14 = false by rw [p_7]; decide)]; simp [accO, s22_13]), (by (try simp only [p_7]); (try simp [p_7, s22_13]))⟩
    by_cases s22_14 : p0 = 14
    · refine lv_tableIn (tgt := 153) hx hb dX5_account_22 (by rw [s22_14]; decide) (by rw [s22_14]; decide) (by rw [s22_14]; rfl) (by decide) ?_
      refine lv_aload_n hx hb dX5_account_153 rfl (lv_at hl 0 rfl) ?_
      refine g_get S hK I k_X5 (v := .int (f 9)) (g_at.of mG_obj) 9 (by decide) q2961 rfl rfl dX5_account_154 ?_
      exact g_iret S hr hlk I dX5_account_157 (Nat.le_of_ble_eq_true rfl) (Nat.le_of_ble_eq_true rfl) hQ ⟨_, rfl, (by simp only [if_neg (show ¬ btw p0 0 14 = false by rw [p_7]; decide)]; simp [accO, s22_14]), (by (try simp only [p_7]); (try simp [p_7, s22_14]))⟩
    refine lv_tableOut (tgt := 158) hx hb dX5_account_22 (by have q0 := lv_neT (a := 0) s22_0 rfl; have q1 := lv_neT (a := 1) s22_1 rfl; have q2 := lv_neT (a := 2) s22_2 rfl; have q3 := lv_neT (a := 3) s22_3 rfl; have q4 := lv_neT (a := 4) s22_4 rfl; have q5 := lv_neT (a := 5) s22_5 rfl; have q6 := lv_neT (a := 6) s22_6 rfl; have q7 := lv_neT (a := 7) s22_7 rfl; have q8 := lv_neT (a := 8) s22_8 rfl; have q9 := lv_neT (a := 9) s22_9 rfl; have q10 := lv_neT (a := 10) s22_10 rfl; have q11 := lv_neT (a := 11) s22_11 rfl; have q12 := lv_neT (a := 12) s22_12 rfl; have q13 := lv_neT (a := 13) s22_13 rfl; have q14 := lv_neT (a := 14) s22_14 rfl; omega) (by decide) ?_
    refine lv_aload_n hx hb dX5_account_158 rfl (lv_at hl 0 rfl) ?_
    refine g_get S hK I k_X5 (v := .ref (ad 5)) (g_at.of mG_obj) 5 (by decide) q2957 rfl rfl dX5_account_159 ?_
    refine lv_sipush (v := 140) hx hb dX5_account_162 (by decide) ?_
    refine lv_iload_n hx hb dX5_account_165 rfl (lv_at hl 1 rfl) ?_
    refine lv_iadd hx hb dX5_account_166 ?_
    refine lv_iconst (v := 3) hx hb dX5_account_167 (by decide) ?_
    refine lv_isub hx hb dX5_account_168 ?_
    refine m_iald S hK I (f := (a 5)) (k := (137 + p0.toNatClampNeg)) (g_at.of mG_5) (acc_ix p_7 s22_0 s22_1 s22_2).1 (acc_ix p_7 s22_0 s22_1 s22_2).2 dX5_account_169 ?_
    exact g_iret S hr hlk I dX5_account_170 (Nat.le_of_ble_eq_true rfl) (Nat.le_of_ble_eq_true rfl) hQ ⟨_, rfl, (by simp only [if_neg (show ¬ btw p0 0 14 = false by rw [p_7]; decide)]; simp [accO, s22_0, s22_1, s22_2, s22_3, s22_4, s22_5, s22_6, s22_7, s22_8, s22_9, s22_10, s22_11, s22_12, s22_13, s22_14]), (by (try simp only [p_7]); (try simp [p_7, s22_0, s22_1, s22_2, s22_3, s22_4, s22_5, s22_6, s22_7, s22_8, s22_9, s22_10, s22_11, s22_12, s22_13, s22_14]))⟩
  · have p_7 := (b2i_eq0 _).mp c_7
    refine lv_aload_n hx hb dX5_account_10 rfl (lv_at hl 0 rfl) ?_
    refine lv_iconst (v := 1) hx hb dX5_account_11 (by decide) ?_
    refine g_ci (g_runV S hK I (As := [.int 1]) (rest := []) (met_X5_fails l Γ mo ad f a rr ph 1) (cwV 1 hts (lw_V q3056 q3058 qs51 q151 q3059) rfl rfl rfl (by decide +kernel) ⟨Nat.le_of_ble_eq_true rfl, Nat.le_of_ble_eq_true rfl⟩) (g_recv hK I (g_at.of mG_obj) (ci := 4) rfl) rfl hl.1 rfl (Nat.le_of_ble_eq_true rfl) dX5_account_12 ⟨Nat.le_of_ble_eq_true rfl, Nat.le_of_ble_eq_true rfl⟩) I (fun r_12 ph1 H locs hp I => ?_)
    obtain ⟨hp, rfl⟩ := hp
    have hp : r_12 = 0 := hp
    subst hp
    have I : g_I Γ (mG Γ mo ad (upd f 0 1) a rr ph) s H locs := I
    exact g_iret S hr hlk I dX5_account_15 (Nat.le_of_ble_eq_true rfl) (Nat.le_of_ble_eq_true rfl) hQ ⟨_, rfl, (by (try simp only [p_7]); (try simp [p_7])), (by (try simp only [p_7]); (try simp [p_7]))⟩

theorem un_lt {f : Nat → Int32} (h : okU f) (h9 : ¬ f 9 = 0) : f 9 - 1 = nI (rC f - 1) ∧ 1 ≤ rC f := by
  have h1 : 1 ≤ rC f := by
    rcases Nat.eq_zero_or_pos (rC f) with e | e
    · exact absurd (by rw [h.1.1, e]; rfl) h9
    · exact e
  refine ⟨?_, h1⟩
  rw [h.1.1]
  exact un_1 h1
def unS (f : Nat → Int32) : Nat := (rF f + (rC f - 1)) % 8
theorem un_s {f : Nat → Int32} (h : okU f) (h9 : ¬ f 9 = 0) : 170 * (f 10 + (f 9 - 1) - (f 10 + (f 9 - 1)) / 8 * 8) = nI (170 * unS f) := by
  obtain ⟨e, -⟩ := un_lt h h9
  have a1 := h.1.2
  have a2 := h.2.2
  rw [e, h.2.1, nI_add, show (8 : Int32) = nI 8 from rfl, pk_rem (by omega) (by decide) (by decide), show (170 : Int32) = nI 170 from rfl, pk_mul]
  rfl
theorem unS_lt {f : Nat → Int32} : unS f < 8 := Nat.mod_lt _ (by decide)
theorem us_in {f : Nat → Int32} {k : Nat} (hk : k < 170) : vp_in (nI (170 * unS f) + nI k) 1360 ∧ (nI (170 * unS f) + nI k).toNatClampNeg = 170 * unS f + k := ix_k (by have := unS_lt (f := f); omega) (by decide)
set_option maxHeartbeats 4000000 in
set_option maxRecDepth 100000 in
theorem met_X5_undo (l : Launch) (Γ : g_C) (mo : Nat) (ad : Nat → Nat) (f : Nat → Int32) (a : Nat → Nat → Int32) (rr : Nat → UInt32) (ph : g_H)  (hU : okU f) : g_Met l yX5_undo (ws_ yX5_undo cX5_undo 3 (some .int)) (g_rm 2 0 0) Γ [.ref mo] (mG Γ mo ad f a rr ph) (g_oi (fun v ph' => v = (if f 9 = 0 then 0 else f 9 - 1) ∧ ph' = mG Γ mo ad (if f 9 = 0 then upd f 0 1 else upd (upd f 0 0) 9 (f 9 - 1)) (if f 9 = 0 then a else va_up a 5 (va_cpy (a 6) (a 5) (170 * unS f) 0 170)) rr ph)) g_no := by
  refine g_start (y := yX5_undo) (cc := cX5_undo) (maxL := 3) (ret := (some .int)) (rm := g_rm 2 0 0) (by decide) (Nat.le_of_ble_eq_true rfl) ?_
  intro p e s m A below meth c ls Q hQ S hr hlk hex hnm hK I hl
  have hx := S.1
  have hb := S.2.1
  have hown := S.2.2.2.1
  have hts := S.2.2.2.2
  have S : CallFix p m c cX5_undo 3 s A lw_all "CrumblingWallModel" := S
  have hl : lv_has ls 3 [(0, .ref mo)] := hl
  refine lv_aload_n hx hb dX5_undo_0 rfl (lv_at hl 0 rfl) ?_
  refine g_get S hK I k_X5 (v := .int (f 9)) (g_at.of mG_obj) 9 (by decide) q2961 rfl rfl dX5_undo_1 ?_
  refine lv_if_ne (tgt := 13) hx hb dX5_undo_4 (by decide) (fun c_4 => ?_) (fun c_4 => ?_)
  · refine lv_aload_n hx hb dX5_undo_13 rfl (lv_at hl 0 rfl) ?_
    refine lv_iconst (v := 0) hx hb dX5_undo_14 (by decide) ?_
    refine g_put S hK I k_X5 (v := .int 0) mG_obj 0 (by decide) q2952 rfl rfl rfl rfl (Nat.le_of_ble_eq_true rfl) dX5_undo_15 (fun H locs I => ?_)
    have I := mI_f (f' := (upd f 0 0)) I rfl
    refine lv_aload_n hx hb dX5_undo_18 rfl (lv_at hl 0 rfl) ?_
    refine lv_dup hx hb dX5_undo_19 rfl ?_
    refine g_get S hK I k_X5 (v := .int (f 9)) (g_at.of mG_obj) 9 (by decide) q2961 rfl rfl dX5_undo_20 ?_
    refine lv_iconst (v := 1) hx hb dX5_undo_23 (by decide) ?_
    refine lv_isub hx hb dX5_undo_24 ?_
    refine g_put S hK I k_X5 (v := .int ((f 9) - 1)) mG_obj 9 (by decide) q2961 rfl rfl rfl rfl (Nat.le_of_ble_eq_true rfl) dX5_undo_25 (fun H locs I => ?_)
    have I := mI_f (f' := (upd (upd f 0 0) 9 ((f 9) - 1))) I rfl
    refine lv_sipush (v := 170) hx hb dX5_undo_28 (by decide) ?_
    refine lv_aload_n hx hb dX5_undo_31 rfl (lv_at hl 0 rfl) ?_
    refine g_get S hK I k_X5 (v := .int (f 10)) (g_at.of mG_obj) 10 (by decide) q2962 rfl rfl dX5_undo_32 ?_
    refine lv_aload_n hx hb dX5_undo_35 rfl (lv_at hl 0 rfl) ?_
    refine g_get S hK I k_X5 (v := .int ((f 9) - 1)) (g_at.of mG_obj) 9 (by decide) q2961 rfl rfl dX5_undo_36 ?_
    refine lv_iadd hx hb dX5_undo_39 ?_
    refine lv_bipush (v := 8) hx hb dX5_undo_40 (by decide) ?_
    refine lv_irem hx hb dX5_undo_42 (by decide) ?_
    refine lv_imul hx hb dX5_undo_43 ?_
    rw [show (170 * (((f 10) + ((f 9) - 1)) - ((f 10) + ((f 9) - 1)) / 8 * 8)) = nI (170 * unS f) from un_s hU c_4]
    refine lv_istore_n (lv' := [(1, .int (nI (170 * unS f))), (0, .ref mo)]) hx hb dX5_undo_44 rfl hl (by decide) rfl (fun ls hl => ?_)
    refine lv_iconst (v := 0) hx hb dX5_undo_45 (by decide) ?_
    refine lv_istore_n (lv' := [(2, .int 0), (1, .int (nI (170 * unS f))), (0, .ref mo)]) hx hb dX5_undo_46 rfl hl (by decide) rfl (fun ls hl => ?_)
    have I := mI_ea I (show a = (va_up a 5 (va_cpy (a 6) (a 5) (170 * unS f) 0 0)) from by rw [cpy_0]; exact (va_upI _ _ rfl).symm)
    have L_47 : ∀ (d : Nat) (k : Nat), (hk : k ≤ 170) → 170 - k < d → ∀ (H : Heap) (locs : List Loc) (ls : Array Slot), g_I Γ (mG Γ mo ad (upd (upd f 0 0) 9 ((f 9) - 1)) (va_up a 5 (va_cpy (a 6) (a 5) (170 * unS f) 0 k)) rr ph) s H locs → lv_has ls 3 [(0, .ref mo), (1, .int (nI (170 * unS f))), (2, .int (nI k))] → W p l e (g_rm 2 0 0) s m A below meth c H locs 0 0 Q (F0 m 47 ls []) := by
      intro d
      induction d with
      | zero => intro k hk hd; exact absurd hd (Nat.not_lt_zero _)
      | succ d ih =>
        intro k hk hd H locs ls I hl
        refine lv_iload_n hx hb dX5_undo_47 rfl (lv_at hl 2 rfl) ?_
        refine lv_sipush (v := 170) hx hb dX5_undo_48 (by decide) ?_
        refine lv_icmp_ge (tgt := 74) hx hb dX5_undo_51 (by decide) (fun c_51 => ?_) (fun c_51 => ?_)
        · have n_51 := Int32.not_lt.mpr c_51
          obtain rfl : k = 170 := k_ge (x := 170) rfl (by decide) hk c_51
          refine lv_aload_n hx hb dX5_undo_74 rfl (lv_at hl 0 rfl) ?_
          refine g_get S hK I k_X5 (v := .int ((f 9) - 1)) (g_at.of mG_obj) 9 (by decide) q2961 rfl rfl dX5_undo_75 ?_
          exact g_iret S hr hlk I dX5_undo_78 (Nat.le_of_ble_eq_true rfl) (Nat.le_of_ble_eq_true rfl) hQ ⟨_, rfl, (by (try simp [c_4, c_51, n_51])), (by (try simp [c_4, c_51, n_51]))⟩
        · have n_51 := Int32.not_le.mp c_51
          have hkl : k < 170 := k_lt (x := 170) rfl (by decide) hk c_51
          refine lv_aload_n hx hb dX5_undo_54 rfl (lv_at hl 0 rfl) ?_
          refine g_get S hK I k_X5 (v := .ref (ad 5)) (g_at.of mG_obj) 5 (by decide) q2957 rfl rfl dX5_undo_55 ?_
          refine lv_iload_n hx hb dX5_undo_58 rfl (lv_at hl 2 rfl) ?_
          refine lv_aload_n hx hb dX5_undo_59 rfl (lv_at hl 0 rfl) ?_
          refine g_get S hK I k_X5 (v := .ref (ad 6)) (g_at.of mG_obj) 6 (by decide) q2958 rfl rfl dX5_undo_60 ?_
          refine lv_iload_n hx hb dX5_undo_63 rfl (lv_at hl 1 rfl) ?_
          refine lv_iload_n hx hb dX5_undo_64 rfl (lv_at hl 2 rfl) ?_
          refine lv_iadd hx hb dX5_undo_65 ?_
          refine m_iald S hK I (f := (a 6)) (k := (170 * unS f + k)) (g_at.of mG_6) (us_in hkl).1 (us_in hkl).2 dX5_undo_66 ?_
          refine m_iast S hK I (f := (va_cpy (a 6) (a 5) (170 * unS f) 0 k)) (k := k) mG_5 (lt170 rfl hkl).1 (lt170 rfl hkl).2 dX5_undo_67 (fun H locs I => ?_)
          have I := mI_5 I
          rw [bx_uu] at I
          rw [cpy_s1] at I
          refine lv_iinc (v := nI (k + 1)) (lv' := [(2, .int (nI (k + 1))), (0, .ref mo), (1, .int (nI (170 * unS f)))]) hx hb dX5_undo_68 hl (k := 2) rfl (nI_1 k) (by decide) rfl (fun ls hl => ?_)
          refine lv_goto (tgt := 47) hx hb dX5_undo_71 (by decide) ?_
          exact ih (k + 1) hkl (by omega) _ _ _ I (lv_sub hl [1, 2, 0] rfl)
    exact L_47 _ 0 (Nat.zero_le _) (Nat.lt_succ_self _) _ _ _ I (lv_sub hl [2, 1, 0] rfl)
  · refine lv_aload_n hx hb dX5_undo_7 rfl (lv_at hl 0 rfl) ?_
    refine lv_iconst (v := 1) hx hb dX5_undo_8 (by decide) ?_
    refine g_ci (g_runV S hK I (As := [.int 1]) (rest := []) (met_X5_fails l Γ mo ad f a rr ph 1) (cwV 1 hts (lw_V q3056 q3058 qs51 q151 q3059) rfl rfl rfl (by decide +kernel) ⟨Nat.le_of_ble_eq_true rfl, Nat.le_of_ble_eq_true rfl⟩) (g_recv hK I (g_at.of mG_obj) (ci := 4) rfl) rfl hl.1 rfl (Nat.le_of_ble_eq_true rfl) dX5_undo_9 ⟨Nat.le_of_ble_eq_true rfl, Nat.le_of_ble_eq_true rfl⟩) I (fun r_9 ph1 H locs hp I => ?_)
    obtain ⟨hp, rfl⟩ := hp
    have hp : r_9 = 0 := hp
    subst hp
    have I : g_I Γ (mG Γ mo ad (upd f 0 1) a rr ph) s H locs := I
    exact g_iret S hr hlk I dX5_undo_12 (Nat.le_of_ble_eq_true rfl) (Nat.le_of_ble_eq_true rfl) hQ ⟨_, rfl, (by (try simp [c_4])), (by (try simp [c_4]))⟩

set_option maxHeartbeats 4000000 in
set_option maxRecDepth 100000 in
theorem met_X5_save (l : Launch) (Γ : g_C) (mo : Nat) (ad : Nat → Nat) (f : Nat → Int32) (a : Nat → Nat → Int32) (rr : Nat → UInt32) (ph : g_H) : g_Met l yX5_save (ws_ yX5_save cX5_save 2 (some .int)) (g_rm 1 0 0) Γ [.ref mo] (mG Γ mo ad f a rr ph) (g_oi (fun v ph' => v = ((a 5) 0) ∧ ph' = mG Γ mo ad (upd (upd f 0 0) 11 1) (va_up a 7 (va_cpy (a 5) (a 7) 0 0 170)) rr ph)) g_no := by
  refine g_start (y := yX5_save) (cc := cX5_save) (maxL := 2) (ret := (some .int)) (rm := g_rm 1 0 0) (by decide) (Nat.le_of_ble_eq_true rfl) ?_
  intro p e s m A below meth c ls Q hQ S hr hlk hex hnm hK I hl
  have hx := S.1
  have hb := S.2.1
  have hown := S.2.2.2.1
  have hts := S.2.2.2.2
  have S : CallFix p m c cX5_save 2 s A lw_all "CrumblingWallModel" := S
  have hl : lv_has ls 2 [(0, .ref mo)] := hl
  refine lv_aload_n hx hb dX5_save_0 rfl (lv_at hl 0 rfl) ?_
  refine lv_iconst (v := 0) hx hb dX5_save_1 (by decide) ?_
  refine g_put S hK I k_X5 (v := .int 0) mG_obj 0 (by decide) q2952 rfl rfl rfl rfl (Nat.le_of_ble_eq_true rfl) dX5_save_2 (fun H locs I => ?_)
  have I := mI_f (f' := (upd f 0 0)) I rfl
  refine lv_iconst (v := 0) hx hb dX5_save_5 (by decide) ?_
  refine lv_istore_n (lv' := [(1, .int 0), (0, .ref mo)]) hx hb dX5_save_6 rfl hl (by decide) rfl (fun ls hl => ?_)
  have I := mI_ea I (show a = (va_up a 7 (va_cpy (a 5) (a 7) 0 0 0)) from by rw [cpy_0]; exact (va_upI _ _ rfl).symm)
  have L_7 : ∀ (d : Nat) (k : Nat), (hk : k ≤ 170) → 170 - k < d → ∀ (H : Heap) (locs : List Loc) (ls : Array Slot), g_I Γ (mG Γ mo ad (upd f 0 0) (va_up a 7 (va_cpy (a 5) (a 7) 0 0 k)) rr ph) s H locs → lv_has ls 2 [(0, .ref mo), (1, .int (nI k))] → W p l e (g_rm 1 0 0) s m A below meth c H locs 0 0 Q (F0 m 7 ls []) := by
    intro d
    induction d with
    | zero => intro k hk hd; exact absurd hd (Nat.not_lt_zero _)
    | succ d ih =>
      intro k hk hd H locs ls I hl
      refine lv_iload_n hx hb dX5_save_7 rfl (lv_at hl 1 rfl) ?_
      refine lv_sipush (v := 170) hx hb dX5_save_8 (by decide) ?_
      refine lv_icmp_ge (tgt := 32) hx hb dX5_save_11 (by decide) (fun c_11 => ?_) (fun c_11 => ?_)
      · have n_11 := Int32.not_lt.mpr c_11
        obtain rfl : k = 170 := k_ge (x := 170) rfl (by decide) hk c_11
        refine lv_aload_n hx hb dX5_save_32 rfl (lv_at hl 0 rfl) ?_
        refine lv_iconst (v := 1) hx hb dX5_save_33 (by decide) ?_
        refine g_put S hK I k_X5 (v := .int 1) mG_obj 11 (by decide) q2963 rfl rfl rfl rfl (Nat.le_of_ble_eq_true rfl) dX5_save_34 (fun H locs I => ?_)
        have I := mI_f (f' := (upd (upd f 0 0) 11 1)) I rfl
        refine lv_aload_n hx hb dX5_save_37 rfl (lv_at hl 0 rfl) ?_
        refine g_get S hK I k_X5 (v := .ref (ad 5)) (g_at.of mG_obj) 5 (by decide) q2957 rfl rfl dX5_save_38 ?_
        refine lv_iconst (v := 0) hx hb dX5_save_41 (by decide) ?_
        refine m_iald S hK I (f := (a 5)) (k := 0) (g_at.of mG_5) (vp_lit (by decide)) (by decide) dX5_save_42 ?_
        exact g_iret S hr hlk I dX5_save_43 (Nat.le_of_ble_eq_true rfl) (Nat.le_of_ble_eq_true rfl) hQ ⟨_, rfl, rfl, rfl⟩
      · have n_11 := Int32.not_le.mp c_11
        have hkl : k < 170 := k_lt (x := 170) rfl (by decide) hk c_11
        refine lv_aload_n hx hb dX5_save_14 rfl (lv_at hl 0 rfl) ?_
        refine g_get S hK I k_X5 (v := .ref (ad 7)) (g_at.of mG_obj) 7 (by decide) q2959 rfl rfl dX5_save_15 ?_
        refine lv_iload_n hx hb dX5_save_18 rfl (lv_at hl 1 rfl) ?_
        refine lv_aload_n hx hb dX5_save_19 rfl (lv_at hl 0 rfl) ?_
        refine g_get S hK I k_X5 (v := .ref (ad 5)) (g_at.of mG_obj) 5 (by decide) q2957 rfl rfl dX5_save_20 ?_
        refine lv_iload_n hx hb dX5_save_23 rfl (lv_at hl 1 rfl) ?_
        refine m_iald S hK I (f := (a 5)) (k := k) (g_at.of mG_5) (lt170 rfl hkl).1 (lt170 rfl hkl).2 dX5_save_24 ?_
        refine m_iast S hK I (f := (va_cpy (a 5) (a 7) 0 0 k)) (k := k) mG_7 (lt170 rfl hkl).1 (lt170 rfl hkl).2 dX5_save_25 (fun H locs I => ?_)
        have I := mI_7 I
        rw [bx_uu] at I
        rw [cpy_s00] at I
        refine lv_iinc (v := nI (k + 1)) (lv' := [(1, .int (nI (k + 1))), (0, .ref mo)]) hx hb dX5_save_26 hl (k := 1) rfl (nI_1 k) (by decide) rfl (fun ls hl => ?_)
        refine lv_goto (tgt := 7) hx hb dX5_save_29 (by decide) ?_
        exact ih (k + 1) hkl (by omega) _ _ _ I (lv_sub hl [1, 0] rfl)
  exact L_7 _ 0 (Nat.zero_le _) (Nat.lt_succ_self _) _ _ _ I (lv_sub hl [1, 0] rfl)

set_option maxHeartbeats 4000000 in
set_option maxRecDepth 100000 in
theorem met_X5_restore (l : Launch) (Γ : g_C) (mo : Nat) (ad : Nat → Nat) (f : Nat → Int32) (a : Nat → Nat → Int32) (rr : Nat → UInt32) (ph : g_H) : g_Met l yX5_restore (ws_ yX5_restore cX5_restore 2 (some .int)) (g_rm 2 0 0) Γ [.ref mo] (mG Γ mo ad f a rr ph) (g_oi (fun v ph' => v = (if f 11 = 0 then 0 else (va_cpy (a 7) (a 5) 0 0 170) 0) ∧ ph' = mG Γ mo ad (if f 11 = 0 then upd f 0 1 else upd (upd (upd f 0 0) 9 0) 10 0) (if f 11 = 0 then a else va_up a 5 (va_cpy (a 7) (a 5) 0 0 170)) rr ph)) g_no := by
  refine g_start (y := yX5_restore) (cc := cX5_restore) (maxL := 2) (ret := (some .int)) (rm := g_rm 2 0 0) (by decide) (Nat.le_of_ble_eq_true rfl) ?_
  intro p e s m A below meth c ls Q hQ S hr hlk hex hnm hK I hl
  have hx := S.1
  have hb := S.2.1
  have hown := S.2.2.2.1
  have hts := S.2.2.2.2
  have S : CallFix p m c cX5_restore 2 s A lw_all "CrumblingWallModel" := S
  have hl : lv_has ls 2 [(0, .ref mo)] := hl
  refine lv_aload_n hx hb dX5_restore_0 rfl (lv_at hl 0 rfl) ?_
  refine g_get S hK I k_X5 (v := .int (f 11)) (g_at.of mG_obj) 11 (by decide) q2963 rfl rfl dX5_restore_1 ?_
  refine lv_if_ne (tgt := 13) hx hb dX5_restore_4 (by decide) (fun c_4 => ?_) (fun c_4 => ?_)
  · refine lv_aload_n hx hb dX5_restore_13 rfl (lv_at hl 0 rfl) ?_
    refine lv_iconst (v := 0) hx hb dX5_restore_14 (by decide) ?_
    refine g_put S hK I k_X5 (v := .int 0) mG_obj 0 (by decide) q2952 rfl rfl rfl rfl (Nat.le_of_ble_eq_true rfl) dX5_restore_15 (fun H locs I => ?_)
    have I := mI_f (f' := (upd f 0 0)) I rfl
    refine lv_iconst (v := 0) hx hb dX5_restore_18 (by decide) ?_
    refine lv_istore_n (lv' := [(1, .int 0), (0, .ref mo)]) hx hb dX5_restore_19 rfl hl (by decide) rfl (fun ls hl => ?_)
    have I := mI_ea I (show a = (va_up a 5 (va_cpy (a 7) (a 5) 0 0 0)) from by rw [cpy_0]; exact (va_upI _ _ rfl).symm)
    have L_20 : ∀ (d : Nat) (k : Nat), (hk : k ≤ 170) → 170 - k < d → ∀ (H : Heap) (locs : List Loc) (ls : Array Slot), g_I Γ (mG Γ mo ad (upd f 0 0) (va_up a 5 (va_cpy (a 7) (a 5) 0 0 k)) rr ph) s H locs → lv_has ls 2 [(0, .ref mo), (1, .int (nI k))] → W p l e (g_rm 2 0 0) s m A below meth c H locs 0 0 Q (F0 m 20 ls []) := by
      intro d
      induction d with
      | zero => intro k hk hd; exact absurd hd (Nat.not_lt_zero _)
      | succ d ih =>
        intro k hk hd H locs ls I hl
        refine lv_iload_n hx hb dX5_restore_20 rfl (lv_at hl 1 rfl) ?_
        refine lv_sipush (v := 170) hx hb dX5_restore_21 (by decide) ?_
        refine lv_icmp_ge (tgt := 45) hx hb dX5_restore_24 (by decide) (fun c_24 => ?_) (fun c_24 => ?_)
        · have n_24 := Int32.not_lt.mpr c_24
          obtain rfl : k = 170 := k_ge (x := 170) rfl (by decide) hk c_24
          refine lv_aload_n hx hb dX5_restore_45 rfl (lv_at hl 0 rfl) ?_
          refine lv_iconst (v := 0) hx hb dX5_restore_46 (by decide) ?_
          refine g_put S hK I k_X5 (v := .int 0) mG_obj 9 (by decide) q2961 rfl rfl rfl rfl (Nat.le_of_ble_eq_true rfl) dX5_restore_47 (fun H locs I => ?_)
          have I := mI_f (f' := (upd (upd f 0 0) 9 0)) I rfl
          refine lv_aload_n hx hb dX5_restore_50 rfl (lv_at hl 0 rfl) ?_
          refine lv_iconst (v := 0) hx hb dX5_restore_51 (by decide) ?_
          refine g_put S hK I k_X5 (v := .int 0) mG_obj 10 (by decide) q2962 rfl rfl rfl rfl (Nat.le_of_ble_eq_true rfl) dX5_restore_52 (fun H locs I => ?_)
          have I := mI_f (f' := (upd (upd (upd f 0 0) 9 0) 10 0)) I rfl
          refine lv_aload_n hx hb dX5_restore_55 rfl (lv_at hl 0 rfl) ?_
          refine g_get S hK I k_X5 (v := .ref (ad 5)) (g_at.of mG_obj) 5 (by decide) q2957 rfl rfl dX5_restore_56 ?_
          refine lv_iconst (v := 0) hx hb dX5_restore_59 (by decide) ?_
          refine m_iald S hK I (f := (va_cpy (a 7) (a 5) 0 0 170)) (k := 0) (g_at.of mG_5) (vp_lit (by decide)) (by decide) dX5_restore_60 ?_
          exact g_iret S hr hlk I dX5_restore_61 (Nat.le_of_ble_eq_true rfl) (Nat.le_of_ble_eq_true rfl) hQ ⟨_, rfl, (by (try simp [c_4, c_24, n_24])), (by (try simp [c_4, c_24, n_24]))⟩
        · have n_24 := Int32.not_le.mp c_24
          have hkl : k < 170 := k_lt (x := 170) rfl (by decide) hk c_24
          refine lv_aload_n hx hb dX5_restore_27 rfl (lv_at hl 0 rfl) ?_
          refine g_get S hK I k_X5 (v := .ref (ad 5)) (g_at.of mG_obj) 5 (by decide) q2957 rfl rfl dX5_restore_28 ?_
          refine lv_iload_n hx hb dX5_restore_31 rfl (lv_at hl 1 rfl) ?_
          refine lv_aload_n hx hb dX5_restore_32 rfl (lv_at hl 0 rfl) ?_
          refine g_get S hK I k_X5 (v := .ref (ad 7)) (g_at.of mG_obj) 7 (by decide) q2959 rfl rfl dX5_restore_33 ?_
          refine lv_iload_n hx hb dX5_restore_36 rfl (lv_at hl 1 rfl) ?_
          refine m_iald S hK I (f := (a 7)) (k := k) (g_at.of mG_7) (lt170 rfl hkl).1 (lt170 rfl hkl).2 dX5_restore_37 ?_
          refine m_iast S hK I (f := (va_cpy (a 7) (a 5) 0 0 k)) (k := k) mG_5 (lt170 rfl hkl).1 (lt170 rfl hkl).2 dX5_restore_38 (fun H locs I => ?_)
          have I := mI_5 I
          rw [bx_uu] at I
          rw [cpy_s00] at I
          refine lv_iinc (v := nI (k + 1)) (lv' := [(1, .int (nI (k + 1))), (0, .ref mo)]) hx hb dX5_restore_39 hl (k := 1) rfl (nI_1 k) (by decide) rfl (fun ls hl => ?_)
          refine lv_goto (tgt := 20) hx hb dX5_restore_42 (by decide) ?_
          exact ih (k + 1) hkl (by omega) _ _ _ I (lv_sub hl [1, 0] rfl)
    exact L_20 _ 0 (Nat.zero_le _) (Nat.lt_succ_self _) _ _ _ I (lv_sub hl [1, 0] rfl)
  · refine lv_aload_n hx hb dX5_restore_7 rfl (lv_at hl 0 rfl) ?_
    refine lv_iconst (v := 1) hx hb dX5_restore_8 (by decide) ?_
    refine g_ci (g_runV S hK I (As := [.int 1]) (rest := []) (met_X5_fails l Γ mo ad f a rr ph 1) (cwV 1 hts (lw_V q3056 q3058 qs51 q151 q3059) rfl rfl rfl (by decide +kernel) ⟨Nat.le_of_ble_eq_true rfl, Nat.le_of_ble_eq_true rfl⟩) (g_recv hK I (g_at.of mG_obj) (ci := 4) rfl) rfl hl.1 rfl (Nat.le_of_ble_eq_true rfl) dX5_restore_9 ⟨Nat.le_of_ble_eq_true rfl, Nat.le_of_ble_eq_true rfl⟩) I (fun r_9 ph1 H locs hp I => ?_)
    obtain ⟨hp, rfl⟩ := hp
    have hp : r_9 = 0 := hp
    subst hp
    have I : g_I Γ (mG Γ mo ad (upd f 0 1) a rr ph) s H locs := I
    exact g_iret S hr hlk I dX5_restore_12 (Nat.le_of_ble_eq_true rfl) (Nat.le_of_ble_eq_true rfl) hQ ⟨_, rfl, (by (try simp [c_4])), (by (try simp [c_4]))⟩


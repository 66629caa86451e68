/-! THE REFERENCE: what changes the wall, in pieces -/
set_option maxRecDepth 100000
theorem va_upI {α : Type} (f : Nat → α) (k : Nat) {v : α} (h : v = f k) : va_up f k v = f := by
  funext j
  unfold va_up
  split
  · rename_i e; rw [e, h]
  · rfl
theorem ix_lk {k t : Nat} (hk : k < 4) (ht : t < 5) : vp_in (105 + 5 * nI k + nI t) 170 ∧ (105 + 5 * nI k + nI t).toNatClampNeg = 105 + 5 * k + t := by
  have h := ix_l (h := nI k) (t := nI t) (vp_in_nI hk (by decide)) (vp_in_nI ht (by decide))
  rw [nI_clamp (by omega), nI_clamp (by omega)] at h
  exact h
theorem lX_k {w : m_w} {k t : Nat} (hk : k < 4) : lX w (nI k) t = w (105 + 5 * k + t) := by
  unfold lX
  rw [nI_clamp (by omega)]
theorem cpy_s {f g : Nat → Int32} {sp dp k : Nat} : upd (va_cpy f g sp dp k) (dp + k) (f (sp + k)) = va_cpy f g sp dp (k + 1) := by
  funext j
  unfold upd va_cpy
  by_cases h : j = dp + k
  · subst h
    rw [if_pos rfl, if_pos ⟨by omega, by omega⟩, Nat.add_sub_cancel_left]
  · rw [if_neg h]
    by_cases h2 : dp ≤ j ∧ j < dp + k
    · rw [if_pos h2, if_pos ⟨h2.1, by omega⟩]
    · rw [if_neg h2, if_neg (by omega)]
theorem cpy_s0 {f g : Nat → Int32} {dp k : Nat} : upd (va_cpy f g 0 dp k) (dp + k) (f k) = va_cpy f g 0 dp (k + 1) := by
  have h := cpy_s (f := f) (g := g) (sp := 0) (dp := dp) (k := k)
  rw [Nat.zero_add] at h
  exact h
theorem cpy_s1 {f g : Nat → Int32} {sp k : Nat} : upd (va_cpy f g sp 0 k) k (f (sp + k)) = va_cpy f g sp 0 (k + 1) := by
  have h := cpy_s (f := f) (g := g) (sp := sp) (dp := 0) (k := k)
  rw [Nat.zero_add] at h
  exact h
theorem cpy_s00 {f g : Nat → Int32} {k : Nat} : upd (va_cpy f g 0 0 k) k (f k) = va_cpy f g 0 0 (k + 1) := by
  have h := cpy_s0 (f := f) (g := g) (dp := 0) (k := k)
  rw [Nat.zero_add] at h
  exact h
theorem cpy_0 {f g : Nat → Int32} {sp dp : Nat} : va_cpy f g sp dp 0 = g := by
  funext j
  unfold va_cpy
  rw [if_neg (by omega)]
theorem lt170 {k : Nat} {x : Int32} (hx : x = nI 170) (h : k < 170) : vp_in (nI k) 170 ∧ (nI k).toNatClampNeg = k := ⟨vp_in_nI h (by decide), nI_clamp (by omega)⟩
theorem burnN_skip {w : m_w} {k : Nat} (h : burnN w k (105 + 5 * k + 4) = 0) : burnN w (k + 1) = burnN w k := by
  show burn _ _ = _
  unfold burn
  rw [if_pos h]
theorem burnN_do {w : m_w} {k : Nat} {x : Int32} (h : ¬ burnN w k (105 + 5 * k + 4) = 0) (hx : x = if 0 < burnN w k (105 + 5 * k + 3) - 1 then 1 else 0) : burnN w (k + 1) = upd (upd (burnN w k) (105 + 5 * k + 3) (burnN w k (105 + 5 * k + 3) - 1)) (105 + 5 * k + 4) x := by
  show burn _ _ = _
  unfold burn
  rw [if_neg h, hx]
theorem okP_in {w : m_w} {p : Int32} (hw : WF w) (h : okP w p) (hp : ¬ p = -1) : vp_in p 20 := hw.h20 (h.resolve_left hp)
theorem sub1c {c : Int32} (h : vp_in c 2) : vp_in (1 - c) 2 := by
  obtain ⟨j, h1, rfl, -⟩ := vp_j h (by decide)
  rcases (show j = 0 ∨ j = 1 by omega) with rfl | rfl <;> exact vp_lit (by decide)
set_option maxHeartbeats 4000000 in
set_option maxRecDepth 100000 in
theorem met_X5_mayNotMove (l : Launch) (Γ : g_C) (mo : Nat) (ad : Nat → Nat) (f : Nat → Int32) (a : Nat → Nat → Int32) (rr : Nat → UInt32) (ph : g_H) (p0 : Int32) (p1 : Int32) (hw : WF (a 5)) (h0 : vp_in p0 2) (h1 : okP (a 5) p1) : g_Met l yX5_mayNotMove (ws_ yX5_mayNotMove cX5_mayNotMove 6 (some .boolean)) (g_rm 5 0 0) Γ [.ref mo, .int p0, .int p1] (mG Γ mo ad f a rr ph) (g_oi (fun v ph' => v = (b2i ((nMove (a 5) p0 p1).isSome)) ∧ ph' = mG Γ mo ad (m_hin f (nMove (a 5) p0 p1)) a rr ph)) g_no := by
  refine g_start (y := yX5_mayNotMove) (cc := cX5_mayNotMove) (maxL := 6) (ret := (some .boolean)) (rm := g_rm 5 0 0) (by decide) (Nat.le_of_ble_eq_true rfl) ?_
  intro p e s m A below meth c ls Q hQ S hr hlk hex hnm hK I hl
  have hx := S.1
  have hb := S.2.1
  have hown := S.2.2.2.1
  have hts := S.2.2.2.2
  have S : CallFix p m c cX5_mayNotMove 6 s A lw_all "CrumblingWallModel" := S
  have hl : lv_has ls 6 [(0, .ref mo), (1, .int p0), (2, .int p1)] := hl
  refine lv_iload_n hx hb dX5_mayNotMove_0 rfl (lv_at hl 2 rfl) ?_
  refine lv_iconst (v := (-1)) hx hb dX5_mayNotMove_1 (by decide) ?_
  have J_10_0 : ∀ (x1 : Int32) (H : Heap) (locs : List Loc) (ls : Array Slot), (hx1 : x1 = (b2i (decide (¬ p1 = -1)))) → g_I Γ (mG Γ mo ad f a rr ph) s H locs → lv_has ls 6 [(0, .ref mo), (1, .int p0), (2, .int p1)] → W p l e (g_rm 5 0 0) s m A below meth c H locs 0 0 Q (F0 m 10 ls [.int x1]) := by
    intro x1 H locs ls hx1 I hl
    subst hx1
    refine lv_istore_n (lv' := [(3, .int (b2i (decide (¬ p1 = -1)))), (0, .ref mo), (1, .int p0), (2, .int p1)]) hx hb dX5_mayNotMove_10 rfl hl (by decide) rfl (fun ls hl => ?_)
    refine lv_aload_n hx hb dX5_mayNotMove_11 rfl (lv_at hl 1 rfl) ?_
    refine lv_aload_n hx hb dX5_mayNotMove_12 rfl (lv_at hl 1 rfl) ?_
    refine lv_iload_n hx hb dX5_mayNotMove_13 rfl (lv_at hl 2 rfl) ?_
    refine g_ci (g_runV S hK I (As := [.int p0]) (rest := [.ref mo]) (met_X5_place l Γ mo ad f a rr ph p0 h0) (cwV 1 hts (lw_V q3095 q3097 qs59 q151 q3098) rfl rfl rfl (by decide +kernel) ⟨Nat.le_of_ble_eq_true rfl, Nat.le_of_ble_eq_true rfl⟩) (g_recv hK I (g_at.of mG_obj) (ci := 4) rfl) rfl hl.1 rfl (Nat.le_of_ble_eq_true rfl) dX5_mayNotMove_14 ⟨Nat.le_of_ble_eq_true rfl, Nat.le_of_ble_eq_true rfl⟩) I (fun r_14 ph1 H locs hp I => ?_)
    obtain ⟨hp, rfl⟩ := hp
    have hp : r_14 = plc (a 5) p0 := hp
    subst hp
    refine lv_iload_n hx hb dX5_mayNotMove_17 rfl (lv_at hl 3 rfl) ?_
    refine g_ci (g_runV S hK I (As := [.int (plc (a 5) p0), .int p1]) (rest := []) (met_X5_distance l Γ mo ad f a rr ph (plc (a 5) p0) p1 (br_isPl hw (hw.pl h0)) (br_isPl hw h1)) (cwV 2 hts (lw_V q3107 q3109 qs62 q151 q3110) rfl rfl rfl (by decide +kernel) ⟨Nat.le_of_ble_eq_true rfl, Nat.le_of_ble_eq_true rfl⟩) (g_recv hK I (g_at.of mG_obj) (ci := 4) rfl) rfl hl.1 rfl (Nat.le_of_ble_eq_true rfl) dX5_mayNotMove_18 ⟨Nat.le_of_ble_eq_true rfl, Nat.le_of_ble_eq_true rfl⟩) I (fun r_18 ph1 H locs hp I => ?_)
    obtain ⟨hp, rfl⟩ := hp
    have hp : r_18 = dst (a 5) (plc (a 5) p0) p1 := hp
    subst hp
    refine lv_istore (lv' := [(4, .int (dst (a 5) (plc (a 5) p0) p1)), (3, .int (b2i (decide (¬ p1 = -1)))), (0, .ref mo), (1, .int p0), (2, .int p1)]) hx hb dX5_mayNotMove_21 hl (by decide) rfl (fun ls hl => ?_)
    refine lv_iload_n hx hb dX5_mayNotMove_23 rfl (lv_at hl 3 rfl) ?_
    have J_50_1 : ∀ (x2 : Int32) (H : Heap) (locs : List Loc) (ls : Array Slot), (hx2 : x2 = (ropeTo (a 5) p0 p1)) → g_I Γ (mG Γ mo ad f a rr ph) s H locs → lv_has ls 6 [(4, .int (dst (a 5) (plc (a 5) p0) p1)), (3, .int (b2i (decide (¬ p1 = -1)))), (0, .ref mo), (1, .int p0), (2, .int p1)] → W p l e (g_rm 5 0 0) s m A below meth c H locs 0 0 Q (F0 m 50 ls [.int x2]) := by
      intro x2 H locs ls hx2 I hl
      subst hx2
      refine lv_istore (lv' := [(5, .int (ropeTo (a 5) p0 p1)), (4, .int (dst (a 5) (plc (a 5) p0) p1)), (3, .int (b2i (decide (¬ p1 = -1)))), (0, .ref mo), (1, .int p0), (2, .int p1)]) hx hb dX5_mayNotMove_50 hl (by decide) rfl (fun ls hl => ?_)
      refine lv_aload_n hx hb dX5_mayNotMove_52 rfl (lv_at hl 3 rfl) ?_
      refine lv_iload_n hx hb dX5_mayNotMove_53 rfl (lv_at hl 4 rfl) ?_
      refine lv_iconst (v := 1) hx hb dX5_mayNotMove_54 (by decide) ?_
      refine g_ci (g_runV S hK I (As := [.int p0, .int 1]) (rest := []) (met_X5_ofClimber l Γ mo ad f a rr ph p0 1 h0 (vp_lit (by decide))) (cwV 2 hts (lw_V q3099 q3101 qs60 q151 q3102) rfl rfl rfl (by decide +kernel) ⟨Nat.le_of_ble_eq_true rfl, Nat.le_of_ble_eq_true rfl⟩) (g_recv hK I (g_at.of mG_obj) (ci := 4) rfl) rfl hl.1 rfl (Nat.le_of_ble_eq_true rfl) dX5_mayNotMove_55 ⟨Nat.le_of_ble_eq_true rfl, Nat.le_of_ble_eq_true rfl⟩) I (fun r_55 ph1 H locs hp I => ?_)
      obtain ⟨hp, rfl⟩ := hp
      have hp : r_55 = cX (a 5) p0 1 := hp
      subst hp
      refine lv_iconst (v := 2) hx hb dX5_mayNotMove_58 (by decide) ?_
      refine lv_icmp_ne (tgt := 69) hx hb dX5_mayNotMove_59 (by decide) (fun c_59 => ?_) (fun c_59 => ?_)
      · refine lv_iload_n hx hb dX5_mayNotMove_69 rfl (lv_at hl 2 rfl) ?_
        have J_88_2 : ∀ (H : Heap) (locs : List Loc) (ls : Array Slot), (h2 : ¬ (¬ p1 = -1 ∧ hasCr (a 5) p1 = true)) → g_I Γ (mG Γ mo ad f a rr ph) s H locs → lv_has ls 6 [(5, .int (ropeTo (a 5) p0 p1)), (4, .int (dst (a 5) (plc (a 5) p0) p1)), (3, .int (b2i (decide (¬ p1 = -1)))), (0, .ref mo), (1, .int p0), (2, .int p1)] → W p l e (g_rm 5 0 0) s m A below meth c H locs 0 0 Q (F0 m 88 ls []) := by
          intro  H locs ls h2 I hl
          refine lv_aload_n hx hb dX5_mayNotMove_88 rfl (lv_at hl 3 rfl) ?_
          refine lv_iload_n hx hb dX5_mayNotMove_89 rfl (lv_at hl 4 rfl) ?_
          refine g_ci (g_runV S hK I (As := [.int p0]) (rest := []) (met_X5_place l Γ mo ad f a rr ph p0 h0) (cwV 1 hts (lw_V q3095 q3097 qs59 q151 q3098) rfl rfl rfl (by decide +kernel) ⟨Nat.le_of_ble_eq_true rfl, Nat.le_of_ble_eq_true rfl⟩) (g_recv hK I (g_at.of mG_obj) (ci := 4) rfl) rfl hl.1 rfl (Nat.le_of_ble_eq_true rfl) dX5_mayNotMove_90 ⟨Nat.le_of_ble_eq_true rfl, Nat.le_of_ble_eq_true rfl⟩) I (fun r_90 ph1 H locs hp I => ?_)
          obtain ⟨hp, rfl⟩ := hp
          have hp : r_90 = plc (a 5) p0 := hp
          subst hp
          refine lv_iload_n hx hb dX5_mayNotMove_93 rfl (lv_at hl 5 rfl) ?_
          refine lv_icmp_ne (tgt := 104) hx hb dX5_mayNotMove_94 (by decide) (fun c_94 => ?_) (fun c_94 => ?_)
          · refine lv_iload hx hb dX5_mayNotMove_104 (lv_at hl 1 rfl) ?_
            refine lv_aload_n hx hb dX5_mayNotMove_106 rfl (lv_at hl 3 rfl) ?_
            refine g_get S hK I k_X5 (v := .ref (ad 5)) (g_at.of mG_obj) 5 (by decide) q2957 rfl rfl dX5_mayNotMove_107 ?_
            refine lv_bipush (v := 101) hx hb dX5_mayNotMove_110 (by decide) ?_
            refine m_iald S hK I (f := (a 5)) (k := 101) (g_at.of mG_5) (vp_lit (by decide)) (by decide) dX5_mayNotMove_112 ?_
            refine lv_icmp_le (tgt := 124) hx hb dX5_mayNotMove_113 (by decide) (fun c_113 => ?_) (fun c_113 => ?_)
            · have n_113 := Int32.not_lt.mpr c_113
              refine lv_iload_n hx hb dX5_mayNotMove_124 rfl (lv_at hl 2 rfl) ?_
              have J_148_3 : ∀ (H : Heap) (locs : List Loc) (ls : Array Slot), (h5 : ¬ (¬ p1 = -1 ∧ isBr (a 5) p1 = false)) → g_I Γ (mG Γ mo ad f a rr ph) s H locs → lv_has ls 6 [(5, .int (ropeTo (a 5) p0 p1)), (4, .int (dst (a 5) (plc (a 5) p0) p1)), (3, .int (b2i (decide (¬ p1 = -1)))), (0, .ref mo), (1, .int p0), (2, .int p1)] → W p l e (g_rm 5 0 0) s m A below meth c H locs 0 0 Q (F0 m 148 ls []) := by
                intro  H locs ls h5 I hl
                refine lv_iload_n hx hb dX5_mayNotMove_148 rfl (lv_at hl 2 rfl) ?_
                have J_173_4 : ∀ (H : Heap) (locs : List Loc) (ls : Array Slot), (h6 : ¬ (¬ p1 = -1 ∧ plc (a 5) (1 - p0) = p1)) → g_I Γ (mG Γ mo ad f a rr ph) s H locs → lv_has ls 6 [(5, .int (ropeTo (a 5) p0 p1)), (4, .int (dst (a 5) (plc (a 5) p0) p1)), (3, .int (b2i (decide (¬ p1 = -1)))), (0, .ref mo), (1, .int p0), (2, .int p1)] → W p l e (g_rm 5 0 0) s m A below meth c H locs 0 0 Q (F0 m 173 ls []) := by
                  intro  H locs ls h6 I hl
                  refine lv_aload_n hx hb dX5_mayNotMove_173 rfl (lv_at hl 3 rfl) ?_
                  refine lv_iload_n hx hb dX5_mayNotMove_174 rfl (lv_at hl 4 rfl) ?_
                  refine lv_iconst (v := 2) hx hb dX5_mayNotMove_175 (by decide) ?_
                  refine g_ci (g_runV S hK I (As := [.int p0, .int 2]) (rest := []) (met_X5_ofClimber l Γ mo ad f a rr ph p0 2 h0 (vp_lit (by decide))) (cwV 2 hts (lw_V q3099 q3101 qs60 q151 q3102) rfl rfl rfl (by decide +kernel) ⟨Nat.le_of_ble_eq_true rfl, Nat.le_of_ble_eq_true rfl⟩) (g_recv hK I (g_at.of mG_obj) (ci := 4) rfl) rfl hl.1 rfl (Nat.le_of_ble_eq_true rfl) dX5_mayNotMove_176 ⟨Nat.le_of_ble_eq_true rfl, Nat.le_of_ble_eq_true rfl⟩) I (fun r_176 ph1 H locs hp I => ?_)
                  obtain ⟨hp, rfl⟩ := hp
                  have hp : r_176 = cX (a 5) p0 2 := hp
                  subst hp
                  refine lv_aload_n hx hb dX5_mayNotMove_179 rfl (lv_at hl 3 rfl) ?_
                  refine lv_iload_n hx hb dX5_mayNotMove_180 rfl (lv_at hl 4 rfl) ?_
                  refine lv_iload_n hx hb dX5_mayNotMove_181 rfl (lv_at hl 5 rfl) ?_
                  refine g_ci (g_runV S hK I (As := [.int p0, .int p1]) (rest := [.int (cX (a 5) p0 2)]) (met_X5_costOf l Γ mo ad f a rr ph p0 p1 hw h0 h1) (cwV 2 hts (lw_V q3236 q3238 qs81 q151 q3239) rfl rfl rfl (by decide +kernel) ⟨Nat.le_of_ble_eq_true rfl, Nat.le_of_ble_eq_true rfl⟩) (g_recv hK I (g_at.of mG_obj) (ci := 4) rfl) rfl hl.1 rfl (Nat.le_of_ble_eq_true rfl) dX5_mayNotMove_182 ⟨Nat.le_of_ble_eq_true rfl, Nat.le_of_ble_eq_true rfl⟩) I (fun r_182 ph1 H locs hp I => ?_)
                  obtain ⟨hp, rfl⟩ := hp
                  have hp : r_182 = cost (a 5) p0 p1 := hp
                  subst hp
                  refine lv_icmp_ge (tgt := 201) hx hb dX5_mayNotMove_185 (by decide) (fun c_185 => ?_) (fun c_185 => ?_)
                  · have n_185 := Int32.not_lt.mpr c_185
                    refine lv_iload hx hb dX5_mayNotMove_201 (lv_at hl 0 rfl) ?_
                    refine lv_aload_n hx hb dX5_mayNotMove_203 rfl (lv_at hl 3 rfl) ?_
                    refine g_get S hK I k_X5 (v := .ref (ad 5)) (g_at.of mG_obj) 5 (by decide) q2957 rfl rfl dX5_mayNotMove_204 ?_
                    refine lv_bipush (v := 103) hx hb dX5_mayNotMove_207 (by decide) ?_
                    refine m_iald S hK I (f := (a 5)) (k := 103) (g_at.of mG_5) (vp_lit (by decide)) (by decide) dX5_mayNotMove_209 ?_
                    refine lv_icmp_le (tgt := 228) hx hb dX5_mayNotMove_210 (by decide) (fun c_210 => ?_) (fun c_210 => ?_)
                    · have n_210 := Int32.not_lt.mpr c_210
                      refine lv_iconst (v := 0) hx hb dX5_mayNotMove_228 (by decide) ?_
                      exact g_zret S hr hlk I rfl dX5_mayNotMove_229 (Nat.le_of_ble_eq_true rfl) (Nat.le_of_ble_eq_true rfl) hQ ⟨_, rfl, (by (try simp [nMove, m_hin, b2i, c_59, h2, c_94, c_113, n_113, h5, h6, c_185, n_185, c_210, n_210])), (by (try simp [nMove, m_hin, b2i, c_59, h2, c_94, c_113, n_113, h5, h6, c_185, n_185, c_210, n_210]))⟩
                    · have n_210 := Int32.not_le.mp c_210
                      refine lv_aload_n hx hb dX5_mayNotMove_213 rfl (lv_at hl 3 rfl) ?_
                      refine lv_bipush (v := 8) hx hb dX5_mayNotMove_214 (by decide) ?_
                      refine lv_iload hx hb dX5_mayNotMove_216 (lv_at hl 0 rfl) ?_
                      refine g_ci (g_runV S hK I (As := [.int 8, .int (ropeTo (a 5) p0 p1)]) (rest := []) (met_X5_hinders l Γ mo ad f a rr ph 8 (ropeTo (a 5) p0 p1)) (cwV 2 hts (lw_V q3071 q3073 qs54 q151 q3074) rfl rfl rfl (by decide +kernel) ⟨Nat.le_of_ble_eq_true rfl, Nat.le_of_ble_eq_true rfl⟩) (g_recv hK I (g_at.of mG_obj) (ci := 4) rfl) rfl hl.1 rfl (Nat.le_of_ble_eq_true rfl) dX5_mayNotMove_218 ⟨Nat.le_of_ble_eq_true rfl, Nat.le_of_ble_eq_true rfl⟩) I (fun r_218 ph1 H locs hp I => ?_)
                      obtain ⟨hp, rfl⟩ := hp
                      have hp : r_218 = b2i true := hp
                      subst hp
                      have I : g_I Γ (mG Γ mo ad (upd (upd f 3 8) 4 (ropeTo (a 5) p0 p1)) a rr ph) s H locs := I
                      refine lv_if_eq (tgt := 228) hx hb dX5_mayNotMove_221 (by decide) (fun q => absurd q (by decide)) (fun _ => ?_)
                      refine lv_iconst (v := 1) hx hb dX5_mayNotMove_224 (by decide) ?_
                      refine lv_goto (tgt := 229) hx hb dX5_mayNotMove_225 (by decide) ?_
                      exact g_zret S hr hlk I rfl dX5_mayNotMove_229 (Nat.le_of_ble_eq_true rfl) (Nat.le_of_ble_eq_true rfl) hQ ⟨_, rfl, (by (try simp [nMove, m_hin, b2i, c_59, h2, c_94, c_113, n_113, h5, h6, c_185, n_185, c_210, n_210])), (by (try simp [nMove, m_hin, b2i, c_59, h2, c_94, c_113, n_113, h5, h6, c_185, n_185, c_210, n_210]))⟩
                  · have n_185 := Int32.not_le.mp c_185
                    refine lv_aload_n hx hb dX5_mayNotMove_188 rfl (lv_at hl 3 rfl) ?_
                    refine lv_bipush (v := 7) hx hb dX5_mayNotMove_189 (by decide) ?_
                    refine lv_aload_n hx hb dX5_mayNotMove_191 rfl (lv_at hl 3 rfl) ?_
                    refine lv_iload_n hx hb dX5_mayNotMove_192 rfl (lv_at hl 4 rfl) ?_
                    refine lv_iload_n hx hb dX5_mayNotMove_193 rfl (lv_at hl 5 rfl) ?_
                    refine g_ci (g_runV S hK I (As := [.int p0, .int p1]) (rest := [.int 7, .ref mo]) (met_X5_costOf l Γ mo ad f a rr ph p0 p1 hw h0 h1) (cwV 2 hts (lw_V q3236 q3238 qs81 q151 q3239) rfl rfl rfl (by decide +kernel) ⟨Nat.le_of_ble_eq_true rfl, Nat.le_of_ble_eq_true rfl⟩) (g_recv hK I (g_at.of mG_obj) (ci := 4) rfl) rfl hl.1 rfl (Nat.le_of_ble_eq_true rfl) dX5_mayNotMove_194 ⟨Nat.le_of_ble_eq_true rfl, Nat.le_of_ble_eq_true rfl⟩) I (fun r_194 ph1 H locs hp I => ?_)
                    obtain ⟨hp, rfl⟩ := hp
                    have hp : r_194 = cost (a 5) p0 p1 := hp
                    subst hp
                    refine g_ci (g_runV S hK I (As := [.int 7, .int (cost (a 5) p0 p1)]) (rest := []) (met_X5_hinders l Γ mo ad f a rr ph 7 (cost (a 5) p0 p1)) (cwV 2 hts (lw_V q3071 q3073 qs54 q151 q3074) rfl rfl rfl (by decide +kernel) ⟨Nat.le_of_ble_eq_true rfl, Nat.le_of_ble_eq_true rfl⟩) (g_recv hK I (g_at.of mG_obj) (ci := 4) rfl) rfl hl.1 rfl (Nat.le_of_ble_eq_true rfl) dX5_mayNotMove_197 ⟨Nat.le_of_ble_eq_true rfl, Nat.le_of_ble_eq_true rfl⟩) I (fun r_197 ph1 H locs hp I => ?_)
                    obtain ⟨hp, rfl⟩ := hp
                    have hp : r_197 = b2i true := hp
                    subst hp
                    have I : g_I Γ (mG Γ mo ad (upd (upd f 3 7) 4 (cost (a 5) p0 p1)) a rr ph) s H locs := I
                    exact g_zret S hr hlk I (b2i_nar _) dX5_mayNotMove_200 (Nat.le_of_ble_eq_true rfl) (Nat.le_of_ble_eq_true rfl) hQ ⟨_, rfl, (by (try simp [nMove, m_hin, b2i, c_59, h2, c_94, c_113, n_113, h5, h6, c_185, n_185])), (by (try simp [nMove, m_hin, b2i, c_59, h2, c_94, c_113, n_113, h5, h6, c_185, n_185]))⟩
                refine lv_if_eq (tgt := 173) hx hb dX5_mayNotMove_149 (by decide) (fun c_149 => ?_) (fun c_149 => ?_)
                · have p_149 := of_decide_eq_false ((b2i_eq0 _).mp c_149)
                  have c_149 := p_149
                  exact J_173_4  _ _ _ (fun q => absurd q.1 p_149) I (lv_sub hl [0, 1, 2, 3, 4, 5] rfl)
                · have p_149 := of_decide_eq_true ((b2i_ne0 _).mp c_149)
                  have c_149 := p_149
                  refine lv_aload_n hx hb dX5_mayNotMove_152 rfl (lv_at hl 3 rfl) ?_
                  refine lv_iconst (v := 1) hx hb dX5_mayNotMove_153 (by decide) ?_
                  refine lv_iload_n hx hb dX5_mayNotMove_154 rfl (lv_at hl 4 rfl) ?_
                  refine lv_isub hx hb dX5_mayNotMove_155 ?_
                  refine g_ci (g_runV S hK I (As := [.int (1 - p0)]) (rest := []) (met_X5_place l Γ mo ad f a rr ph (1 - p0) (sub1c h0)) (cwV 1 hts (lw_V q3095 q3097 qs59 q151 q3098) rfl rfl rfl (by decide +kernel) ⟨Nat.le_of_ble_eq_true rfl, Nat.le_of_ble_eq_true rfl⟩) (g_recv hK I (g_at.of mG_obj) (ci := 4) rfl) rfl hl.1 rfl (Nat.le_of_ble_eq_true rfl) dX5_mayNotMove_156 ⟨Nat.le_of_ble_eq_true rfl, Nat.le_of_ble_eq_true rfl⟩) I (fun r_156 ph1 H locs hp I => ?_)
                  obtain ⟨hp, rfl⟩ := hp
                  have hp : r_156 = plc (a 5) (1 - p0) := hp
                  subst hp
                  refine lv_iload_n hx hb dX5_mayNotMove_159 rfl (lv_at hl 5 rfl) ?_
                  refine lv_icmp_ne (tgt := 173) hx hb dX5_mayNotMove_160 (by decide) (fun c_160 => ?_) (fun c_160 => ?_)
                  · exact J_173_4  _ _ _ (fun q => absurd q.2 c_160) I (lv_sub hl [0, 1, 2, 3, 4, 5] rfl)
                  · refine lv_aload_n hx hb dX5_mayNotMove_163 rfl (lv_at hl 3 rfl) ?_
                    refine lv_bipush (v := 6) hx hb dX5_mayNotMove_164 (by decide) ?_
                    refine lv_iconst (v := 1) hx hb dX5_mayNotMove_166 (by decide) ?_
                    refine lv_iload_n hx hb dX5_mayNotMove_167 rfl (lv_at hl 4 rfl) ?_
                    refine lv_isub hx hb dX5_mayNotMove_168 ?_
                    refine g_ci (g_runV S hK I (As := [.int 6, .int (1 - p0)]) (rest := []) (met_X5_hinders l Γ mo ad f a rr ph 6 (1 - p0)) (cwV 2 hts (lw_V q3071 q3073 qs54 q151 q3074) rfl rfl rfl (by decide +kernel) ⟨Nat.le_of_ble_eq_true rfl, Nat.le_of_ble_eq_true rfl⟩) (g_recv hK I (g_at.of mG_obj) (ci := 4) rfl) rfl hl.1 rfl (Nat.le_of_ble_eq_true rfl) dX5_mayNotMove_169 ⟨Nat.le_of_ble_eq_true rfl, Nat.le_of_ble_eq_true rfl⟩) I (fun r_169 ph1 H locs hp I => ?_)
                    obtain ⟨hp, rfl⟩ := hp
                    have hp : r_169 = b2i true := hp
                    subst hp
                    have I : g_I Γ (mG Γ mo ad (upd (upd f 3 6) 4 (1 - p0)) a rr ph) s H locs := I
                    exact g_zret S hr hlk I (b2i_nar _) dX5_mayNotMove_172 (Nat.le_of_ble_eq_true rfl) (Nat.le_of_ble_eq_true rfl) hQ ⟨_, rfl, (by rw [show nMove (a 5) p0 p1 = some (6, 1 - p0) from by unfold nMove; rw [if_neg c_59, if_neg h2, if_neg c_94, if_neg n_113, if_neg h5, if_pos ⟨c_149, c_160⟩]]; rfl), (by rw [show nMove (a 5) p0 p1 = some (6, 1 - p0) from by unfold nMove; rw [if_neg c_59, if_neg h2, if_neg c_94, if_neg n_113, if_neg h5, if_pos ⟨c_149, c_160⟩]]; rfl)⟩
              refine lv_if_eq (tgt := 148) hx hb dX5_mayNotMove_125 (by decide) (fun c_125 => ?_) (fun c_125 => ?_)
              · have p_125 := of_decide_eq_false ((b2i_eq0 _).mp c_125)
                have c_125 := p_125
                exact J_148_3  _ _ _ (fun q => absurd q.1 p_125) I (lv_sub hl [0, 1, 2, 3, 4, 5] rfl)
              · have p_125 := of_decide_eq_true ((b2i_ne0 _).mp c_125)
                have c_125 := p_125
                refine lv_aload_n hx hb dX5_mayNotMove_128 rfl (lv_at hl 3 rfl) ?_
                refine lv_iload_n hx hb dX5_mayNotMove_129 rfl (lv_at hl 5 rfl) ?_
                refine g_ci (g_runV S hK I (As := [.int p1]) (rest := []) (met_X5_isBright l Γ mo ad f a rr ph p1 hw (okP_in hw h1 p_125)) (cwV 1 hts (lw_V q3126 q3128 qs65 q151 q3129) rfl rfl rfl (by decide +kernel) ⟨Nat.le_of_ble_eq_true rfl, Nat.le_of_ble_eq_true rfl⟩) (g_recv hK I (g_at.of mG_obj) (ci := 4) rfl) rfl hl.1 rfl (Nat.le_of_ble_eq_true rfl) dX5_mayNotMove_130 ⟨Nat.le_of_ble_eq_true rfl, Nat.le_of_ble_eq_true rfl⟩) I (fun r_130 ph1 H locs hp I => ?_)
                obtain ⟨hp, rfl⟩ := hp
                have hp : r_130 = b2i (isBr (a 5) p1) := hp
                subst hp
                refine lv_if_ne (tgt := 148) hx hb dX5_mayNotMove_133 (by decide) (fun c_133 => ?_) (fun c_133 => ?_)
                · have p_133 := (b2i_ne0 _).mp c_133
                  exact J_148_3  _ _ _ (fun q => absurd q.2 (by rw [p_133]; decide)) I (lv_sub hl [0, 1, 2, 3, 4, 5] rfl)
                · have p_133 := (b2i_eq0 _).mp c_133
                  refine lv_aload_n hx hb dX5_mayNotMove_136 rfl (lv_at hl 3 rfl) ?_
                  refine lv_iconst (v := 5) hx hb dX5_mayNotMove_137 (by decide) ?_
                  refine lv_aload_n hx hb dX5_mayNotMove_138 rfl (lv_at hl 3 rfl) ?_
                  refine lv_iload_n hx hb dX5_mayNotMove_139 rfl (lv_at hl 5 rfl) ?_
                  refine lv_iconst (v := 1) hx hb dX5_mayNotMove_140 (by decide) ?_
                  refine g_ci (g_runV S hK I (As := [.int p1, .int 1]) (rest := [.int 5, .ref mo]) (met_X5_ofHold l Γ mo ad f a rr ph p1 1 (okP_in hw h1 p_125) (vp_lit (by decide))) (cwV 2 hts (lw_V q3064 q3066 qs53 q151 q3067) rfl rfl rfl (by decide +kernel) ⟨Nat.le_of_ble_eq_true rfl, Nat.le_of_ble_eq_true rfl⟩) (g_recv hK I (g_at.of mG_obj) (ci := 4) rfl) rfl hl.1 rfl (Nat.le_of_ble_eq_true rfl) dX5_mayNotMove_141 ⟨Nat.le_of_ble_eq_true rfl, Nat.le_of_ble_eq_true rfl⟩) I (fun r_141 ph1 H locs hp I => ?_)
                  obtain ⟨hp, rfl⟩ := hp
                  have hp : r_141 = hX (a 5) p1 1 := hp
                  subst hp
                  refine g_ci (g_runV S hK I (As := [.int 5, .int (hX (a 5) p1 1)]) (rest := []) (met_X5_hinders l Γ mo ad f a rr ph 5 (hX (a 5) p1 1)) (cwV 2 hts (lw_V q3071 q3073 qs54 q151 q3074) rfl rfl rfl (by decide +kernel) ⟨Nat.le_of_ble_eq_true rfl, Nat.le_of_ble_eq_true rfl⟩) (g_recv hK I (g_at.of mG_obj) (ci := 4) rfl) rfl hl.1 rfl (Nat.le_of_ble_eq_true rfl) dX5_mayNotMove_144 ⟨Nat.le_of_ble_eq_true rfl, Nat.le_of_ble_eq_true rfl⟩) I (fun r_144 ph1 H locs hp I => ?_)
                  obtain ⟨hp, rfl⟩ := hp
                  have hp : r_144 = b2i true := hp
                  subst hp
                  have I : g_I Γ (mG Γ mo ad (upd (upd f 3 5) 4 (hX (a 5) p1 1)) a rr ph) s H locs := I
                  exact g_zret S hr hlk I (b2i_nar _) dX5_mayNotMove_147 (Nat.le_of_ble_eq_true rfl) (Nat.le_of_ble_eq_true rfl) hQ ⟨_, rfl, (by rw [show nMove (a 5) p0 p1 = some (5, hX (a 5) p1 1) from by unfold nMove; rw [if_neg c_59, if_neg h2, if_neg c_94, if_neg n_113, if_pos ⟨c_125, p_133⟩]]; rfl), (by rw [show nMove (a 5) p0 p1 = some (5, hX (a 5) p1 1) from by unfold nMove; rw [if_neg c_59, if_neg h2, if_neg c_94, if_neg n_113, if_pos ⟨c_125, p_133⟩]]; rfl)⟩
            · have n_113 := Int32.not_le.mp c_113
              refine lv_aload_n hx hb dX5_mayNotMove_116 rfl (lv_at hl 3 rfl) ?_
              refine lv_iconst (v := 4) hx hb dX5_mayNotMove_117 (by decide) ?_
              refine lv_iload hx hb dX5_mayNotMove_118 (lv_at hl 1 rfl) ?_
              refine g_ci (g_runV S hK I (As := [.int 4, .int (dst (a 5) (plc (a 5) p0) p1)]) (rest := []) (met_X5_hinders l Γ mo ad f a rr ph 4 (dst (a 5) (plc (a 5) p0) p1)) (cwV 2 hts (lw_V q3071 q3073 qs54 q151 q3074) rfl rfl rfl (by decide +kernel) ⟨Nat.le_of_ble_eq_true rfl, Nat.le_of_ble_eq_true rfl⟩) (g_recv hK I (g_at.of mG_obj) (ci := 4) rfl) rfl hl.1 rfl (Nat.le_of_ble_eq_true rfl) dX5_mayNotMove_120 ⟨Nat.le_of_ble_eq_true rfl, Nat.le_of_ble_eq_true rfl⟩) I (fun r_120 ph1 H locs hp I => ?_)
              obtain ⟨hp, rfl⟩ := hp
              have hp : r_120 = b2i true := hp
              subst hp
              have I : g_I Γ (mG Γ mo ad (upd (upd f 3 4) 4 (dst (a 5) (plc (a 5) p0) p1)) a rr ph) s H locs := I
              exact g_zret S hr hlk I (b2i_nar _) dX5_mayNotMove_123 (Nat.le_of_ble_eq_true rfl) (Nat.le_of_ble_eq_true rfl) hQ ⟨_, rfl, (by (try simp [nMove, m_hin, b2i, c_59, h2, c_94, c_113, n_113])), (by (try simp [nMove, m_hin, b2i, c_59, h2, c_94, c_113, n_113]))⟩
          · refine lv_aload_n hx hb dX5_mayNotMove_97 rfl (lv_at hl 3 rfl) ?_
            refine lv_iconst (v := 3) hx hb dX5_mayNotMove_98 (by decide) ?_
            refine lv_iload_n hx hb dX5_mayNotMove_99 rfl (lv_at hl 5 rfl) ?_
            refine g_ci (g_runV S hK I (As := [.int 3, .int p1]) (rest := []) (met_X5_hinders l Γ mo ad f a rr ph 3 p1) (cwV 2 hts (lw_V q3071 q3073 qs54 q151 q3074) rfl rfl rfl (by decide +kernel) ⟨Nat.le_of_ble_eq_true rfl, Nat.le_of_ble_eq_true rfl⟩) (g_recv hK I (g_at.of mG_obj) (ci := 4) rfl) rfl hl.1 rfl (Nat.le_of_ble_eq_true rfl) dX5_mayNotMove_100 ⟨Nat.le_of_ble_eq_true rfl, Nat.le_of_ble_eq_true rfl⟩) I (fun r_100 ph1 H locs hp I => ?_)
            obtain ⟨hp, rfl⟩ := hp
            have hp : r_100 = b2i true := hp
            subst hp
            have I : g_I Γ (mG Γ mo ad (upd (upd f 3 3) 4 p1) a rr ph) s H locs := I
            exact g_zret S hr hlk I (b2i_nar _) dX5_mayNotMove_103 (Nat.le_of_ble_eq_true rfl) (Nat.le_of_ble_eq_true rfl) hQ ⟨_, rfl, (by (try simp [nMove, m_hin, b2i, c_59, h2, c_94])), (by (try simp [nMove, m_hin, b2i, c_59, h2, c_94]))⟩
        refine lv_if_eq (tgt := 88) hx hb dX5_mayNotMove_70 (by decide) (fun c_70 => ?_) (fun c_70 => ?_)
        · have p_70 := of_decide_eq_false ((b2i_eq0 _).mp c_70)
          have c_70 := p_70
          exact J_88_2  _ _ _ (fun q => absurd q.1 p_70) I (lv_sub hl [0, 1, 2, 3, 4, 5] rfl)
        · have p_70 := of_decide_eq_true ((b2i_ne0 _).mp c_70)
          have c_70 := p_70
          refine lv_aload_n hx hb dX5_mayNotMove_73 rfl (lv_at hl 3 rfl) ?_
          refine lv_iload_n hx hb dX5_mayNotMove_74 rfl (lv_at hl 5 rfl) ?_
          refine g_ci (g_runV S hK I (As := [.int p1]) (rest := []) (met_X5_hasCrumbled l Γ mo ad f a rr ph p1 (okP_in hw h1 p_70)) (cwV 1 hts (lw_V q3122 q3124 qs64 q151 q3125) rfl rfl rfl (by decide +kernel) ⟨Nat.le_of_ble_eq_true rfl, Nat.le_of_ble_eq_true rfl⟩) (g_recv hK I (g_at.of mG_obj) (ci := 4) rfl) rfl hl.1 rfl (Nat.le_of_ble_eq_true rfl) dX5_mayNotMove_75 ⟨Nat.le_of_ble_eq_true rfl, Nat.le_of_ble_eq_true rfl⟩) I (fun r_75 ph1 H locs hp I => ?_)
          obtain ⟨hp, rfl⟩ := hp
          have hp : r_75 = b2i (hasCr (a 5) p1) := hp
          subst hp
          refine lv_if_eq (tgt := 88) hx hb dX5_mayNotMove_78 (by decide) (fun c_78 => ?_) (fun c_78 => ?_)
          · have p_78 := (b2i_eq0 _).mp c_78
            exact J_88_2  _ _ _ (fun q => absurd q.2 (by rw [p_78]; decide)) I (lv_sub hl [0, 1, 2, 3, 4, 5] rfl)
          · have p_78 := (b2i_ne0 _).mp c_78
            refine lv_aload_n hx hb dX5_mayNotMove_81 rfl (lv_at hl 3 rfl) ?_
            refine lv_iconst (v := 2) hx hb dX5_mayNotMove_82 (by decide) ?_
            refine lv_iload_n hx hb dX5_mayNotMove_83 rfl (lv_at hl 5 rfl) ?_
            refine g_ci (g_runV S hK I (As := [.int 2, .int p1]) (rest := []) (met_X5_hinders l Γ mo ad f a rr ph 2 p1) (cwV 2 hts (lw_V q3071 q3073 qs54 q151 q3074) rfl rfl rfl (by decide +kernel) ⟨Nat.le_of_ble_eq_true rfl, Nat.le_of_ble_eq_true rfl⟩) (g_recv hK I (g_at.of mG_obj) (ci := 4) rfl) rfl hl.1 rfl (Nat.le_of_ble_eq_true rfl) dX5_mayNotMove_84 ⟨Nat.le_of_ble_eq_true rfl, Nat.le_of_ble_eq_true rfl⟩) I (fun r_84 ph1 H locs hp I => ?_)
            obtain ⟨hp, rfl⟩ := hp
            have hp : r_84 = b2i true := hp
            subst hp
            have I : g_I Γ (mG Γ mo ad (upd (upd f 3 2) 4 p1) a rr ph) s H locs := I
            exact g_zret S hr hlk I (b2i_nar _) dX5_mayNotMove_87 (Nat.le_of_ble_eq_true rfl) (Nat.le_of_ble_eq_true rfl) hQ ⟨_, rfl, (by (try simp only [p_78]); (try simp [nMove, m_hin, b2i, c_59, c_70, p_78])), (by (try simp only [p_78]); (try simp [nMove, m_hin, b2i, c_59, c_70, p_78]))⟩
      · refine lv_aload_n hx hb dX5_mayNotMove_62 rfl (lv_at hl 3 rfl) ?_
        refine lv_iconst (v := 1) hx hb dX5_mayNotMove_63 (by decide) ?_
        refine lv_iconst (v := 0) hx hb dX5_mayNotMove_64 (by decide) ?_
        refine g_ci (g_runV S hK I (As := [.int 1, .int 0]) (rest := []) (met_X5_hinders l Γ mo ad f a rr ph 1 0) (cwV 2 hts (lw_V q3071 q3073 qs54 q151 q3074) rfl rfl rfl (by decide +kernel) ⟨Nat.le_of_ble_eq_true rfl, Nat.le_of_ble_eq_true rfl⟩) (g_recv hK I (g_at.of mG_obj) (ci := 4) rfl) rfl hl.1 rfl (Nat.le_of_ble_eq_true rfl) dX5_mayNotMove_65 ⟨Nat.le_of_ble_eq_true rfl, Nat.le_of_ble_eq_true rfl⟩) I (fun r_65 ph1 H locs hp I => ?_)
        obtain ⟨hp, rfl⟩ := hp
        have hp : r_65 = b2i true := hp
        subst hp
        have I : g_I Γ (mG Γ mo ad (upd (upd f 3 1) 4 0) a rr ph) s H locs := I
        exact g_zret S hr hlk I (b2i_nar _) dX5_mayNotMove_68 (Nat.le_of_ble_eq_true rfl) (Nat.le_of_ble_eq_true rfl) hQ ⟨_, rfl, (by (try simp [nMove, m_hin, b2i, c_59])), (by (try simp [nMove, m_hin, b2i, c_59]))⟩
    refine lv_if_ne (tgt := 40) hx hb dX5_mayNotMove_24 (by decide) (fun c_24 => ?_) (fun c_24 => ?_)
    · refine lv_aload_n hx hb dX5_mayNotMove_40 rfl (lv_at hl 2 rfl) ?_
      refine lv_iload_n hx hb dX5_mayNotMove_41 rfl (lv_at hl 4 rfl) ?_
      refine lv_aload_n hx hb dX5_mayNotMove_42 rfl (lv_at hl 2 rfl) ?_
      refine lv_iconst (v := 0) hx hb dX5_mayNotMove_43 (by decide) ?_
      refine g_ci (g_runV S hK I (As := [.int 0]) (rest := [.int p1, .ref mo]) (met_X5_place l Γ mo ad f a rr ph 0 (vp_lit (by decide))) (cwV 1 hts (lw_V q3095 q3097 qs59 q151 q3098) rfl rfl rfl (by decide +kernel) ⟨Nat.le_of_ble_eq_true rfl, Nat.le_of_ble_eq_true rfl⟩) (g_recv hK I (g_at.of mG_obj) (ci := 4) rfl) rfl hl.1 rfl (Nat.le_of_ble_eq_true rfl) dX5_mayNotMove_44 ⟨Nat.le_of_ble_eq_true rfl, Nat.le_of_ble_eq_true rfl⟩) I (fun r_44 ph1 H locs hp I => ?_)
      obtain ⟨hp, rfl⟩ := hp
      have hp : r_44 = plc (a 5) 0 := hp
      subst hp
      refine g_ci (g_runV S hK I (As := [.int p1, .int (plc (a 5) 0)]) (rest := []) (met_X5_ropeWith l Γ mo ad f a rr ph p1 (plc (a 5) 0) hw h1 (hw.pl (vp_lit (by decide)))) (cwV 2 hts (lw_V q3103 q3105 qs61 q151 q3106) rfl rfl rfl (by decide +kernel) ⟨Nat.le_of_ble_eq_true rfl, Nat.le_of_ble_eq_true rfl⟩) (g_recv hK I (g_at.of mG_obj) (ci := 4) rfl) rfl hl.1 rfl (Nat.le_of_ble_eq_true rfl) dX5_mayNotMove_47 ⟨Nat.le_of_ble_eq_true rfl, Nat.le_of_ble_eq_true rfl⟩) I (fun r_47 ph1 H locs hp I => ?_)
      obtain ⟨hp, rfl⟩ := hp
      have hp : r_47 = rope (a 5) p1 (plc (a 5) 0) := hp
      subst hp
      exact J_50_1 (rope (a 5) p1 (plc (a 5) 0)) _ _ _ (by simp [ropeTo, c_24]) I (lv_sub hl [0, 1, 2, 3, 4] rfl)
    · refine lv_aload_n hx hb dX5_mayNotMove_27 rfl (lv_at hl 2 rfl) ?_
      refine lv_aload_n hx hb dX5_mayNotMove_28 rfl (lv_at hl 2 rfl) ?_
      refine lv_iconst (v := 1) hx hb dX5_mayNotMove_29 (by decide) ?_
      refine g_ci (g_runV S hK I (As := [.int 1]) (rest := [.ref mo]) (met_X5_place l Γ mo ad f a rr ph 1 (vp_lit (by decide))) (cwV 1 hts (lw_V q3095 q3097 qs59 q151 q3098) rfl rfl rfl (by decide +kernel) ⟨Nat.le_of_ble_eq_true rfl, Nat.le_of_ble_eq_true rfl⟩) (g_recv hK I (g_at.of mG_obj) (ci := 4) rfl) rfl hl.1 rfl (Nat.le_of_ble_eq_true rfl) dX5_mayNotMove_30 ⟨Nat.le_of_ble_eq_true rfl, Nat.le_of_ble_eq_true rfl⟩) I (fun r_30 ph1 H locs hp I => ?_)
      obtain ⟨hp, rfl⟩ := hp
      have hp : r_30 = plc (a 5) 1 := hp
      subst hp
      refine lv_iload_n hx hb dX5_mayNotMove_33 rfl (lv_at hl 4 rfl) ?_
      refine g_ci (g_runV S hK I (As := [.int (plc (a 5) 1), .int p1]) (rest := []) (met_X5_ropeWith l Γ mo ad f a rr ph (plc (a 5) 1) p1 hw (hw.pl (vp_lit (by decide))) h1) (cwV 2 hts (lw_V q3103 q3105 qs61 q151 q3106) rfl rfl rfl (by decide +kernel) ⟨Nat.le_of_ble_eq_true rfl, Nat.le_of_ble_eq_true rfl⟩) (g_recv hK I (g_at.of mG_obj) (ci := 4) rfl) rfl hl.1 rfl (Nat.le_of_ble_eq_true rfl) dX5_mayNotMove_34 ⟨Nat.le_of_ble_eq_true rfl, Nat.le_of_ble_eq_true rfl⟩) I (fun r_34 ph1 H locs hp I => ?_)
      obtain ⟨hp, rfl⟩ := hp
      have hp : r_34 = rope (a 5) (plc (a 5) 1) p1 := hp
      subst hp
      refine lv_goto (tgt := 50) hx hb dX5_mayNotMove_37 (by decide) ?_
      exact J_50_1 (rope (a 5) (plc (a 5) 1) p1) _ _ _ (by simp [ropeTo, c_24]) I (lv_sub hl [0, 1, 2, 3, 4] rfl)
  refine lv_icmp_eq (tgt := 9) hx hb dX5_mayNotMove_2 (by decide) (fun c_2 => ?_) (fun c_2 => ?_)
  · refine lv_iconst (v := 0) hx hb dX5_mayNotMove_9 (by decide) ?_
    exact J_10_0 0 _ _ _ (by simp [b2i, c_2]) I (lv_sub hl [0, 1, 2] rfl)
  · refine lv_iconst (v := 1) hx hb dX5_mayNotMove_5 (by decide) ?_
    refine lv_goto (tgt := 10) hx hb dX5_mayNotMove_6 (by decide) ?_
    exact J_10_0 1 _ _ _ (by simp [b2i, c_2]) I (lv_sub hl [0, 1, 2] rfl)

set_option maxHeartbeats 4000000 in
set_option maxRecDepth 100000 in
theorem met_X5_gainOf (l : Launch) (Γ : g_C) (ph : g_H) (p0 : Int32) : g_Met l yX5_gainOf (ws_ yX5_gainOf cX5_gainOf 1 (some .int)) (g_rm 1 0 0) Γ [.int p0] (ph) (g_oi (fun v ph' => v = (gain p0) ∧ ph' = ph)) g_no := by
  refine g_start (y := yX5_gainOf) (cc := cX5_gainOf) (maxL := 1) (ret := (some .int)) (rm := g_rm 1 0 0) (by decide) (Nat.le_of_ble_eq_true rfl) ?_
  intro p e s m A below meth c ls Q hQ S hr hlk hex hnm hK I hl
  have hx := S.1
  have hb := S.2.1
  have hown := S.2.2.2.1
  have hts := S.2.2.2.2
  have S : CallFix p m c cX5_gainOf 1 s A lw_all "CrumblingWallModel" := S
  have hl : lv_has ls 1 [(0, .int p0)] := hl
  refine lv_iload_n hx hb dX5_gainOf_0 rfl (lv_at hl 0 rfl) ?_
  refine lv_if_ne (tgt := 8) hx hb dX5_gainOf_1 (by decide) (fun c_1 => ?_) (fun c_1 => ?_)
  · refine lv_iload_n hx hb dX5_gainOf_8 rfl (lv_at hl 0 rfl) ?_
    refine lv_iconst (v := 1) hx hb dX5_gainOf_9 (by decide) ?_
    refine lv_icmp_ne (tgt := 17) hx hb dX5_gainOf_10 (by decide) (fun c_10 => ?_) (fun c_10 => ?_)
    · refine lv_iload_n hx hb dX5_gainOf_17 rfl (lv_at hl 0 rfl) ?_
      refine lv_iconst (v := 2) hx hb dX5_gainOf_18 (by decide) ?_
      refine lv_icmp_ne (tgt := 26) hx hb dX5_gainOf_19 (by decide) (fun c_19 => ?_) (fun c_19 => ?_)
      · refine lv_iconst (v := 3) hx hb dX5_gainOf_26 (by decide) ?_
        exact g_iret S hr hlk I dX5_gainOf_27 (Nat.le_of_ble_eq_true rfl) (Nat.le_of_ble_eq_true rfl) hQ ⟨_, rfl, (by (try simp [gain, c_1, c_10, c_19])), rfl⟩
      · refine lv_iconst (v := 1) hx hb dX5_gainOf_22 (by decide) ?_
        refine lv_goto (tgt := 27) hx hb dX5_gainOf_23 (by decide) ?_
        exact g_iret S hr hlk I dX5_gainOf_27 (Nat.le_of_ble_eq_true rfl) (Nat.le_of_ble_eq_true rfl) hQ ⟨_, rfl, (by (try simp [gain, c_1, c_10, c_19])), rfl⟩
    · refine lv_iconst (v := 4) hx hb dX5_gainOf_13 (by decide) ?_
      refine lv_goto (tgt := 27) hx hb dX5_gainOf_14 (by decide) ?_
      exact g_iret S hr hlk I dX5_gainOf_27 (Nat.le_of_ble_eq_true rfl) (Nat.le_of_ble_eq_true rfl) hQ ⟨_, rfl, (by (try simp [gain, c_1, c_10])), rfl⟩
  · refine lv_iconst (v := 2) hx hb dX5_gainOf_4 (by decide) ?_
    refine lv_goto (tgt := 27) hx hb dX5_gainOf_5 (by decide) ?_
    exact g_iret S hr hlk I dX5_gainOf_27 (Nat.le_of_ble_eq_true rfl) (Nat.le_of_ble_eq_true rfl) hQ ⟨_, rfl, (by (try simp [gain, c_1])), rfl⟩

set_option maxHeartbeats 4000000 in
set_option maxRecDepth 100000 in
theorem met_X5_rested (l : Launch) (Γ : g_C) (mo : Nat) (ad : Nat → Nat) (f : Nat → Int32) (a : Nat → Nat → Int32) (rr : Nat → UInt32) (ph : g_H) (p0 : Int32) (p1 : Int32) (h0 : p0 = -1 ∨ vp_in p0 20) : g_Met l yX5_rested (ws_ yX5_rested cX5_rested 4 (some .int)) (g_rm 3 0 0) Γ [.ref mo, .int p0, .int p1] (mG Γ mo ad f a rr ph) (g_oi (fun v ph' => v = (resG (a 5) p0 p1) ∧ ph' = mG Γ mo ad f a rr ph)) g_no := by
  refine g_start (y := yX5_rested) (cc := cX5_rested) (maxL := 4) (ret := (some .int)) (rm := g_rm 3 0 0) (by decide) (Nat.le_of_ble_eq_true rfl) ?_
  intro p e s m A below meth c ls Q hQ S hr hlk hex hnm hK I hl
  have hx := S.1
  have hb := S.2.1
  have hown := S.2.2.2.1
  have hts := S.2.2.2.2
  have S : CallFix p m c cX5_rested 4 s A lw_all "CrumblingWallModel" := S
  have hl : lv_has ls 4 [(0, .ref mo), (1, .int p0), (2, .int p1)] := hl
  refine lv_iload_n hx hb dX5_rested_0 rfl (lv_at hl 1 rfl) ?_
  refine lv_iconst (v := (-1)) hx hb dX5_rested_1 (by decide) ?_
  have J_21_0 : ∀ (x1 : Int32) (H : Heap) (locs : List Loc) (ls : Array Slot), (hx1 : x1 = (if p0 = -1 then 20 else p1 + gain (hX (a 5) p0 2))) → g_I Γ (mG Γ mo ad f a rr ph) s H locs → lv_has ls 4 [(0, .ref mo), (1, .int p0), (2, .int p1)] → W p l e (g_rm 3 0 0) s m A below meth c H locs 0 0 Q (F0 m 21 ls [.int x1]) := by
    intro x1 H locs ls hx1 I hl
    subst hx1
    refine lv_istore_n (lv' := [(3, .int (if p0 = -1 then 20 else p1 + gain (hX (a 5) p0 2))), (0, .ref mo), (1, .int p0), (2, .int p1)]) hx hb dX5_rested_21 rfl hl (by decide) rfl (fun ls hl => ?_)
    refine lv_iload_n hx hb dX5_rested_22 rfl (lv_at hl 0 rfl) ?_
    refine lv_bipush (v := 20) hx hb dX5_rested_23 (by decide) ?_
    refine lv_icmp_le (tgt := 33) hx hb dX5_rested_25 (by decide) (fun c_25 => ?_) (fun c_25 => ?_)
    · have n_25 := Int32.not_lt.mpr c_25
      refine lv_iload_n hx hb dX5_rested_33 rfl (lv_at hl 0 rfl) ?_
      exact g_iret S hr hlk I dX5_rested_34 (Nat.le_of_ble_eq_true rfl) (Nat.le_of_ble_eq_true rfl) hQ ⟨_, rfl, (by unfold resG; first | exact (if_pos c_25).symm | exact (if_neg c_25).symm | exact (if_pos n_25).symm | exact (if_neg n_25).symm), rfl⟩
    · have n_25 := Int32.not_le.mp c_25
      refine lv_bipush (v := 20) hx hb dX5_rested_28 (by decide) ?_
      refine lv_goto (tgt := 34) hx hb dX5_rested_30 (by decide) ?_
      exact g_iret S hr hlk I dX5_rested_34 (Nat.le_of_ble_eq_true rfl) (Nat.le_of_ble_eq_true rfl) hQ ⟨_, rfl, (by unfold resG; first | exact (if_pos c_25).symm | exact (if_neg c_25).symm | exact (if_pos n_25).symm | exact (if_neg n_25).symm), rfl⟩
  refine lv_icmp_ne (tgt := 10) hx hb dX5_rested_2 (by decide) (fun c_2 => ?_) (fun c_2 => ?_)
  · refine lv_iload_n hx hb dX5_rested_10 rfl (lv_at hl 2 rfl) ?_
    refine lv_aload_n hx hb dX5_rested_11 rfl (lv_at hl 0 rfl) ?_
    refine lv_iload_n hx hb dX5_rested_12 rfl (lv_at hl 1 rfl) ?_
    refine lv_iconst (v := 2) hx hb dX5_rested_13 (by decide) ?_
    refine g_ci (g_runV S hK I (As := [.int p0, .int 2]) (rest := [.int p1]) (met_X5_ofHold l Γ mo ad f a rr ph p0 2 (h0.resolve_left c_2) (vp_lit (by decide))) (cwV 2 hts (lw_V q3064 q3066 qs53 q151 q3067) rfl rfl rfl (by decide +kernel) ⟨Nat.le_of_ble_eq_true rfl, Nat.le_of_ble_eq_true rfl⟩) (g_recv hK I (g_at.of mG_obj) (ci := 4) rfl) rfl hl.1 rfl (Nat.le_of_ble_eq_true rfl) dX5_rested_14 ⟨Nat.le_of_ble_eq_true rfl, Nat.le_of_ble_eq_true rfl⟩) I (fun r_14 ph1 H locs hp I => ?_)
    obtain ⟨hp, rfl⟩ := hp
    have hp : r_14 = hX (a 5) p0 2 := hp
    subst hp
    refine g_ci (g_runS S hK I (As := [.int (hX (a 5) p0 2)]) (rest := [.int p1]) (met_X5_gainOf l Γ (mG Γ mo ad f a rr ph) (hX (a 5) p0 2)) (va_cwS 1 hts (lw_S q3305 q3306 q151 q3307) rfl rfl rfl (by decide +kernel) ⟨Nat.le_of_ble_eq_true rfl, Nat.le_of_ble_eq_true rfl⟩) rfl hl.1 rfl (Nat.le_of_ble_eq_true rfl) dX5_rested_17 ⟨Nat.le_of_ble_eq_true rfl, Nat.le_of_ble_eq_true rfl⟩) I (fun r_17 ph1 H locs hp I => ?_)
    obtain ⟨hp, rfl⟩ := hp
    have hp : r_17 = gain (hX (a 5) p0 2) := hp
    subst hp
    refine lv_iadd hx hb dX5_rested_20 ?_
    exact J_21_0 (p1 + (gain (hX (a 5) p0 2))) _ _ _ (by simp [c_2]) I (lv_sub hl [0, 1, 2] rfl)
  · refine lv_bipush (v := 20) hx hb dX5_rested_5 (by decide) ?_
    refine lv_goto (tgt := 21) hx hb dX5_rested_7 (by decide) ?_
    exact J_21_0 20 _ _ _ (by simp [c_2]) I (lv_sub hl [0, 1, 2] rfl)

set_option maxHeartbeats 4000000 in
set_option maxRecDepth 100000 in
theorem met_X5_isWay (l : Launch) (Γ : g_C) (mo : Nat) (ad : Nat → Nat) (f : Nat → Int32) (a : Nat → Nat → Int32) (rr : Nat → UInt32) (ph : g_H) (p0 : Int32) (p1 : Int32) (hw : WF (a 5)) (h0 : okP (a 5) p0) (h1 : okP (a 5) p1) : g_Met l yX5_isWay (ws_ yX5_isWay cX5_isWay 3 (some .boolean)) (g_rm 5 0 0) Γ [.ref mo, .int p0, .int p1] (mG Γ mo ad f a rr ph) (g_oi (fun v ph' => v = (b2i (isWy (a 5) p0 p1)) ∧ ph' = mG Γ mo ad f a rr ph)) g_no := by
  refine g_start (y := yX5_isWay) (cc := cX5_isWay) (maxL := 3) (ret := (some .boolean)) (rm := g_rm 5 0 0) (by decide) (Nat.le_of_ble_eq_true rfl) ?_
  intro p e s m A below meth c ls Q hQ S hr hlk hex hnm hK I hl
  have hx := S.1
  have hb := S.2.1
  have hown := S.2.2.2.1
  have hts := S.2.2.2.2
  have S : CallFix p m c cX5_isWay 3 s A lw_all "CrumblingWallModel" := S
  have hl : lv_has ls 3 [(0, .ref mo), (1, .int p0), (2, .int p1)] := hl
  refine lv_iload_n hx hb dX5_isWay_0 rfl (lv_at hl 1 rfl) ?_
  refine lv_iload_n hx hb dX5_isWay_1 rfl (lv_at hl 2 rfl) ?_
  refine lv_icmp_eq (tgt := 21) hx hb dX5_isWay_2 (by decide) (fun c_2 => ?_) (fun c_2 => ?_)
  · refine lv_iconst (v := 0) hx hb dX5_isWay_21 (by decide) ?_
    exact g_zret S hr hlk I rfl dX5_isWay_22 (Nat.le_of_ble_eq_true rfl) (Nat.le_of_ble_eq_true rfl) hQ ⟨_, rfl, (by (try simp [isWy, b2i, c_2])), rfl⟩
  · refine lv_aload_n hx hb dX5_isWay_5 rfl (lv_at hl 0 rfl) ?_
    refine lv_iload_n hx hb dX5_isWay_6 rfl (lv_at hl 1 rfl) ?_
    refine lv_iload_n hx hb dX5_isWay_7 rfl (lv_at hl 2 rfl) ?_
    refine g_ci (g_runV S hK I (As := [.int p0, .int p1]) (rest := []) (met_X5_distance l Γ mo ad f a rr ph p0 p1 (br_isPl hw h0) (br_isPl hw h1)) (cwV 2 hts (lw_V q3107 q3109 qs62 q151 q3110) rfl rfl rfl (by decide +kernel) ⟨Nat.le_of_ble_eq_true rfl, Nat.le_of_ble_eq_true rfl⟩) (g_recv hK I (g_at.of mG_obj) (ci := 4) rfl) rfl hl.1 rfl (Nat.le_of_ble_eq_true rfl) dX5_isWay_8 ⟨Nat.le_of_ble_eq_true rfl, Nat.le_of_ble_eq_true rfl⟩) I (fun r_8 ph1 H locs hp I => ?_)
    obtain ⟨hp, rfl⟩ := hp
    have hp : r_8 = dst (a 5) p0 p1 := hp
    subst hp
    refine lv_aload_n hx hb dX5_isWay_11 rfl (lv_at hl 0 rfl) ?_
    refine g_get S hK I k_X5 (v := .ref (ad 5)) (g_at.of mG_obj) 5 (by decide) q2957 rfl rfl dX5_isWay_12 ?_
    refine lv_bipush (v := 101) hx hb dX5_isWay_15 (by decide) ?_
    refine m_iald S hK I (f := (a 5)) (k := 101) (g_at.of mG_5) (vp_lit (by decide)) (by decide) dX5_isWay_17 ?_
    refine lv_icmp_le (tgt := 23) hx hb dX5_isWay_18 (by decide) (fun c_18 => ?_) (fun c_18 => ?_)
    · have n_18 := Int32.not_lt.mpr c_18
      refine lv_iload_n hx hb dX5_isWay_23 rfl (lv_at hl 2 rfl) ?_
      refine lv_iconst (v := (-1)) hx hb dX5_isWay_24 (by decide) ?_
      refine lv_icmp_eq (tgt := 44) hx hb dX5_isWay_25 (by decide) (fun c_25 => ?_) (fun c_25 => ?_)
      · refine lv_iconst (v := 1) hx hb dX5_isWay_44 (by decide) ?_
        refine lv_goto (tgt := 49) hx hb dX5_isWay_45 (by decide) ?_
        exact g_zret S hr hlk I rfl dX5_isWay_49 (Nat.le_of_ble_eq_true rfl) (Nat.le_of_ble_eq_true rfl) hQ ⟨_, rfl, (by simp only [isWy, decide_eq_false c_2, decide_eq_false n_18, decide_eq_true c_25]; rfl), rfl⟩
      · refine lv_aload_n hx hb dX5_isWay_28 rfl (lv_at hl 0 rfl) ?_
        refine lv_iload_n hx hb dX5_isWay_29 rfl (lv_at hl 2 rfl) ?_
        refine g_ci (g_runV S hK I (As := [.int p1]) (rest := []) (met_X5_hasCrumbled l Γ mo ad f a rr ph p1 (okP_in hw h1 c_25)) (cwV 1 hts (lw_V q3122 q3124 qs64 q151 q3125) rfl rfl rfl (by decide +kernel) ⟨Nat.le_of_ble_eq_true rfl, Nat.le_of_ble_eq_true rfl⟩) (g_recv hK I (g_at.of mG_obj) (ci := 4) rfl) rfl hl.1 rfl (Nat.le_of_ble_eq_true rfl) dX5_isWay_30 ⟨Nat.le_of_ble_eq_true rfl, Nat.le_of_ble_eq_true rfl⟩) I (fun r_30 ph1 H locs hp I => ?_)
        obtain ⟨hp, rfl⟩ := hp
        have hp : r_30 = b2i (hasCr (a 5) p1) := hp
        subst hp
        refine lv_if_ne (tgt := 48) hx hb dX5_isWay_33 (by decide) (fun c_33 => ?_) (fun c_33 => ?_)
        · have p_33 := (b2i_ne0 _).mp c_33
          refine lv_iconst (v := 0) hx hb dX5_isWay_48 (by decide) ?_
          exact g_zret S hr hlk I rfl dX5_isWay_49 (Nat.le_of_ble_eq_true rfl) (Nat.le_of_ble_eq_true rfl) hQ ⟨_, rfl, (by (try simp only [p_33]); (try simp [isWy, b2i, c_2, c_18, n_18, c_25, p_33])), rfl⟩
        · have p_33 := (b2i_eq0 _).mp c_33
          refine lv_aload_n hx hb dX5_isWay_36 rfl (lv_at hl 0 rfl) ?_
          refine lv_iload_n hx hb dX5_isWay_37 rfl (lv_at hl 2 rfl) ?_
          refine g_ci (g_runV S hK I (As := [.int p1]) (rest := []) (met_X5_isBright l Γ mo ad f a rr ph p1 hw (okP_in hw h1 c_25)) (cwV 1 hts (lw_V q3126 q3128 qs65 q151 q3129) rfl rfl rfl (by decide +kernel) ⟨Nat.le_of_ble_eq_true rfl, Nat.le_of_ble_eq_true rfl⟩) (g_recv hK I (g_at.of mG_obj) (ci := 4) rfl) rfl hl.1 rfl (Nat.le_of_ble_eq_true rfl) dX5_isWay_38 ⟨Nat.le_of_ble_eq_true rfl, Nat.le_of_ble_eq_true rfl⟩) I (fun r_38 ph1 H locs hp I => ?_)
          obtain ⟨hp, rfl⟩ := hp
          have hp : r_38 = b2i (isBr (a 5) p1) := hp
          subst hp
          refine lv_if_eq (tgt := 48) hx hb dX5_isWay_41 (by decide) (fun c_41 => ?_) (fun c_41 => ?_)
          · have p_41 := (b2i_eq0 _).mp c_41
            refine lv_iconst (v := 0) hx hb dX5_isWay_48 (by decide) ?_
            exact g_zret S hr hlk I rfl dX5_isWay_49 (Nat.le_of_ble_eq_true rfl) (Nat.le_of_ble_eq_true rfl) hQ ⟨_, rfl, (by (try simp only [p_33, p_41]); (try simp [isWy, b2i, c_2, c_18, n_18, c_25, p_33, p_41])), rfl⟩
          · have p_41 := (b2i_ne0 _).mp c_41
            refine lv_iconst (v := 1) hx hb dX5_isWay_44 (by decide) ?_
            refine lv_goto (tgt := 49) hx hb dX5_isWay_45 (by decide) ?_
            exact g_zret S hr hlk I rfl dX5_isWay_49 (Nat.le_of_ble_eq_true rfl) (Nat.le_of_ble_eq_true rfl) hQ ⟨_, rfl, (by (try simp only [p_33, p_41]); (try simp [isWy, b2i, c_2, c_18, n_18, c_25, p_33, p_41])), rfl⟩
    · have n_18 := Int32.not_le.mp c_18
      refine lv_iconst (v := 0) hx hb dX5_isWay_21 (by decide) ?_
      exact g_zret S hr hlk I rfl dX5_isWay_22 (Nat.le_of_ble_eq_true rfl) (Nat.le_of_ble_eq_true rfl) hQ ⟨_, rfl, (by (try simp [isWy, b2i, c_2, c_18, n_18])), rfl⟩

set_option maxHeartbeats 4000000 in
set_option maxRecDepth 100000 in
theorem met_X5_notes (l : Launch) (Γ : g_C) (mo : Nat) (ad : Nat → Nat) (f : Nat → Int32) (a : Nat → Nat → Int32) (rr : Nat → UInt32) (ph : g_H) : g_Met l yX5_notes (ws_ yX5_notes cX5_notes 2 none) (g_rm 1 0 0) Γ [.ref mo] (mG Γ mo ad f a rr ph) (g_ov (fun ph' => ph' = mG Γ mo ad f (va_up a 8 (va_cpy (a 5) (a 8) 0 0 170)) rr ph)) g_no := by
  refine g_start (y := yX5_notes) (cc := cX5_notes) (maxL := 2) (ret := none) (rm := g_rm 1 0 0) (by decide) (Nat.le_of_ble_eq_true rfl) ?_
  intro p e s m A below meth c ls Q hQ S hr hlk hex hnm hK I hl
  have hx := S.1
  have hb := S.2.1
  have hown := S.2.2.2.1
  have hts := S.2.2.2.2
  have S : CallFix p m c cX5_notes 2 s A lw_all "CrumblingWallModel" := S
  have hl : lv_has ls 2 [(0, .ref mo)] := hl
  refine lv_iconst (v := 0) hx hb dX5_notes_0 (by decide) ?_
  refine lv_istore_n (lv' := [(1, .int 0), (0, .ref mo)]) hx hb dX5_notes_1 rfl hl (by decide) rfl (fun ls hl => ?_)
  have I := mI_ea I (show a = (va_up a 8 (va_cpy (a 5) (a 8) 0 0 0)) from by rw [cpy_0]; exact (va_upI _ _ rfl).symm)
  have L_2 : ∀ (d : Nat) (k : Nat), (hk : k ≤ 170) → 170 - k < d → ∀ (H : Heap) (locs : List Loc) (ls : Array Slot), g_I Γ (mG Γ mo ad f (va_up a 8 (va_cpy (a 5) (a 8) 0 0 k)) rr ph) s H locs → lv_has ls 2 [(0, .ref mo), (1, .int (nI k))] → W p l e (g_rm 1 0 0) s m A below meth c H locs 0 0 Q (F0 m 2 ls []) := by
    intro d
    induction d with
    | zero => intro k hk hd; exact absurd hd (Nat.not_lt_zero _)
    | succ d ih =>
      intro k hk hd H locs ls I hl
      refine lv_iload_n hx hb dX5_notes_2 rfl (lv_at hl 1 rfl) ?_
      refine lv_sipush (v := 170) hx hb dX5_notes_3 (by decide) ?_
      refine lv_icmp_ge (tgt := 27) hx hb dX5_notes_6 (by decide) (fun c_6 => ?_) (fun c_6 => ?_)
      · have n_6 := Int32.not_lt.mpr c_6
        obtain rfl : k = 170 := k_ge (x := 170) rfl (by decide) hk c_6
        exact g_vret S hr hlk I dX5_notes_27 (Nat.le_of_ble_eq_true rfl) (Nat.le_of_ble_eq_true rfl) hQ ⟨rfl, rfl⟩
      · have n_6 := Int32.not_le.mp c_6
        have hkl : k < 170 := k_lt (x := 170) rfl (by decide) hk c_6
        refine lv_aload_n hx hb dX5_notes_9 rfl (lv_at hl 0 rfl) ?_
        refine g_get S hK I k_X5 (v := .ref (ad 8)) (g_at.of mG_obj) 8 (by decide) q2960 rfl rfl dX5_notes_10 ?_
        refine lv_iload_n hx hb dX5_notes_13 rfl (lv_at hl 1 rfl) ?_
        refine lv_aload_n hx hb dX5_notes_14 rfl (lv_at hl 0 rfl) ?_
        refine g_get S hK I k_X5 (v := .ref (ad 5)) (g_at.of mG_obj) 5 (by decide) q2957 rfl rfl dX5_notes_15 ?_
        refine lv_iload_n hx hb dX5_notes_18 rfl (lv_at hl 1 rfl) ?_
        refine m_iald S hK I (f := (a 5)) (k := (k)) (g_at.of mG_5) (lt170 rfl hkl).1 (lt170 rfl hkl).2 dX5_notes_19 ?_
        refine m_iast S hK I (f := (va_cpy (a 5) (a 8) 0 0 k)) (k := (k)) mG_8 (lt170 rfl hkl).1 (lt170 rfl hkl).2 dX5_notes_20 (fun H locs I => ?_)
        have I := mI_8 I
        rw [bx_uu] at I
        rw [cpy_s00] at I
        refine lv_iinc (v := nI (k + 1)) (lv' := [(1, .int (nI (k + 1))), (0, .ref mo)]) hx hb dX5_notes_21 hl (k := 1) rfl (nI_1 k) (by decide) rfl (fun ls hl => ?_)
        refine lv_goto (tgt := 2) hx hb dX5_notes_24 (by decide) ?_
        exact ih (k + 1) hkl (by omega) _ _ _ I (lv_sub hl [1, 0] rfl)
  exact L_2 _ 0 (Nat.zero_le _) (Nat.lt_succ_self _) _ _ _ I (lv_sub hl [1, 0] rfl)

set_option maxHeartbeats 4000000 in
set_option maxRecDepth 100000 in
theorem met_X5_goesBack (l : Launch) (Γ : g_C) (mo : Nat) (ad : Nat → Nat) (f : Nat → Int32) (a : Nat → Nat → Int32) (rr : Nat → UInt32) (ph : g_H) : g_Met l yX5_goesBack (ws_ yX5_goesBack cX5_goesBack 2 none) (g_rm 1 0 0) Γ [.ref mo] (mG Γ mo ad f a rr ph) (g_ov (fun ph' => ph' = mG Γ mo ad f (va_up a 5 (va_cpy (a 8) (a 5) 0 0 170)) rr ph)) g_no := by
  refine g_start (y := yX5_goesBack) (cc := cX5_goesBack) (maxL := 2) (ret := none) (rm := g_rm 1 0 0) (by decide) (Nat.le_of_ble_eq_true rfl) ?_
  intro p e s m A below meth c ls Q hQ S hr hlk hex hnm hK I hl
  have hx := S.1
  have hb := S.2.1
  have hown := S.2.2.2.1
  have hts := S.2.2.2.2
  have S : CallFix p m c cX5_goesBack 2 s A lw_all "CrumblingWallModel" := S
  have hl : lv_has ls 2 [(0, .ref mo)] := hl
  refine lv_iconst (v := 0) hx hb dX5_goesBack_0 (by decide) ?_
  refine lv_istore_n (lv' := [(1, .int 0), (0, .ref mo)]) hx hb dX5_goesBack_1 rfl hl (by decide) rfl (fun ls hl => ?_)
  have I := mI_ea I (show a = (va_up a 5 (va_cpy (a 8) (a 5) 0 0 0)) from by rw [cpy_0]; exact (va_upI _ _ rfl).symm)
  have L_2 : ∀ (d : Nat) (k : Nat), (hk : k ≤ 170) → 170 - k < d → ∀ (H : Heap) (locs : List Loc) (ls : Array Slot), g_I Γ (mG Γ mo ad f (va_up a 5 (va_cpy (a 8) (a 5) 0 0 k)) rr ph) s H locs → lv_has ls 2 [(0, .ref mo), (1, .int (nI k))] → W p l e (g_rm 1 0 0) s m A below meth c H locs 0 0 Q (F0 m 2 ls []) := by
    intro d
    induction d with
    | zero => intro k hk hd; exact absurd hd (Nat.not_lt_zero _)
    | succ d ih =>
      intro k hk hd H locs ls I hl
      refine lv_iload_n hx hb dX5_goesBack_2 rfl (lv_at hl 1 rfl) ?_
      refine lv_sipush (v := 170) hx hb dX5_goesBack_3 (by decide) ?_
      refine lv_icmp_ge (tgt := 27) hx hb dX5_goesBack_6 (by decide) (fun c_6 => ?_) (fun c_6 => ?_)
      · have n_6 := Int32.not_lt.mpr c_6
        obtain rfl : k = 170 := k_ge (x := 170) rfl (by decide) hk c_6
        exact g_vret S hr hlk I dX5_goesBack_27 (Nat.le_of_ble_eq_true rfl) (Nat.le_of_ble_eq_true rfl) hQ ⟨rfl, rfl⟩
      · have n_6 := Int32.not_le.mp c_6
        have hkl : k < 170 := k_lt (x := 170) rfl (by decide) hk c_6
        refine lv_aload_n hx hb dX5_goesBack_9 rfl (lv_at hl 0 rfl) ?_
        refine g_get S hK I k_X5 (v := .ref (ad 5)) (g_at.of mG_obj) 5 (by decide) q2957 rfl rfl dX5_goesBack_10 ?_
        refine lv_iload_n hx hb dX5_goesBack_13 rfl (lv_at hl 1 rfl) ?_
        refine lv_aload_n hx hb dX5_goesBack_14 rfl (lv_at hl 0 rfl) ?_
        refine g_get S hK I k_X5 (v := .ref (ad 8)) (g_at.of mG_obj) 8 (by decide) q2960 rfl rfl dX5_goesBack_15 ?_
        refine lv_iload_n hx hb dX5_goesBack_18 rfl (lv_at hl 1 rfl) ?_
        refine m_iald S hK I (f := (a 8)) (k := (k)) (g_at.of mG_8) (lt170 rfl hkl).1 (lt170 rfl hkl).2 dX5_goesBack_19 ?_
        refine m_iast S hK I (f := (va_cpy (a 8) (a 5) 0 0 k)) (k := (k)) mG_5 (lt170 rfl hkl).1 (lt170 rfl hkl).2 dX5_goesBack_20 (fun H locs I => ?_)
        have I := mI_5 I
        rw [bx_uu] at I
        rw [cpy_s00] at I
        refine lv_iinc (v := nI (k + 1)) (lv' := [(1, .int (nI (k + 1))), (0, .ref mo)]) hx hb dX5_goesBack_21 hl (k := 1) rfl (nI_1 k) (by decide) rfl (fun ls hl => ?_)
        refine lv_goto (tgt := 2) hx hb dX5_goesBack_24 (by decide) ?_
        exact ih (k + 1) hkl (by omega) _ _ _ I (lv_sub hl [1, 0] rfl)
  exact L_2 _ 0 (Nat.zero_le _) (Nat.lt_succ_self _) _ _ _ I (lv_sub hl [1, 0] rfl)


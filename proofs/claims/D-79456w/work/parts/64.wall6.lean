/-! THE WALL: forces, falls, moves -/
set_option maxRecDepth 100000
theorem cpy_foF {w : m_w} : va_cpy (foF w) (foF w) 1 0 15 = foF (shF w 15) := by
  funext k
  unfold va_cpy foF
  by_cases h : k < 15
  · rw [if_pos ⟨Nat.zero_le _, by omega⟩, if_pos (by omega), if_pos (by omega), shF_at h, show 146 + (1 + (k - 0)) = 146 + k + 1 by omega]
  · rw [if_neg (by omega)]
    by_cases h2 : k < 16
    · rw [if_pos h2, if_pos h2, shF_n (by omega)]
    · rw [if_neg h2, if_neg h2]
theorem shF_wf {w : m_w} (hw : WF w) : WF (shF w 15) := hw.frc (n := nFo w) hw.2.2.2.1.2 (by rw [shF_n (by omega)]; exact hw.2.2.2.1.1) (fun j hj => shF_n (by omega))
theorem keep1_wf {w : m_w} (hw : WF w) : WF (keep1 w) := hw.frc (n := nFo (keep1 w)) (by have := (keep1_f hw).1; omega) (keep1_f hw).2 (fun j hj => keep1_n hj)
theorem foF_put {w : m_w} {K : Nat} {x : UInt32} (hK : K < 16) : vf_upd (foF w) K x = foF (upd w (146 + K) x.toInt32) := by
  funext j
  unfold vf_upd foF
  by_cases e : j = K
  · subst e
    rw [if_pos rfl, if_pos hK, upd_s]
    simp
  · rw [if_neg e]
    by_cases h2 : j < 16
    · rw [if_pos h2, if_pos h2, upd_n (by omega)]
    · rw [if_neg h2, if_neg h2]
set_option maxHeartbeats 4000000 in
set_option maxRecDepth 100000 in
theorem met_X2_keeps (l : Launch) (Γ : g_C) (htr : l.stackTraces = false) (ph : g_H) (i : Nat) (ad na : Nat → Nat) (mc : Nat → Int32) (w : m_w) (x : UInt32)  (hW : g_Wl Γ ph i ad na mc w) (hw : WF w) : g_Met l yX2_keeps (ws_ yX2_keeps cX2_keeps 2 none) (g_rm 2 0 0) Γ [.ref (ad 0), .float x] ph (g_ov (fun ph' => ∃ na' mc', g_Wl Γ ph' i ad na' mc' (keepW w x) ∧ g_frR i ph ph')) g_no := by
  refine g_start (y := yX2_keeps) (cc := cX2_keeps) (maxL := 2) (ret := none) (rm := g_rm 2 0 0) (by decide) (Nat.le_of_ble_eq_true rfl) ?_
  intro pg e s m A below meth cd ls Q hQ S hr hlk hex hnm hK I hl
  have hx := S.1
  have hb := S.2.1
  have hown := S.2.2.2.1
  have hts := S.2.2.2.2
  have S : CallFix pg m cd cX2_keeps 2 s A lw_all "CrumblingWall$Wall" := S
  have hl : lv_has ls 2 [(0, .ref (ad 0)), (1, .float x)] := hl
  have hwc := hw.1; have hwl := hw.2.1; have hwa := hw.2.2.1
  have hw0 := hw
  have hwf := hw.2.2.2.1
  refine lv_aload_n hx hb dX2_keeps_0 rfl (lv_at hl 0 rfl) ?_
  refine g_get S hK I k_X2 (v := .int (w 145)) (g_at.of hW.o0) 6 (by decide) q654 rfl rfl dX2_keeps_1 ?_
  refine lv_bipush (v := 16) hx hb dX2_keeps_4 (by decide) ?_
  refine lv_icmp_ne (tgt := 34) hx hb dX2_keeps_6 (by decide) (fun c_6 => ?_) (fun c_6 => ?_)
  · have eW : w = (keep1 w) := (if_neg c_6).symm
    rw [eW] at hW
    have hw : WF (keep1 w) := keep1_wf hw0
    have hk1 := keep1_f hw0
    refine lv_aload_n hx hb dX2_keeps_34 rfl (lv_at hl 0 rfl) ?_
    refine g_get S hK I k_X2 (v := .ref (ad 8)) (g_at.of hW.o0) 5 (by decide) q652 rfl rfl dX2_keeps_35 ?_
    refine lv_aload_n hx hb dX2_keeps_38 rfl (lv_at hl 0 rfl) ?_
    refine g_get S hK I k_X2 (v := .int ((keep1 w) 145)) (g_at.of hW.o0) 6 (by decide) q654 rfl rfl dX2_keeps_39 ?_
    refine lv_fload_n hx hb dX2_keeps_42 rfl (lv_at hl 1 rfl) ?_
    refine m_fast S hK I (f := foF (keep1 w)) (k := (nFo (keep1 w))) hW.o8 (by rw [hk1.2]; exact vp_in_nI (by omega) (by decide)) (by rw [hk1.2]; exact nI_clamp (by omega)) dX2_keeps_43 (fun H locs I => ?_)
    obtain ⟨P_1, I, hW, hG⟩ : ∃ zz, g_I Γ zz s H locs ∧ g_Wl Γ zz i ad na mc (upd (keep1 w) (146 + (nFo (keep1 w))) x.toInt32) ∧ g_frR i ph zz := ⟨_, I, (hW.putf hw (fun j hj => upd_n (by omega)) (foF_put (by omega))), g_frR.put⟩
    have hF : g_frR i ph P_1 := hG
    have eR : nN (upd (keep1 w) (146 + (nFo (keep1 w))) x.toInt32) = nN (keep1 w) ∧ nLa (upd (keep1 w) (146 + (nFo (keep1 w))) x.toInt32) = nLa (keep1 w) := by refine ⟨nN_eq ?_, nLa_eq ?_⟩ <;> exact upd_n (by omega)
    have eN : nN (upd (keep1 w) (146 + (nFo (keep1 w))) x.toInt32) = nN (keep1 w) := eR.1
    have eL : nLa (upd (keep1 w) (146 + (nFo (keep1 w))) x.toInt32) = nLa (keep1 w) := eR.2
    have hw : WF (upd (keep1 w) (146 + (nFo (keep1 w))) x.toInt32) := (hw.any (by omega))
    refine lv_aload_n hx hb dX2_keeps_44 rfl (lv_at hl 0 rfl) ?_
    refine lv_dup hx hb dX2_keeps_45 rfl ?_
    refine g_get S hK I k_X2 (v := .int ((upd (keep1 w) (146 + (nFo (keep1 w))) x.toInt32) 145)) (g_at.of hW.o0) 6 (by decide) q654 rfl rfl dX2_keeps_46 ?_
    refine lv_iconst (v := 1) hx hb dX2_keeps_49 (by decide) ?_
    refine lv_iadd hx hb dX2_keeps_50 ?_
    refine g_put S hK I k_X2 (v := .int (((upd (keep1 w) (146 + (nFo (keep1 w))) x.toInt32) 145) + 1)) hW.o0 6 (by decide) q654 rfl rfl rfl rfl (Nat.le_of_ble_eq_true rfl) dX2_keeps_51 (fun H locs I => ?_)
    obtain ⟨P_2, I, hW, hG⟩ : ∃ zz, g_I Γ zz s H locs ∧ g_Wl Γ zz i ad na mc (upd (upd (keep1 w) (146 + (nFo (keep1 w))) x.toInt32) 145 (((upd (keep1 w) (146 + (nFo (keep1 w))) x.toInt32) 145) + 1)) ∧ g_frR i P_1 zz := ⟨_, I, (hW.put_145 hw), g_frR.put⟩
    have hF : g_frR i ph P_2 := hF.trans hG
    have eR : nN (upd (upd (keep1 w) (146 + (nFo (keep1 w))) x.toInt32) 145 (((upd (keep1 w) (146 + (nFo (keep1 w))) x.toInt32) 145) + 1)) = nN (upd (keep1 w) (146 + (nFo (keep1 w))) x.toInt32) ∧ nLa (upd (upd (keep1 w) (146 + (nFo (keep1 w))) x.toInt32) 145 (((upd (keep1 w) (146 + (nFo (keep1 w))) x.toInt32) 145) + 1)) = nLa (upd (keep1 w) (146 + (nFo (keep1 w))) x.toInt32) := by refine ⟨nN_eq ?_, nLa_eq ?_⟩ <;> exact upd_n (by omega)
    have eN : nN (upd (upd (keep1 w) (146 + (nFo (keep1 w))) x.toInt32) 145 (((upd (keep1 w) (146 + (nFo (keep1 w))) x.toInt32) 145) + 1)) = nN (keep1 w) := eR.1.trans eN
    have eL : nLa (upd (upd (keep1 w) (146 + (nFo (keep1 w))) x.toInt32) 145 (((upd (keep1 w) (146 + (nFo (keep1 w))) x.toInt32) 145) + 1)) = nLa (keep1 w) := eR.2.trans eL
    have hw : WF (upd (upd (keep1 w) (146 + (nFo (keep1 w))) x.toInt32) 145 (((upd (keep1 w) (146 + (nFo (keep1 w))) x.toInt32) 145) + 1)) := (hw0.keep)
    exact g_vret S hr hlk I dX2_keeps_54 (Nat.le_of_ble_eq_true rfl) (Nat.le_of_ble_eq_true rfl) hQ ⟨rfl, ⟨_, _, hW, hF⟩⟩
  · refine lv_aload_n hx hb dX2_keeps_9 rfl (lv_at hl 0 rfl) ?_
    refine g_get S hK I k_X2 (v := .ref (ad 8)) (g_at.of hW.o0) 5 (by decide) q652 rfl rfl dX2_keeps_10 ?_
    refine lv_iconst (v := 1) hx hb dX2_keeps_13 (by decide) ?_
    refine lv_aload_n hx hb dX2_keeps_14 rfl (lv_at hl 0 rfl) ?_
    refine g_get S hK I k_X2 (v := .ref (ad 8)) (g_at.of hW.o0) 5 (by decide) q652 rfl rfl dX2_keeps_15 ?_
    refine lv_iconst (v := 0) hx hb dX2_keeps_18 (by decide) ?_
    refine lv_bipush (v := 15) hx hb dX2_keeps_19 (by decide) ?_
    refine g_copyf S hK I hl.1 (sp' := 1) (dp' := 0) (n' := 15) hW.o8 hW.o8 q1625 rfl rfl rfl (by decide) (by decide) (by decide) (by decide) (by decide) (Nat.le_of_ble_eq_true rfl) (Nat.le_of_ble_eq_true rfl) dX2_keeps_21 (fun H locs I => ?_)
    obtain ⟨P_3, I, hW, hG⟩ : ∃ zz, g_I Γ zz s H locs ∧ g_Wl Γ zz i ad na mc (shF w 15) ∧ g_frR i ph zz := ⟨_, I, (hW.putf hw (fun j hj => shF_n (by omega)) cpy_foF), g_frR.put⟩
    have hF : g_frR i ph P_3 := hG
    have eR : nN (shF w 15) = nN w ∧ nLa (shF w 15) = nLa w := by refine ⟨nN_eq ?_, nLa_eq ?_⟩ <;> exact shF_n (by omega)
    have eN : nN (shF w 15) = nN w := eR.1
    have eL : nLa (shF w 15) = nLa w := eR.2
    have hw : WF (shF w 15) := (shF_wf hw)
    refine lv_aload_n hx hb dX2_keeps_24 rfl (lv_at hl 0 rfl) ?_
    refine lv_dup hx hb dX2_keeps_25 rfl ?_
    refine g_get S hK I k_X2 (v := .int ((shF w 15) 145)) (g_at.of hW.o0) 6 (by decide) q654 rfl rfl dX2_keeps_26 ?_
    refine lv_iconst (v := 1) hx hb dX2_keeps_29 (by decide) ?_
    refine lv_isub hx hb dX2_keeps_30 ?_
    refine g_put S hK I k_X2 (v := .int (((shF w 15) 145) - 1)) hW.o0 6 (by decide) q654 rfl rfl rfl rfl (Nat.le_of_ble_eq_true rfl) dX2_keeps_31 (fun H locs I => ?_)
    obtain ⟨P_4, I, hW, hG⟩ : ∃ zz, g_I Γ zz s H locs ∧ g_Wl Γ zz i ad na mc (upd (shF w 15) 145 (((shF w 15) 145) - 1)) ∧ g_frR i P_3 zz := ⟨_, I, (hW.put_145 hw), g_frR.put⟩
    have hF : g_frR i ph P_4 := hF.trans hG
    have eR : nN (upd (shF w 15) 145 (((shF w 15) 145) - 1)) = nN (shF w 15) ∧ nLa (upd (shF w 15) 145 (((shF w 15) 145) - 1)) = nLa (shF w 15) := by refine ⟨nN_eq ?_, nLa_eq ?_⟩ <;> exact upd_n (by omega)
    have eN : nN (upd (shF w 15) 145 (((shF w 15) 145) - 1)) = nN w := eR.1.trans eN
    have eL : nLa (upd (shF w 15) 145 (((shF w 15) 145) - 1)) = nLa w := eR.2.trans eL
    have hw : WF (upd (shF w 15) 145 (((shF w 15) 145) - 1)) := (hw.frc (n := nFo (keep1 w)) (by have := (keep1_f hw0).1; omega) (by rw [upd_s, shF_n (by omega), ← (keep1_f hw0).2]; unfold keep1; rw [if_pos c_6, upd_s]) (fun j hj => upd_n (by omega)))
    have eW : (upd (shF w 15) 145 (((shF w 15) 145) - 1)) = (keep1 w) := by unfold keep1; rw [if_pos c_6, shF_n (by omega)]
    rw [eW] at hW eN eL
    have hw : WF (keep1 w) := keep1_wf hw0
    have hk1 := keep1_f hw0
    refine lv_aload_n hx hb dX2_keeps_34 rfl (lv_at hl 0 rfl) ?_
    refine g_get S hK I k_X2 (v := .ref (ad 8)) (g_at.of hW.o0) 5 (by decide) q652 rfl rfl dX2_keeps_35 ?_
    refine lv_aload_n hx hb dX2_keeps_38 rfl (lv_at hl 0 rfl) ?_
    refine g_get S hK I k_X2 (v := .int ((keep1 w) 145)) (g_at.of hW.o0) 6 (by decide) q654 rfl rfl dX2_keeps_39 ?_
    refine lv_fload_n hx hb dX2_keeps_42 rfl (lv_at hl 1 rfl) ?_
    refine m_fast S hK I (f := foF (keep1 w)) (k := (nFo (keep1 w))) hW.o8 (by rw [hk1.2]; exact vp_in_nI (by omega) (by decide)) (by rw [hk1.2]; exact nI_clamp (by omega)) dX2_keeps_43 (fun H locs I => ?_)
    obtain ⟨P_5, I, hW, hG⟩ : ∃ zz, g_I Γ zz s H locs ∧ g_Wl Γ zz i ad na mc (upd (keep1 w) (146 + (nFo (keep1 w))) x.toInt32) ∧ g_frR i P_4 zz := ⟨_, I, (hW.putf hw (fun j hj => upd_n (by omega)) (foF_put (by omega))), g_frR.put⟩
    have hF : g_frR i ph P_5 := hF.trans hG
    have eR : nN (upd (keep1 w) (146 + (nFo (keep1 w))) x.toInt32) = nN (keep1 w) ∧ nLa (upd (keep1 w) (146 + (nFo (keep1 w))) x.toInt32) = nLa (keep1 w) := by refine ⟨nN_eq ?_, nLa_eq ?_⟩ <;> exact upd_n (by omega)
    have eN : nN (upd (keep1 w) (146 + (nFo (keep1 w))) x.toInt32) = nN w := eR.1.trans eN
    have eL : nLa (upd (keep1 w) (146 + (nFo (keep1 w))) x.toInt32) = nLa w := eR.2.trans eL
    have hw : WF (upd (keep1 w) (146 + (nFo (keep1 w))) x.toInt32) := (hw.any (by omega))
    refine lv_aload_n hx hb dX2_keeps_44 rfl (lv_at hl 0 rfl) ?_
    refine lv_dup hx hb dX2_keeps_45 rfl ?_
    refine g_get S hK I k_X2 (v := .int ((upd (keep1 w) (146 + (nFo (keep1 w))) x.toInt32) 145)) (g_at.of hW.o0) 6 (by decide) q654 rfl rfl dX2_keeps_46 ?_
    refine lv_iconst (v := 1) hx hb dX2_keeps_49 (by decide) ?_
    refine lv_iadd hx hb dX2_keeps_50 ?_
    refine g_put S hK I k_X2 (v := .int (((upd (keep1 w) (146 + (nFo (keep1 w))) x.toInt32) 145) + 1)) hW.o0 6 (by decide) q654 rfl rfl rfl rfl (Nat.le_of_ble_eq_true rfl) dX2_keeps_51 (fun H locs I => ?_)
    obtain ⟨P_6, I, hW, hG⟩ : ∃ zz, g_I Γ zz s H locs ∧ g_Wl Γ zz i ad na mc (upd (upd (keep1 w) (146 + (nFo (keep1 w))) x.toInt32) 145 (((upd (keep1 w) (146 + (nFo (keep1 w))) x.toInt32) 145) + 1)) ∧ g_frR i P_5 zz := ⟨_, I, (hW.put_145 hw), g_frR.put⟩
    have hF : g_frR i ph P_6 := hF.trans hG
    have eR : nN (upd (upd (keep1 w) (146 + (nFo (keep1 w))) x.toInt32) 145 (((upd (keep1 w) (146 + (nFo (keep1 w))) x.toInt32) 145) + 1)) = nN (upd (keep1 w) (146 + (nFo (keep1 w))) x.toInt32) ∧ nLa (upd (upd (keep1 w) (146 + (nFo (keep1 w))) x.toInt32) 145 (((upd (keep1 w) (146 + (nFo (keep1 w))) x.toInt32) 145) + 1)) = nLa (upd (keep1 w) (146 + (nFo (keep1 w))) x.toInt32) := by refine ⟨nN_eq ?_, nLa_eq ?_⟩ <;> exact upd_n (by omega)
    have eN : nN (upd (upd (keep1 w) (146 + (nFo (keep1 w))) x.toInt32) 145 (((upd (keep1 w) (146 + (nFo (keep1 w))) x.toInt32) 145) + 1)) = nN w := eR.1.trans eN
    have eL : nLa (upd (upd (keep1 w) (146 + (nFo (keep1 w))) x.toInt32) 145 (((upd (keep1 w) (146 + (nFo (keep1 w))) x.toInt32) 145) + 1)) = nLa w := eR.2.trans eL
    have hw : WF (upd (upd (keep1 w) (146 + (nFo (keep1 w))) x.toInt32) 145 (((upd (keep1 w) (146 + (nFo (keep1 w))) x.toInt32) 145) + 1)) := (hw0.keep)
    exact g_vret S hr hlk I dX2_keeps_54 (Nat.le_of_ble_eq_true rfl) (Nat.le_of_ble_eq_true rfl) hQ ⟨rfl, ⟨_, _, hW, hF⟩⟩

/-- the anchor that catches the leader (-1: none), and what the falls have done -/
def cL (h : Int32) : Nat → m_fl → Int32 × m_fl
  | 0, S => (-1, S)
  | k + 1, S => if isSe S.1 1 = false ∨ S.1 131 = 0 then (-1, S) else if hasCr (ldW S.1 h) (ldA S.1) = true then cL h k (tkW (ldW S.1 h) (ldA S.1), upd S.2.1 S.2.2 (ldA S.1), S.2.2 + 1) else (ldA S.1, (ldW S.1 h, S.2))
/-- its steps: what holds of it -/
theorem cL_ok {h : Int32} : ∀ (k : Nat) (S : m_fl), WF S.1 → vp_in h (nN S.1) → nAn S.1 < k → WF (cL h k S).2.1 ∧ nN (cL h k S).2.1 = nN S.1 ∧ (cL h k S).2.2.2 + nAn (cL h k S).2.1 ≤ S.2.2 + nAn S.1 ∧ S.2.2 ≤ (cL h k S).2.2.2 ∧ ((cL h k S).1 = -1 ∨ vp_in (cL h k S).1 (nN S.1)) ∧ ldF h k S = (if (cL h k S).1 = -1 then toGr (cL h k S).2.1 0 else hangW (cL h k S).2.1 0 (cL h k S).1, (cL h k S).2.2) := by
  intro k
  induction k with
  | zero => intro S _ _ hk; exact absurd hk (Nat.not_lt_zero _)
  | succ k ih =>
    intro S hw hh hk
    unfold cL ldF
    by_cases c1 : isSe S.1 1 = false ∨ S.1 131 = 0
    · simp only [if_pos c1]
      exact ⟨hw, by first | exact trivial | rfl, Nat.le_refl _, Nat.le_refl _, by first | exact Or.inl trivial | exact Or.inl rfl, by first | rw [if_pos trivial] | rw [if_pos rfl] | simp⟩
    · simp only [if_neg c1]
      have hz : ¬ S.1 131 = 0 := fun q => c1 (Or.inr q)
      obtain ⟨a1, a2, a3, a4, a5, a6⟩ := ld_step hw (h := h) hz
      obtain ⟨b1, b2, b3⟩ := ldA_ok hw hz
      by_cases c2 : hasCr (ldW S.1 h) (ldA S.1) = true
      · simp only [if_pos c2]
        have h2 := ih (tkW (ldW S.1 h) (ldA S.1), upd S.2.1 S.2.2 (ldA S.1), S.2.2 + 1) a4 (by show vp_in h (nN (tkW _ _)); rw [a5]; exact hh) (by show nAn (tkW _ _) < k; omega)
        obtain ⟨d1, d2, d3, d4, d5, d6⟩ := h2
        have e1 : nN (tkW (ldW S.1 h) (ldA S.1)) = nN S.1 := a5
        refine ⟨d1, d2.trans e1, ?_, ?_, ?_, d6⟩
        · have d3 : _ ≤ S.2.2 + 1 + nAn (tkW (ldW S.1 h) (ldA S.1)) := d3
          omega
        · have d4 : S.2.2 + 1 ≤ _ := d4
          omega
        · rw [← e1]; exact d5
      · simp only [if_neg c2]
        refine ⟨a1, a2, by show S.2.2 + nAn (ldW S.1 h) ≤ _; omega, Nat.le_refl _, Or.inr b1, ?_⟩
        rw [if_neg (fun e => by have := vp_j b1 (Nat.lt_of_le_of_lt hw.1.2 (by decide)); obtain ⟨j, j1, j2, -⟩ := this; exact nI_m1 (by have := hw.1.2; omega) (j2 ▸ e))]
/-- the queue of holds that crumbled: those from b to n -/
def g_CQ (Γ : g_C) (ph : g_H) (dq dd b : Nat) (cr : Nat → Int32) (n : Nat) : Prop := b ≤ n ∧ ∃ hh, g_AD Γ ph 34 0 dq 35 dd hh (n - b) (fun t => g_bx Γ (cr (b + t)).toNatClampNeg)
theorem g_AD.it {Γ : g_C} {ph : g_H} {j i q jd d h n : Nat} {it it' : Nat → Nat} (hA : g_AD Γ ph j i q jd d h n it) (he : ∀ t, t < n → it' t = it t) : g_AD Γ ph j i q jd d h n it' := by
  obtain ⟨f, a1, a2, a3, a4⟩ := hA
  exact ⟨f, a1, a2, fun t ht => by rw [he t ht]; exact a3 t ht, a4⟩
def g_frD (i : Nat) (ph ph' : g_H) : Prop := ∀ j i', i' ≠ i → ¬ (i' = 0 ∧ (j = 34 ∨ j = 35)) → ph' j i' = ph j i'
theorem g_frD.refl (i : Nat) (ph : g_H) : g_frD i ph ph := fun _ _ _ _ => rfl
theorem g_frD.trans {i : Nat} {a b c : g_H} (h1 : g_frD i a b) (h2 : g_frD i b c) : g_frD i a c := fun j k h h' => (h2 j k h h').trans (h1 j k h h')
theorem g_frD.ofR {i : Nat} {a b : g_H} (h : g_frR i a b) : g_frD i a b := fun j i' h1 _ => h j i' h1
theorem g_frD.ofL {i : Nat} {a b : g_H} (h : g_fr [(34, 0), (35, 0)] a b) : g_frD i a b := fun j i' h1 h2 => h j i' (fun hm => by
  rcases List.mem_cons.mp hm with e | hm
  · cases e; exact h2 ⟨rfl, Or.inl rfl⟩
  rcases List.mem_cons.mp hm with e | hm
  · cases e; exact h2 ⟨rfl, Or.inr rfl⟩
  · exact absurd hm List.not_mem_nil)
theorem g_Tr.frD {i n : Nat} {a b : g_H} (h : g_Tr n a) (hf : g_frD i a b) (hi : i ≠ 0) (hn : n ≤ 34) : g_Tr n b := fun j h1 h2 q => by rw [hf j 0 (Ne.symm hi) (fun z => by omega)]; exact h j h1 h2 q
theorem g_CQ.frR {Γ : g_C} {ph ph' : g_H} {i dq dd b n : Nat} {cr : Nat → Int32} (h : g_CQ Γ ph dq dd b cr n) (hf : g_frR i ph ph') (hi : i ≠ 0) : g_CQ Γ ph' dq dd b cr n := by
  obtain ⟨h1, hh, h2⟩ := h
  exact ⟨h1, hh, h2.fr (hf _ _ (Ne.symm hi)) (hf _ _ (Ne.symm hi))⟩
/-- worn by so much -/
def wrK (w : m_w) (k : Nat) (x : Int32) : m_w := if w (1 + 5 * k + 2) = 3 then w else upd w (1 + 5 * k + 4) (w (1 + 5 * k + 4) + x)
theorem wrK_eq {w : m_w} {k : Nat} {x : Int32} : wrK w k x = upd w (1 + 5 * k + 4) (w (1 + 5 * k + 4) + (if w (1 + 5 * k + 2) = 3 then 0 else x)) := by
  unfold wrK
  by_cases e : w (1 + 5 * k + 2) = 3
  · rw [if_pos e, if_pos e, upd_same (by rw [Int32.add_zero])]
  · rw [if_neg e, if_neg e]
theorem wrK_n {w : m_w} {k j : Nat} {x : Int32} (h : j ≠ 1 + 5 * k + 4) : wrK w k x j = w j := by rw [wrK_eq]; exact upd_n h
theorem WF.wrK {w : m_w} (hw : WF w) {k : Nat} (hk : k < 20) {x : Int32} : WF (wrK w k x) := by rw [wrK_eq]; exact hw.wear hk (Or.inr rfl)
set_option maxHeartbeats 4000000 in
set_option maxRecDepth 100000 in
theorem met_X7_wears (l : Launch) (Γ : g_C) (htr : l.stackTraces = false) (ph : g_H) (i : Nat) (ad na : Nat → Nat) (mc : Nat → Int32) (w : m_w) (k : Nat) (x : Int32)  (hW : g_Wl Γ ph i ad na mc w) (hw : WF w) (hk : k < nN w) : g_Met l yX7_wears (ws_ yX7_wears cX7_wears 2 none) (g_rm 2 0 0) Γ [.ref (ad (30 + k)), .int x] ph (g_ov (fun ph' => ∃ na' mc', g_Wl Γ ph' i ad na' mc' (wrK w k x) ∧ g_frR i ph ph')) g_no := by
  refine g_start (y := yX7_wears) (cc := cX7_wears) (maxL := 2) (ret := none) (rm := g_rm 2 0 0) (by decide) (Nat.le_of_ble_eq_true rfl) ?_
  intro pg e s m A below meth cd ls Q hQ S hr hlk hex hnm hK I hl
  have hx := S.1
  have hb := S.2.1
  have hown := S.2.2.2.1
  have hts := S.2.2.2.2
  have S : CallFix pg m cd cX7_wears 2 s A lw_all "CrumblingWall$Hold" := S
  have hl : lv_has ls 2 [(0, .ref (ad (30 + k))), (1, .int x)] := hl
  have hwc := hw.1; have hwl := hw.2.1; have hwa := hw.2.2.1
  have hw0 := hw
  refine lv_aload_n hx hb dX7_wears_0 rfl (lv_at hl 0 rfl) ?_
  refine lv_dup hx hb dX7_wears_1 rfl ?_
  refine h_get S hK I (kd := (w (1 + 5 * k + 2))) (v := .int (w (1 + 5 * k + 4))) (g_at.of (hW.ho (k := k) (by omega))) 4 (by decide) q1437 rfl rfl dX7_wears_2 ?_
  refine lv_aload_n hx hb dX7_wears_5 rfl (lv_at hl 0 rfl) ?_
  refine g_ci (by obtain ⟨fs9, h9⟩ := ho_or hW hw (k := k) (by omega); rcases h9 with ⟨e9, r9⟩ | ⟨e9, r9⟩ | ⟨e9, r9⟩ | ⟨e9, r9⟩; exact (g_runU S hK I (As := []) (rest := [.int (w (1 + 5 * k + 4)), .ref (ad (30 + k))]) (met_X7_isWorn_k l Γ ph (ad (30 + k)) (kd := (w (1 + 5 * k + 2))) (by rw [e9]; decide)) (g_cwD (n := 0) hts q1995 q157 (by decide) (by decide +kernel) q1986 q1988 (va_Decl.of (hts _ q1987) (hts _ q1995)) q1992 q1987 ⟨Nat.le_of_ble_eq_true rfl, Nat.le_of_ble_eq_true rfl⟩) (g_recv hK I (g_at.of r9) (ci := 7) rfl) rfl hl.1 rfl (Nat.le_of_ble_eq_true rfl) dX7_wears_6 ⟨Nat.le_of_ble_eq_true rfl, Nat.le_of_ble_eq_true rfl⟩); exact (g_runU S hK I (As := []) (rest := [.int (w (1 + 5 * k + 4)), .ref (ad (30 + k))]) (met_X7_isWorn_k l Γ ph (ad (30 + k)) (kd := (w (1 + 5 * k + 2))) (by rw [e9]; decide)) (g_cwD (n := 0) hts q1995 q157 (by decide) (by decide +kernel) q1986 q1988 (va_Decl.of (hts _ q1987) (hts _ q1995)) q1994 q1987 ⟨Nat.le_of_ble_eq_true rfl, Nat.le_of_ble_eq_true rfl⟩) (g_recv hK I (g_at.of r9) (ci := 9) rfl) rfl hl.1 rfl (Nat.le_of_ble_eq_true rfl) dX7_wears_6 ⟨Nat.le_of_ble_eq_true rfl, Nat.le_of_ble_eq_true rfl⟩); exact (g_runU S hK I (As := []) (rest := [.int (w (1 + 5 * k + 4)), .ref (ad (30 + k))]) (met_X7_isWorn_k l Γ ph (ad (30 + k)) (kd := (w (1 + 5 * k + 2))) (by rw [e9]; decide)) (g_cwD (n := 0) hts q1995 q157 (by decide) (by decide +kernel) q1986 q1988 (va_Decl.of (hts _ q1987) (hts _ q1995)) q1993 q1987 ⟨Nat.le_of_ble_eq_true rfl, Nat.le_of_ble_eq_true rfl⟩) (g_recv hK I (g_at.of r9) (ci := 8) rfl) rfl hl.1 rfl (Nat.le_of_ble_eq_true rfl) dX7_wears_6 ⟨Nat.le_of_ble_eq_true rfl, Nat.le_of_ble_eq_true rfl⟩); exact (g_runU S hK I (As := []) (rest := [.int (w (1 + 5 * k + 4)), .ref (ad (30 + k))]) (met_X8_isWorn_k l Γ ph (ad (30 + k)) (kd := (w (1 + 5 * k + 2))) e9) (g_cwD (n := 0) hts q1991 q158 (by decide) (by decide +kernel) q1986 q1988 (va_Decl.of (hts _ q1987) (hts _ q1995)) q1989 q1990 ⟨Nat.le_of_ble_eq_true rfl, Nat.le_of_ble_eq_true rfl⟩) (g_recv hK I (g_at.of r9) (ci := 6) rfl) rfl hl.1 rfl (Nat.le_of_ble_eq_true rfl) dX7_wears_6 ⟨Nat.le_of_ble_eq_true rfl, Nat.le_of_ble_eq_true rfl⟩)) I (fun r_6 ph1 H locs hp I => ?_)
  obtain ⟨hp, hph⟩ := hp
  rw [hph] at I
  have hp : r_6 = wnW (w (1 + 5 * k + 2)) := hp
  rw [hp]
  have J_17_0 : ∀ (x1 : Int32) (H : Heap) (locs : List Loc) (ls : Array Slot), (hx1 : x1 = (if w (1 + 5 * k + 2) = 3 then 0 else x)) → g_I Γ ph s H locs → lv_has ls 2 [(0, .ref (ad (30 + k))), (1, .int x)] → W pg l e (g_rm 2 0 0) s m A below meth cd H locs 0 0 Q (F0 m 17 ls [.int x1, .int (w (1 + 5 * k + 4)), .ref (ad (30 + k))]) := by
    intro x1 H locs ls hx1 I hl
    subst hx1
    refine lv_iadd hx hb dX7_wears_17 ?_
    refine h_put S hK I (kd := (w (1 + 5 * k + 2))) (v := .int ((w (1 + 5 * k + 4)) + (if w (1 + 5 * k + 2) = 3 then 0 else x))) rfl (hW.ho (k := k) (by omega)) q1437 rfl dX7_wears_18 (fun H locs I => ?_)
    obtain ⟨P_2, I, hW, hG⟩ : ∃ zz, g_I Γ zz s H locs ∧ g_Wl Γ zz i ad na mc (upd w (1 + 5 * k + 4) ((w (1 + 5 * k + 4)) + (if w (1 + 5 * k + 2) = 3 then 0 else x))) ∧ g_frR i ph zz := ⟨_, I, (hW.puth hw (k := k) (by omega)), g_frR.put⟩
    have hF : g_frR i ph P_2 := hG
    have eR : nN (upd w (1 + 5 * k + 4) ((w (1 + 5 * k + 4)) + (if w (1 + 5 * k + 2) = 3 then 0 else x))) = nN w ∧ nLa (upd w (1 + 5 * k + 4) ((w (1 + 5 * k + 4)) + (if w (1 + 5 * k + 2) = 3 then 0 else x))) = nLa w := by refine ⟨nN_eq ?_, nLa_eq ?_⟩ <;> (first | rfl | (have hb4 := hw.2.1.2; have hb20 := hw.1.2; exact upd_n (by omega)))
    have eN : nN (upd w (1 + 5 * k + 4) ((w (1 + 5 * k + 4)) + (if w (1 + 5 * k + 2) = 3 then 0 else x))) = nN w := eR.1
    have eL : nLa (upd w (1 + 5 * k + 4) ((w (1 + 5 * k + 4)) + (if w (1 + 5 * k + 2) = 3 then 0 else x))) = nLa w := eR.2
    have hw : WF (upd w (1 + 5 * k + 4) ((w (1 + 5 * k + 4)) + (if w (1 + 5 * k + 2) = 3 then 0 else x))) := (hw.wear (h := k) (t := 4) (by have := hw.1.2; omega) (Or.inr rfl))
    exact g_vret S hr hlk I dX7_wears_21 (Nat.le_of_ble_eq_true rfl) (Nat.le_of_ble_eq_true rfl) hQ ⟨rfl, ⟨_, _, (by rw [show (wrK w k x) = (upd w (1 + 5 * k + 4) ((w (1 + 5 * k + 4)) + (if w (1 + 5 * k + 2) = 3 then 0 else x))) from wrK_eq]; exact hW), hF⟩⟩
  refine lv_if_eq (tgt := 16) hx hb dX7_wears_9 (by decide) (fun c_9 => ?_) (fun c_9 => ?_)
  · refine lv_iconst (v := 0) hx hb dX7_wears_16 (by decide) ?_
    exact J_17_0 0 _ _ _ (by have z := c_9; unfold wnW at z; by_cases e : w (1 + 5 * k + 2) = 3 <;> simp [e] at z ⊢) I (lv_sub hl [0, 1] rfl)
  · refine lv_iload_n hx hb dX7_wears_12 rfl (lv_at hl 1 rfl) ?_
    refine lv_goto (tgt := 17) hx hb dX7_wears_13 (by decide) ?_
    exact J_17_0 x _ _ _ (by have z := c_9; unfold wnW at z; by_cases e : w (1 + 5 * k + 2) = 3 <;> simp [e] at z ⊢) I (lv_sub hl [0, 1] rfl)

theorem wrW_K {w : m_w} {a : Int32} {x : UInt32} : wrW w a x = wrK w a.toNatClampNeg (FP.f2i (FP.fmul x 1077936128)) := rfl
set_option maxHeartbeats 4000000 in
set_option maxRecDepth 100000 in
theorem met_X2_catchesLeader (l : Launch) (Γ : g_C) (htr : l.stackTraces = false) (ph : g_H) (i : Nat) (ad na : Nat → Nat) (mc : Nat → Int32) (w : m_w) (h : Int32) (dq dd b : Nat) (S2 : (Nat → Int32) × Nat)  (hW : g_Wl Γ ph i ad na mc w) (hw : WF w) (hT : g_Tr 34 ph) (hh : vp_in h (nN w)) (hQ5 : g_CQ Γ ph dq dd b S2.1 S2.2) (hcap : S2.2 + nAn w ≤ 9) : g_Met l yX2_catchesLeader (ws_ yX2_catchesLeader cX2_catchesLeader 8 (some .int)) (g_rm 8 20 100) Γ [.ref (ad 0), .int h, .ref dq] ph (g_oi (fun rv_ ph' => rv_ = (cL h (nAn w + 1) (w, S2)).1 ∧ (∃ na' mc', g_Wl Γ ph' i ad na' mc' ((cL h (nAn w + 1) (w, S2)).2).1) ∧ g_CQ Γ ph' dq dd b ((cL h (nAn w + 1) (w, S2)).2).2.1 ((cL h (nAn w + 1) (w, S2)).2).2.2 ∧ g_frD i ph ph')) g_no := by
  refine g_start (y := yX2_catchesLeader) (cc := cX2_catchesLeader) (maxL := 8) (ret := (some .int)) (rm := g_rm 8 20 100) (by decide) (Nat.le_of_ble_eq_true rfl) ?_
  intro pg e s m A below meth cd ls Q hQ S hr hlk hex hnm hK I hl
  have hx := S.1
  have hb := S.2.1
  have hown := S.2.2.2.1
  have hts := S.2.2.2.2
  have S : CallFix pg m cd cX2_catchesLeader 8 s A lw_all "CrumblingWall$Wall" := S
  have hl : lv_has ls 8 [(0, .ref (ad 0)), (1, .int h), (2, .ref dq)] := hl
  have hwc := hw.1; have hwl := hw.2.1; have hwa := hw.2.2.1
  have L_0 : ∀ (d : Nat) (x9 : Nat) (f9 : Nat) (P9 : g_H) (na9 : Nat → Nat) (mc9 : Nat → Int32) (w1 : m_w) (cr9 : Nat → Int32) (n9 : Nat), (hfx : f9 + x9 = nAn w + 1) → (hfa : nAn w1 < f9) → (hw1 : WF w1) → (hN1 : nN w1 = nN w) → (hcp1 : n9 + nAn w1 ≤ 9) → (hE : cL h f9 (w1, cr9, n9) = cL h (nAn w + 1) (w, S2)) → (hW : g_Wl Γ P9 i ad na9 mc9 w1) → (hQ5 : g_CQ Γ P9 dq dd b cr9 n9) → (hF : g_frD i ph P9) → f9 < d → ∀ (H : Heap) (locs : List Loc) (ls : Array Slot), g_I Γ P9 s H locs → lv_has ls 8 [(0, .ref (ad 0)), (1, .int h), (2, .ref dq)] → W pg l e (g_rm 8 20 100) s m A below meth cd H locs (2 * x9) (10 * x9) Q (F0 m 0 ls []) := by
    intro d
    induction d with
    | zero => intro x9 f9 P9 na9 mc9 w1 cr9 n9 hfx hfa hw1 hN1 hcp1 hE hW hQ5 hF hd; exact absurd hd (Nat.not_lt_zero _)
    | succ d ih =>
      intro x9 f9 P9 na9 mc9 w1 cr9 n9 hfx hfa hw1 hN1 hcp1 hE hW hQ5 hF hd H locs ls I hl
      obtain ⟨f8, rfl⟩ : ∃ f, f9 = f + 1 := ⟨f9 - 1, by omega⟩
      have hw := hw1
      have hT := hT.frD hF hW.ne (by decide)
      have eN : nN w1 = nN w1 := rfl
      have eL : nLa w1 = nLa w1 := rfl
      have hwc1 := hw.1; have hwl1 := hw.2.1; have hwa1 := hw.2.2.1
      refine lv_aload_n hx hb dX2_catchesLeader_0 rfl (lv_at hl 0 rfl) ?_
      refine g_get S hK I k_X2 (v := .ref (ad 5)) (g_at.of hW.o0) 2 (by decide) q648 rfl rfl dX2_catchesLeader_1 ?_
      refine g_ci (g_runU S hK I (As := []) (rest := []) (met_J1_isEmpty l Γ P9 105 i (ad 5) (nAn w1) (mc9 0) _ _ hW.o5.1 (by omega)) (g_cwD (n := 0) hts q2119 q124 (by decide) (by decide +kernel) q2114 q2115 (g_declN (hK.N q2116 rfl)) q2117 q2118 ⟨Nat.le_of_ble_eq_true rfl, Nat.le_of_ble_eq_true rfl⟩) (g_recv hK I (g_at.of hW.o5.1) (ci := 24) rfl) rfl hl.1 rfl (Nat.le_of_ble_eq_true rfl) dX2_catchesLeader_4 ⟨by dsimp only [g_rm]; omega, by dsimp only [g_rm]; omega⟩) I (fun r_4 ph1 H locs hp I => ?_)
      obtain ⟨hp, hph⟩ := hp
      rw [hph] at I
      have hp : r_4 = (b2i (decide (nAn w1 = 0))) := hp
      rw [hp]
      refine lv_if_ne (tgt := 149) hx hb dX2_catchesLeader_7 (by decide) (fun c_7 => ?_) (fun c_7 => ?_)
      · have p_7 := of_decide_eq_true ((b2i_ne0 _).mp c_7)
        have c_7 := p_7
        refine lv_iconst (v := (-1)) hx hb dX2_catchesLeader_149 (by decide) ?_
        exact g_iret S hr hlk I dX2_catchesLeader_150 (by dsimp only [g_rm]; omega) (by dsimp only [g_rm]; omega) hQ ⟨_, rfl, by rw [← hE]; unfold cL; rw [if_pos (Or.inr ((a131_0 hw).mpr c_7))]; exact ⟨rfl, ⟨_, _, hW⟩, hQ5, hF⟩⟩
      · have p_7 := of_decide_eq_false ((b2i_eq0 _).mp c_7)
        have c_7 := p_7
        have hnz : ¬ nAn w1 = 0 := c_7
        refine lv_aload_n hx hb dX2_catchesLeader_10 rfl (lv_at hl 0 rfl) ?_
        refine lv_iconst (v := 1) hx hb dX2_catchesLeader_11 (by decide) ?_
        refine g_ci (g_runV S hK I (As := [.int 1]) (rest := []) (met_X2_isSecure l Γ htr P9 i ad na9 mc9 w1 1 hW hw  (vp_lit (by decide))) (cwV 1 hts (lw_V q2121 q1917 q1918 q121 q1919) rfl rfl rfl (by decide +kernel) ⟨Nat.le_of_ble_eq_true rfl, Nat.le_of_ble_eq_true rfl⟩) (g_recv hK I (g_at.of hW.o0) (ci := 1) rfl) rfl hl.1 rfl (Nat.le_of_ble_eq_true rfl) dX2_catchesLeader_12 ⟨by dsimp only [g_rm]; omega, by dsimp only [g_rm]; omega⟩) I (fun r_12 ph1 H locs hp I => ?_)
        obtain ⟨hp, hph⟩ := hp
        rw [hph] at I
        have hp : r_12 = (b2i (isSe w1 1)) := hp
        rw [hp]
        refine lv_if_eq (tgt := 149) hx hb dX2_catchesLeader_15 (by decide) (fun c_15 => ?_) (fun c_15 => ?_)
        · have p_15 := (b2i_eq0 _).mp c_15
          refine lv_iconst (v := (-1)) hx hb dX2_catchesLeader_149 (by decide) ?_
          exact g_iret S hr hlk I dX2_catchesLeader_150 (by dsimp only [g_rm]; omega) (by dsimp only [g_rm]; omega) hQ ⟨_, rfl, by rw [← hE]; unfold cL; rw [if_pos (Or.inl p_15)]; exact ⟨rfl, ⟨_, _, hW⟩, hQ5, hF⟩⟩
        · have p_15 := (b2i_ne0 _).mp c_15
          have hz1 : ¬ w1 131 = 0 := fun z => hnz ((a131_0 hw).mp z)
          have hz : ¬ (isSe w1 1 = false ∨ w1 131 = 0) := fun q => q.elim (fun q => absurd q (by rw [p_15]; decide)) hz1
          have hA := ldA_ok hw hz1
          have ha1 := okHx hw hA.1
          have ha2 := ha1.1
          have hh0 : vp_in h (nN w1) := by rw [hN1]; exact hh
          have hh1 := okHx hw hh0
          have hh2 := hh1.1
          have hhn : ¬ h = -1 := fun e => nI_m1 (show h.toNatClampNeg < 2 ^ 31 by omega) (hh1.2.trans e)
          have hs := ld_step hw (h := h) hz1
          refine lv_aload_n hx hb dX2_catchesLeader_18 rfl (lv_at hl 0 rfl) ?_
          refine g_get S hK I k_X2 (v := .ref (ad 5)) (g_at.of hW.o0) 2 (by decide) q648 rfl rfl dX2_catchesLeader_19 ?_
          have hne : ¬ nAn w1 = 0 := by assumption
          have hln := ll_last hW.o5 hne
          have hb9 : (w1 (132 + (nAn w1 - 1))).toNatClampNeg < nN w1 ∧ nI (w1 (132 + (nAn w1 - 1))).toNatClampNeg = w1 (132 + (nAn w1 - 1)) := okHx hw (hw.2.2.2.2.2.2.2 (nAn w1 - 1) (by omega))
          have hb8 := hb9.1
          refine g_cr (g_runV S hK I (As := []) (rest := []) (met_J24_getLast l Γ P9 105 i (ad 5) 200 i (na9 (nAn w1 - 1)) (anI Γ w1 (nAn w1 - 1)) (mc9 0) (nI (nAn w1)) _ _ _ hln.1 hln.2) (cwV 0 hts (lw_V q2122 q2123 q2124 q148 q2125) rfl rfl rfl (by decide +kernel) ⟨Nat.le_of_ble_eq_true rfl, Nat.le_of_ble_eq_true rfl⟩) (g_recv hK I (g_at.of hW.o5.1) (ci := 24) rfl) rfl hl.1 rfl (Nat.le_of_ble_eq_true rfl) dX2_catchesLeader_22 ⟨by dsimp only [g_rm]; omega, by dsimp only [g_rm]; omega⟩) I (fun r_22 ph1 H locs hp I => ?_)
          obtain ⟨hp, hph⟩ := hp
          rw [hph] at I
          have hp : r_22 = (g_bx Γ (w1 (132 + (nAn w1 - 1))).toNatClampNeg) := hp
          rw [hp]
          refine g_castI S hK q1200 (g_recvB hK I (by omega)) dX2_catchesLeader_25 ?_
          refine g_ci (g_runV S hK I (As := []) (rest := []) (met_J22_intValue l Γ P9 (w1 (132 + (nAn w1 - 1))).toNatClampNeg (by omega)) (cwV 0 hts (lw_V q1201 q1202 q1203 q146 q1204) rfl rfl rfl (by decide +kernel) ⟨Nat.le_of_ble_eq_true rfl, Nat.le_of_ble_eq_true rfl⟩) (g_recvB hK I (by omega)) rfl hl.1 rfl (Nat.le_of_ble_eq_true rfl) dX2_catchesLeader_28 ⟨by dsimp only [g_rm]; omega, by dsimp only [g_rm]; omega⟩) I (fun r_28 ph1 H locs hp I => ?_)
          obtain ⟨hp, hph⟩ := hp
          rw [hph] at I
          have hp : r_28 = (w1 (132 + (nAn w1 - 1))) := hp.trans hb9.2
          rw [hp]
          rw [show w1 (132 + (nAn w1 - 1)) = ldA w1 from hA.2.2.symm]
          refine lv_istore_n (lv' := [(3, .int (ldA w1)), (0, .ref (ad 0)), (1, .int h), (2, .ref dq)]) hx hb dX2_catchesLeader_31 rfl hl (by decide) rfl (fun ls hl => ?_)
          have hw0 := hw
          refine lv_aload_n hx hb dX2_catchesLeader_32 rfl (lv_at hl 1 rfl) ?_
          refine g_get S hK I k_X2 (v := .ref (ad 1)) (g_at.of hW.o0) 0 (by decide) q643 rfl rfl dX2_catchesLeader_33 ?_
          refine lv_iload_n hx hb dX2_catchesLeader_36 rfl (lv_at hl 0 rfl) ?_
          refine g_cr (g_runV S hK I (As := [.int (ldA w1)]) (rest := []) (by have z := (met_w_get1 l Γ P9 i ad na9 mc9 w1 hW hw ((ldA w1).toNatClampNeg) ha2); rw [ha1.2] at z; exact z) (cwV 1 hts (lw_V q883 q793 q3509 q130 q795) rfl rfl rfl (by decide +kernel) ⟨Nat.le_of_ble_eq_true rfl, Nat.le_of_ble_eq_true rfl⟩) (g_recv hK I (g_at.of hW.o1) (ci := 21) rfl) rfl hl.1 rfl (Nat.le_of_ble_eq_true rfl) dX2_catchesLeader_37 ⟨by dsimp only [g_rm]; omega, by dsimp only [g_rm]; omega⟩) I (fun r_37 ph1 H locs hp I => ?_)
          obtain ⟨hp, hph⟩ := hp
          rw [hph] at I
          have hp : r_37 = (ad (30 + ((ldA w1).toNatClampNeg))) := hp
          rw [hp]
          refine h_cast S hK I (ho_or hW hw (k := ((ldA w1).toNatClampNeg)) (by omega)) q1389 hca_Hold dX2_catchesLeader_40 ?_
          refine lv_astore (lv' := [(4, .ref (ad (30 + ((ldA w1).toNatClampNeg)))), (3, .int (ldA w1)), (0, .ref (ad 0)), (1, .int h), (2, .ref dq)]) hx hb dX2_catchesLeader_43 hl (by decide) rfl (fun ls hl => ?_)
          refine lv_iconst (v := 2) hx hb dX2_catchesLeader_45 (by decide) ?_
          refine lv_aload hx hb dX2_catchesLeader_46 (lv_at hl 0 rfl) ?_
          refine lv_aload_n hx hb dX2_catchesLeader_48 rfl (lv_at hl 2 rfl) ?_
          refine g_get S hK I k_X2 (v := .ref (ad 1)) (g_at.of hW.o0) 0 (by decide) q643 rfl rfl dX2_catchesLeader_49 ?_
          refine lv_iload_n hx hb dX2_catchesLeader_52 rfl (lv_at hl 3 rfl) ?_
          refine g_cr (g_runV S hK I (As := [.int h]) (rest := [.ref (ad (30 + ((ldA w1).toNatClampNeg))), .int 2]) (by have z := (met_w_get1 l Γ P9 i ad na9 mc9 w1 hW hw h.toNatClampNeg hh2); rw [hh1.2] at z; exact z) (cwV 1 hts (lw_V q883 q793 q3509 q130 q795) rfl rfl rfl (by decide +kernel) ⟨Nat.le_of_ble_eq_true rfl, Nat.le_of_ble_eq_true rfl⟩) (g_recv hK I (g_at.of hW.o1) (ci := 21) rfl) rfl hl.1 rfl (Nat.le_of_ble_eq_true rfl) dX2_catchesLeader_53 ⟨by dsimp only [g_rm]; omega, by dsimp only [g_rm]; omega⟩) I (fun r_53 ph1 H locs hp I => ?_)
          obtain ⟨hp, hph⟩ := hp
          rw [hph] at I
          have hp : r_53 = (ad (30 + h.toNatClampNeg)) := hp
          rw [hp]
          refine h_cast S hK I (ho_or hW hw (k := h.toNatClampNeg) hh2) q884 hca_Place dX2_catchesLeader_56 ?_
          rw [show ad (30 + h.toNatClampNeg) = plA ad h from (if_neg hhn).symm]
          refine g_ci (by obtain ⟨fs9, h9⟩ := ho_or hW hw (k := ((ldA w1).toNatClampNeg)) (by omega); rcases h9 with ⟨e9, r9⟩ | ⟨e9, r9⟩ | ⟨e9, r9⟩ | ⟨e9, r9⟩; exact (g_runU S hK I (As := [.ref (plA ad h)]) (rest := [.int 2]) (met_X7_distance l Γ htr P9 i ad na9 mc9 w1 ((ldA w1).toNatClampNeg) h hW hw  (by omega) (Or.inr hh0)) (g_cwD (n := 1) hts q1214 q157 (by decide) (by decide +kernel) q1862 q3532 (va_Decl.of (hts _ q1212) (hts _ q1214)) q3534 q1212 ⟨Nat.le_of_ble_eq_true rfl, Nat.le_of_ble_eq_true rfl⟩) (g_recv hK I (g_at.of r9) (ci := 7) rfl) rfl hl.1 rfl (Nat.le_of_ble_eq_true rfl) dX2_catchesLeader_59 ⟨by dsimp only [g_rm]; omega, by dsimp only [g_rm]; omega⟩); exact (g_runU S hK I (As := [.ref (plA ad h)]) (rest := [.int 2]) (met_X7_distance l Γ htr P9 i ad na9 mc9 w1 ((ldA w1).toNatClampNeg) h hW hw  (by omega) (Or.inr hh0)) (g_cwD (n := 1) hts q1214 q157 (by decide) (by decide +kernel) q1862 q3532 (va_Decl.of (hts _ q1212) (hts _ q1214)) q3536 q1212 ⟨Nat.le_of_ble_eq_true rfl, Nat.le_of_ble_eq_true rfl⟩) (g_recv hK I (g_at.of r9) (ci := 9) rfl) rfl hl.1 rfl (Nat.le_of_ble_eq_true rfl) dX2_catchesLeader_59 ⟨by dsimp only [g_rm]; omega, by dsimp only [g_rm]; omega⟩); exact (g_runU S hK I (As := [.ref (plA ad h)]) (rest := [.int 2]) (met_X7_distance l Γ htr P9 i ad na9 mc9 w1 ((ldA w1).toNatClampNeg) h hW hw  (by omega) (Or.inr hh0)) (g_cwD (n := 1) hts q1214 q157 (by decide) (by decide +kernel) q1862 q3532 (va_Decl.of (hts _ q1212) (hts _ q1214)) q3535 q1212 ⟨Nat.le_of_ble_eq_true rfl, Nat.le_of_ble_eq_true rfl⟩) (g_recv hK I (g_at.of r9) (ci := 8) rfl) rfl hl.1 rfl (Nat.le_of_ble_eq_true rfl) dX2_catchesLeader_59 ⟨by dsimp only [g_rm]; omega, by dsimp only [g_rm]; omega⟩); exact (g_runU S hK I (As := [.ref (plA ad h)]) (rest := [.int 2]) (met_X7_distance l Γ htr P9 i ad na9 mc9 w1 ((ldA w1).toNatClampNeg) h hW hw  (by omega) (Or.inr hh0)) (g_cwD (n := 1) hts q1214 q157 (by decide) (by decide +kernel) q1862 q3532 (va_Decl.of (hts _ q1212) (hts _ q1214)) q3533 q1212 ⟨Nat.le_of_ble_eq_true rfl, Nat.le_of_ble_eq_true rfl⟩) (g_recv hK I (g_at.of r9) (ci := 6) rfl) rfl hl.1 rfl (Nat.le_of_ble_eq_true rfl) dX2_catchesLeader_59 ⟨by dsimp only [g_rm]; omega, by dsimp only [g_rm]; omega⟩)) I (fun r_59 ph1 H locs hp I => ?_)
          obtain ⟨hp, hph⟩ := hp
          rw [hph] at I
          have hp : r_59 = (dst w1 (nI ((ldA w1).toNatClampNeg)) h) := hp
          rw [hp]
          rw [ha1.2]
          refine lv_imul hx hb dX2_catchesLeader_62 ?_
          refine lv_istore (lv' := [(5, .int (2 * (dst w1 (ldA w1) h))), (4, .ref (ad (30 + ((ldA w1).toNatClampNeg)))), (3, .int (ldA w1)), (0, .ref (ad 0)), (1, .int h), (2, .ref dq)]) hx hb dX2_catchesLeader_63 hl (by decide) rfl (fun ls hl => ?_)
          refine lv_aload_n hx hb dX2_catchesLeader_65 rfl (lv_at hl 3 rfl) ?_
          refine lv_aload_n hx hb dX2_catchesLeader_66 rfl (lv_at hl 3 rfl) ?_
          refine lv_iconst (v := 1) hx hb dX2_catchesLeader_67 (by decide) ?_
          refine g_cr (g_runV S hK I (As := [.int 1]) (rest := [.ref (ad 0)]) (met_X2_at l Γ htr P9 i ad na9 mc9 w1 1 hW hw  (vp_lit (by decide))) (cwV 1 hts (lw_V q778 q779 q780 q121 q781) rfl rfl rfl (by decide +kernel) ⟨Nat.le_of_ble_eq_true rfl, Nat.le_of_ble_eq_true rfl⟩) (g_recv hK I (g_at.of hW.o0) (ci := 1) rfl) rfl hl.1 rfl (Nat.le_of_ble_eq_true rfl) dX2_catchesLeader_68 ⟨by dsimp only [g_rm]; omega, by dsimp only [g_rm]; omega⟩) I (fun r_68 ph1 H locs hp I => ?_)
          obtain ⟨hp, hph⟩ := hp
          rw [hph] at I
          have hp : r_68 = (plA ad (plc w1 1)) := hp
          rw [hp]
          refine lv_aload_n hx hb dX2_catchesLeader_71 rfl (lv_at hl 3 rfl) ?_
          refine g_get S hK I k_X2 (v := .ref (ad 1)) (g_at.of hW.o0) 0 (by decide) q643 rfl rfl dX2_catchesLeader_72 ?_
          refine lv_iload_n hx hb dX2_catchesLeader_75 rfl (lv_at hl 4 rfl) ?_
          refine g_cr (g_runV S hK I (As := [.int h]) (rest := [.ref (plA ad (plc w1 1)), .ref (ad 0)]) (by have z := (met_w_get1 l Γ P9 i ad na9 mc9 w1 hW hw h.toNatClampNeg hh2); rw [hh1.2] at z; exact z) (cwV 1 hts (lw_V q883 q793 q3509 q130 q795) rfl rfl rfl (by decide +kernel) ⟨Nat.le_of_ble_eq_true rfl, Nat.le_of_ble_eq_true rfl⟩) (g_recv hK I (g_at.of hW.o1) (ci := 21) rfl) rfl hl.1 rfl (Nat.le_of_ble_eq_true rfl) dX2_catchesLeader_76 ⟨by dsimp only [g_rm]; omega, by dsimp only [g_rm]; omega⟩) I (fun r_76 ph1 H locs hp I => ?_)
          obtain ⟨hp, hph⟩ := hp
          rw [hph] at I
          have hp : r_76 = (ad (30 + h.toNatClampNeg)) := hp
          rw [hp]
          refine h_cast S hK I (ho_or hW hw (k := h.toNatClampNeg) hh2) q884 hca_Place dX2_catchesLeader_79 ?_
          rw [show ad (30 + h.toNatClampNeg) = plA ad h from (if_neg hhn).symm]
          refine g_ci (g_runV S hK I (As := [.ref (plA ad (plc w1 1)), .ref (plA ad h)]) (rest := []) (met_X2_out_2 l Γ htr P9 i ad na9 mc9 w1 (plc w1 1) h hW hw hT (hw.pl (c := 1) (vp_lit (by decide))) (Or.inr hh0)) (cwV 2 hts (lw_V q885 q887 qs4 q121 q888) rfl rfl rfl (by decide +kernel) ⟨Nat.le_of_ble_eq_true rfl, Nat.le_of_ble_eq_true rfl⟩) (g_recv hK I (g_at.of hW.o0) (ci := 1) rfl) rfl hl.1 rfl (Nat.le_of_ble_eq_true rfl) dX2_catchesLeader_82 ⟨by dsimp only [g_rm]; omega, by dsimp only [g_rm]; omega⟩) I (fun r_82 ph1 H locs hp I => ?_)
          obtain ⟨hp, hph⟩ := hp
          rw [hph] at I
          have hp : r_82 = (rope w1 (plc w1 1) h) := hp
          rw [hp]
          refine lv_istore (lv' := [(6, .int (rope w1 (plc w1 1) h)), (5, .int (2 * (dst w1 (ldA w1) h))), (4, .ref (ad (30 + ((ldA w1).toNatClampNeg)))), (3, .int (ldA w1)), (0, .ref (ad 0)), (1, .int h), (2, .ref dq)]) hx hb dX2_catchesLeader_85 hl (by decide) rfl (fun ls hl => ?_)
          refine lv_iload hx hb dX2_catchesLeader_87 (lv_at hl 0 rfl) ?_
          have J_103_0 : ∀ (x1 : UInt32) (H : Heap) (locs : List Loc) (ls : Array Slot), (hx1 : x1 = (frc w1 (ldA w1) h)) → g_I Γ P9 s H locs → lv_has ls 8 [(6, .int (rope w1 (plc w1 1) h)), (5, .int (2 * (dst w1 (ldA w1) h))), (4, .ref (ad (30 + ((ldA w1).toNatClampNeg)))), (3, .int (ldA w1)), (0, .ref (ad 0)), (1, .int h), (2, .ref dq)] → W pg l e (g_rm 8 20 100) s m A below meth cd H locs (2 * x9 + 1) (10 * x9 + 5) Q (F0 m 103 ls [.float x1]) := by
            intro x1 H locs ls hx1 I hl
            subst hx1
            refine lv_fstore (lv' := [(7, .float (frc w1 (ldA w1) h)), (6, .int (rope w1 (plc w1 1) h)), (5, .int (2 * (dst w1 (ldA w1) h))), (4, .ref (ad (30 + ((ldA w1).toNatClampNeg)))), (3, .int (ldA w1)), (0, .ref (ad 0)), (1, .int h), (2, .ref dq)]) hx hb dX2_catchesLeader_103 hl (by decide) rfl (fun ls hl => ?_)
            refine lv_aload_n hx hb dX2_catchesLeader_105 rfl (lv_at hl 5 rfl) ?_
            refine lv_fload hx hb dX2_catchesLeader_106 (lv_at hl 0 rfl) ?_
            refine g_cv (g_runV S hK I (As := [.float (frc w1 (ldA w1) h)]) (rest := []) (met_X2_keeps l Γ htr P9 i ad na9 mc9 w1 (frc w1 (ldA w1) h) hW hw  ) (cwV 1 hts (lw_V q2128 q2130 qs25 q121 q2131) rfl rfl rfl (by decide +kernel) ⟨Nat.le_of_ble_eq_true rfl, Nat.le_of_ble_eq_true rfl⟩) (g_recv hK I (g_at.of hW.o0) (ci := 1) rfl) rfl hl.1 rfl (Nat.le_of_ble_eq_true rfl) dX2_catchesLeader_108 ⟨by dsimp only [g_rm]; omega, by dsimp only [g_rm]; omega⟩) I (fun ph1 H locs hp I => ?_)
            obtain ⟨na_3, mc_4, hW, hG⟩ := hp
            have I : g_I Γ ph1 s H locs := I
            generalize ph1 = P_2 at I hW hG
            have hF : g_frD i ph P_2 := hF.trans (g_frD.ofR hG)
            have hT : g_Tr 34 P_2 := hT.fr hG hW.ne
            have hQ5 := hQ5.frR hG hW.ne
            have eR : nN (keepW w1 (frc w1 (ldA w1) h)) = nN w1 ∧ nLa (keepW w1 (frc w1 (ldA w1) h)) = nLa w1 := by refine ⟨nN_eq ?_, nLa_eq ?_⟩ <;> exact keepW_n (by omega)
            have eN : nN (keepW w1 (frc w1 (ldA w1) h)) = nN w1 := eR.1.trans eN
            have eL : nLa (keepW w1 (frc w1 (ldA w1) h)) = nLa w1 := eR.2.trans eL
            have hw : WF (keepW w1 (frc w1 (ldA w1) h)) := hw.keep
            refine lv_aload hx hb dX2_catchesLeader_111 (lv_at hl 3 rfl) ?_
            refine lv_fload hx hb dX2_catchesLeader_113 (lv_at hl 0 rfl) ?_
            refine g_ldcfw hx hb hown (hts _ q2132) dX2_catchesLeader_115 ?_
            refine lv_fmul hx hb dX2_catchesLeader_118 (n32_frc3 hw0 (Or.inr hA.1) (Or.inr hh0)) ?_
            refine lv_f2i hx hb dX2_catchesLeader_119 ?_
            refine g_cv (by obtain ⟨fs9, h9⟩ := ho_or hW hw (k := ((ldA w1).toNatClampNeg)) (by omega); rcases h9 with ⟨e9, r9⟩ | ⟨e9, r9⟩ | ⟨e9, r9⟩ | ⟨e9, r9⟩; exact (g_runU S hK I (As := [.int (FP.f2i (FP.fmul (frc w1 (ldA w1) h) 1077936128))]) (rest := []) (met_X7_wears l Γ htr P_2 i ad na_3 mc_4 (keepW w1 (frc w1 (ldA w1) h)) ((ldA w1).toNatClampNeg) (FP.f2i (FP.fmul (frc w1 (ldA w1) h) 1077936128)) hW hw  (by omega)) (g_cwD (n := 1) hts q1985 q157 (by decide) (by decide +kernel) q1978 q1980 (va_Decl.of (hts _ q1979) (hts _ q1985)) q1982 q1979 ⟨Nat.le_of_ble_eq_true rfl, Nat.le_of_ble_eq_true rfl⟩) (g_recv hK I (g_at.of r9) (ci := 7) rfl) rfl hl.1 rfl (Nat.le_of_ble_eq_true rfl) dX2_catchesLeader_120 ⟨by dsimp only [g_rm]; omega, by dsimp only [g_rm]; omega⟩); exact (g_runU S hK I (As := [.int (FP.f2i (FP.fmul (frc w1 (ldA w1) h) 1077936128))]) (rest := []) (met_X7_wears l Γ htr P_2 i ad na_3 mc_4 (keepW w1 (frc w1 (ldA w1) h)) ((ldA w1).toNatClampNeg) (FP.f2i (FP.fmul (frc w1 (ldA w1) h) 1077936128)) hW hw  (by omega)) (g_cwD (n := 1) hts q1985 q157 (by decide) (by decide +kernel) q1978 q1980 (va_Decl.of (hts _ q1979) (hts _ q1985)) q1984 q1979 ⟨Nat.le_of_ble_eq_true rfl, Nat.le_of_ble_eq_true rfl⟩) (g_recv hK I (g_at.of r9) (ci := 9) rfl) rfl hl.1 rfl (Nat.le_of_ble_eq_true rfl) dX2_catchesLeader_120 ⟨by dsimp only [g_rm]; omega, by dsimp only [g_rm]; omega⟩); exact (g_runU S hK I (As := [.int (FP.f2i (FP.fmul (frc w1 (ldA w1) h) 1077936128))]) (rest := []) (met_X7_wears l Γ htr P_2 i ad na_3 mc_4 (keepW w1 (frc w1 (ldA w1) h)) ((ldA w1).toNatClampNeg) (FP.f2i (FP.fmul (frc w1 (ldA w1) h) 1077936128)) hW hw  (by omega)) (g_cwD (n := 1) hts q1985 q157 (by decide) (by decide +kernel) q1978 q1980 (va_Decl.of (hts _ q1979) (hts _ q1985)) q1983 q1979 ⟨Nat.le_of_ble_eq_true rfl, Nat.le_of_ble_eq_true rfl⟩) (g_recv hK I (g_at.of r9) (ci := 8) rfl) rfl hl.1 rfl (Nat.le_of_ble_eq_true rfl) dX2_catchesLeader_120 ⟨by dsimp only [g_rm]; omega, by dsimp only [g_rm]; omega⟩); exact (g_runU S hK I (As := [.int (FP.f2i (FP.fmul (frc w1 (ldA w1) h) 1077936128))]) (rest := []) (met_X7_wears l Γ htr P_2 i ad na_3 mc_4 (keepW w1 (frc w1 (ldA w1) h)) ((ldA w1).toNatClampNeg) (FP.f2i (FP.fmul (frc w1 (ldA w1) h) 1077936128)) hW hw  (by omega)) (g_cwD (n := 1) hts q1985 q157 (by decide) (by decide +kernel) q1978 q1980 (va_Decl.of (hts _ q1979) (hts _ q1985)) q1981 q1979 ⟨Nat.le_of_ble_eq_true rfl, Nat.le_of_ble_eq_true rfl⟩) (g_recv hK I (g_at.of r9) (ci := 6) rfl) rfl hl.1 rfl (Nat.le_of_ble_eq_true rfl) dX2_catchesLeader_120 ⟨by dsimp only [g_rm]; omega, by dsimp only [g_rm]; omega⟩)) I (fun ph1 H locs hp I => ?_)
            obtain ⟨na_6, mc_7, hW, hG⟩ := hp
            have I : g_I Γ ph1 s H locs := I
            generalize ph1 = P_5 at I hW hG
            have hF : g_frD i ph P_5 := hF.trans (g_frD.ofR hG)
            have hT : g_Tr 34 P_5 := hT.fr hG hW.ne
            have hQ5 := hQ5.frR hG hW.ne
            have eR : nN (wrK (keepW w1 (frc w1 (ldA w1) h)) ((ldA w1).toNatClampNeg) (FP.f2i (FP.fmul (frc w1 (ldA w1) h) 1077936128))) = nN (keepW w1 (frc w1 (ldA w1) h)) ∧ nLa (wrK (keepW w1 (frc w1 (ldA w1) h)) ((ldA w1).toNatClampNeg) (FP.f2i (FP.fmul (frc w1 (ldA w1) h) 1077936128))) = nLa (keepW w1 (frc w1 (ldA w1) h)) := by refine ⟨nN_eq ?_, nLa_eq ?_⟩ <;> exact wrK_n (by omega)
            have eN : nN (wrK (keepW w1 (frc w1 (ldA w1) h)) ((ldA w1).toNatClampNeg) (FP.f2i (FP.fmul (frc w1 (ldA w1) h) 1077936128))) = nN w1 := eR.1.trans eN
            have eL : nLa (wrK (keepW w1 (frc w1 (ldA w1) h)) ((ldA w1).toNatClampNeg) (FP.f2i (FP.fmul (frc w1 (ldA w1) h) 1077936128))) = nLa w1 := eR.2.trans eL
            have hw : WF (wrK (keepW w1 (frc w1 (ldA w1) h)) ((ldA w1).toNatClampNeg) (FP.f2i (FP.fmul (frc w1 (ldA w1) h) 1077936128))) := (hw.wrK (by omega))
            have eW : (wrK (keepW w1 (frc w1 (ldA w1) h)) ((ldA w1).toNatClampNeg) (FP.f2i (FP.fmul (frc w1 (ldA w1) h) 1077936128))) = ldW w1 h := rfl
            rw [eW] at hW hw eN eL
            refine lv_aload hx hb dX2_catchesLeader_123 (lv_at hl 3 rfl) ?_
            refine g_ci (by obtain ⟨fs9, h9⟩ := ho_or hW hw (k := ((ldA w1).toNatClampNeg)) (by omega); rcases h9 with ⟨e9, r9⟩ | ⟨e9, r9⟩ | ⟨e9, r9⟩ | ⟨e9, r9⟩; exact (g_runU S hK I (As := []) (rest := []) (met_X7_hasCrumbled l Γ htr P_5 i ad na_6 mc_7 (ldW w1 h) ((ldA w1).toNatClampNeg) hW hw  (by omega)) (g_cwD (n := 0) hts q1373 q157 (by decide) (by decide +kernel) q1920 q1368 (va_Decl.of (hts _ q1367) (hts _ q1373)) q1370 q1367 ⟨Nat.le_of_ble_eq_true rfl, Nat.le_of_ble_eq_true rfl⟩) (g_recv hK I (g_at.of r9) (ci := 7) rfl) rfl hl.1 rfl (Nat.le_of_ble_eq_true rfl) dX2_catchesLeader_125 ⟨by dsimp only [g_rm]; omega, by dsimp only [g_rm]; omega⟩); exact (g_runU S hK I (As := []) (rest := []) (met_X7_hasCrumbled l Γ htr P_5 i ad na_6 mc_7 (ldW w1 h) ((ldA w1).toNatClampNeg) hW hw  (by omega)) (g_cwD (n := 0) hts q1373 q157 (by decide) (by decide +kernel) q1920 q1368 (va_Decl.of (hts _ q1367) (hts _ q1373)) q1372 q1367 ⟨Nat.le_of_ble_eq_true rfl, Nat.le_of_ble_eq_true rfl⟩) (g_recv hK I (g_at.of r9) (ci := 9) rfl) rfl hl.1 rfl (Nat.le_of_ble_eq_true rfl) dX2_catchesLeader_125 ⟨by dsimp only [g_rm]; omega, by dsimp only [g_rm]; omega⟩); exact (g_runU S hK I (As := []) (rest := []) (met_X7_hasCrumbled l Γ htr P_5 i ad na_6 mc_7 (ldW w1 h) ((ldA w1).toNatClampNeg) hW hw  (by omega)) (g_cwD (n := 0) hts q1373 q157 (by decide) (by decide +kernel) q1920 q1368 (va_Decl.of (hts _ q1367) (hts _ q1373)) q1371 q1367 ⟨Nat.le_of_ble_eq_true rfl, Nat.le_of_ble_eq_true rfl⟩) (g_recv hK I (g_at.of r9) (ci := 8) rfl) rfl hl.1 rfl (Nat.le_of_ble_eq_true rfl) dX2_catchesLeader_125 ⟨by dsimp only [g_rm]; omega, by dsimp only [g_rm]; omega⟩); exact (g_runU S hK I (As := []) (rest := []) (met_X7_hasCrumbled l Γ htr P_5 i ad na_6 mc_7 (ldW w1 h) ((ldA w1).toNatClampNeg) hW hw  (by omega)) (g_cwD (n := 0) hts q1373 q157 (by decide) (by decide +kernel) q1920 q1368 (va_Decl.of (hts _ q1367) (hts _ q1373)) q1369 q1367 ⟨Nat.le_of_ble_eq_true rfl, Nat.le_of_ble_eq_true rfl⟩) (g_recv hK I (g_at.of r9) (ci := 6) rfl) rfl hl.1 rfl (Nat.le_of_ble_eq_true rfl) dX2_catchesLeader_125 ⟨by dsimp only [g_rm]; omega, by dsimp only [g_rm]; omega⟩)) I (fun r_125 ph1 H locs hp I => ?_)
            obtain ⟨hp, hph⟩ := hp
            rw [hph] at I
            have hp : r_125 = (b2i (hasCr (ldW w1 h) (nI ((ldA w1).toNatClampNeg)))) := hp
            rw [hp]
            rw [ha1.2]
            refine lv_if_ne (tgt := 133) hx hb dX2_catchesLeader_128 (by decide) (fun c_128 => ?_) (fun c_128 => ?_)
            · have p_128 := (b2i_ne0 _).mp c_128
              refine lv_aload_n hx hb dX2_catchesLeader_133 rfl (lv_at hl 5 rfl) ?_
              refine lv_iload_n hx hb dX2_catchesLeader_134 rfl (lv_at hl 4 rfl) ?_
              refine g_cv (g_runV S hK I (As := [.int (ldA w1)]) (rest := []) (met_X2_takesOut l Γ htr P_5 i ad na_6 mc_7 (ldW w1 h) (ldA w1) hW hw hT ) (cwV 1 hts (lw_V q2028 q2030 qs21 q121 q2031) rfl rfl rfl (by decide +kernel) ⟨Nat.le_of_ble_eq_true rfl, Nat.le_of_ble_eq_true rfl⟩) (g_recv hK I (g_at.of hW.o0) (ci := 1) rfl) rfl hl.1 rfl (Nat.le_of_ble_eq_true rfl) dX2_catchesLeader_135 ⟨by dsimp only [g_rm]; omega, by dsimp only [g_rm]; omega⟩) I (fun ph1 H locs hp I => ?_)
              obtain ⟨na_9, mc_10, hW, hG⟩ := hp
              have I : g_I Γ ph1 s H locs := I
              generalize ph1 = P_8 at I hW hG
              have hF : g_frD i ph P_8 := hF.trans (g_frD.ofR hG)
              have hT : g_Tr 34 P_8 := hT.fr hG hW.ne
              have hQ5 := hQ5.frR hG hW.ne
              have eR : nN (tkW (ldW w1 h) (ldA w1)) = nN (ldW w1 h) ∧ nLa (tkW (ldW w1 h) (ldA w1)) = nLa (ldW w1 h) := by refine ⟨nN_eq ?_, nLa_eq ?_⟩ <;> exact tkW_n hw (by omega)
              have eN : nN (tkW (ldW w1 h) (ldA w1)) = nN w1 := eR.1.trans eN
              have eL : nLa (tkW (ldW w1 h) (ldA w1)) = nLa w1 := eR.2.trans eL
              have hw : WF (tkW (ldW w1 h) (ldA w1)) := hw.tk
              refine lv_aload_n hx hb dX2_catchesLeader_138 rfl (lv_at hl 7 rfl) ?_
              refine lv_iload_n hx hb dX2_catchesLeader_139 rfl (lv_at hl 4 rfl) ?_
              refine g_cr (g_runS S hK I (As := [.int (ldA w1)]) (rest := [.ref dq]) (met_J22_valueOf l Γ P_8 (ldA w1) (ldA w1).toNatClampNeg ha1.2.symm (by omega)) (va_cwS 1 hts (lw_S q2002 q2003 q146 q2004) rfl rfl rfl (by decide +kernel) ⟨Nat.le_of_ble_eq_true rfl, Nat.le_of_ble_eq_true rfl⟩) rfl hl.1 rfl (Nat.le_of_ble_eq_true rfl) dX2_catchesLeader_140 ⟨by dsimp only [g_rm]; omega, by dsimp only [g_rm]; omega⟩) I (fun r_140 ph1 H locs hp I => ?_)
              obtain ⟨hp, hph⟩ := hp
              rw [hph] at I
              have hp : r_140 = (g_bx Γ (ldA w1).toNatClampNeg) := hp
              rw [hp]
              obtain ⟨hbn, hh9, hA9⟩ := hQ5
              refine g_cv (g_runV S hK I (As := [.ref (g_bx Γ (ldA w1).toNatClampNeg)]) (rest := []) (met_J25_addLast l Γ P_8 34 0 dq 35 dd hh9 (n9 - b) _ (g_bx Γ (ldA w1).toNatClampNeg) hA9 (by decide) (Or.inr ⟨_, by omega, rfl⟩) (by omega)) (cwV 1 hts (lw_V q2022 q1734 q1735 q150 q1736) rfl rfl rfl (by decide +kernel) ⟨Nat.le_of_ble_eq_true rfl, Nat.le_of_ble_eq_true rfl⟩) (by obtain ⟨f7, hq7, -⟩ := hA9; exact g_recv hK I (g_at.of hq7) (ci := 25) rfl) rfl hl.1 rfl (Nat.le_of_ble_eq_true rfl) dX2_catchesLeader_143 ⟨by dsimp only [g_rm]; omega, by dsimp only [g_rm]; omega⟩) I (fun ph1 H locs hp I => ?_)
              obtain ⟨hA9, hg9⟩ := hp
              generalize ph1 = P6 at I hA9 hg9
              have hQ5 : g_CQ Γ P6 dq dd b (upd cr9 n9 (ldA w1)) (n9 + 1) := ⟨by omega, hh9, by rw [show n9 + 1 - b = n9 - b + 1 by omega]; exact hA9.it (fun t ht => by by_cases e : t = n9 - b; subst e; rw [va_up_s, show b + (n9 - b) = n9 by omega, upd_s]; rw [va_up_n e, upd_n (by omega)])⟩
              have hW := hW.frL hg9 (by simp)
              have hF := hF.trans (g_frD.ofL hg9)
              have hE8 : cL h f8 (tkW (ldW w1 h) (ldA w1), upd cr9 n9 (ldA w1), n9 + 1) = cL h (nAn w + 1) (w, S2) := by rw [← hE]; show _ = (if _ then _ else _); rw [if_neg hz, if_pos p_128]
              have hfa8 : nAn (tkW (ldW w1 h) (ldA w1)) < f8 := by have := hs.2.2.2.2.2; omega
              have hcp8 : n9 + 1 + nAn (tkW (ldW w1 h) (ldA w1)) ≤ 9 := by have := hs.2.2.2.2.2; omega
              refine lv_goto (tgt := 0) hx hb dX2_catchesLeader_146 (by decide) ?_
              refine W.widen (k := 2 * (x9 + 1)) (n := 10 * (x9 + 1)) (by dsimp only [g_rm]; omega) (by dsimp only [g_rm]; omega) ?_
              exact ih (x9 + 1) f8 P6 na_9 mc_10 _ _ _ (by omega) hfa8 hs.2.2.2.1 (hs.2.2.2.2.1.trans hN1) hcp8 hE8 hW hQ5 hF (by omega) _ _ _ I (lv_sub hl [5, 6, 7] rfl)
            · have p_128 := (b2i_eq0 _).mp c_128
              refine lv_iload_n hx hb dX2_catchesLeader_131 rfl (lv_at hl 4 rfl) ?_
              exact g_iret S hr hlk I dX2_catchesLeader_132 (by dsimp only [g_rm]; omega) (by dsimp only [g_rm]; omega) hQ ⟨_, rfl, by rw [← hE]; unfold cL; rw [if_neg hz, if_neg (by rw [p_128]; decide)]; exact ⟨rfl, ⟨_, _, hW⟩, hQ5, hF⟩⟩
          refine lv_if_ne (tgt := 96) hx hb dX2_catchesLeader_89 (by decide) (fun c_89 => ?_) (fun c_89 => ?_)
          · refine lv_iload hx hb dX2_catchesLeader_96 (lv_at hl 1 rfl) ?_
            refine lv_i2f hx hb dX2_catchesLeader_98 ?_
            refine lv_iload hx hb dX2_catchesLeader_99 (lv_at hl 0 rfl) ?_
            refine lv_i2f hx hb dX2_catchesLeader_101 ?_
            refine lv_fdiv hx hb dX2_catchesLeader_102 (fb_n32 (fb_frc' hw (Or.inr hA.1) (Or.inr hh0) c_89)) ?_
            exact J_103_0 (FP.fdiv (FP.i2f (2 * (dst w1 (ldA w1) h))) (FP.i2f (rope w1 (plc w1 1) h))) _ _ _ (by unfold frc; rw [if_neg c_89]) I (lv_sub hl [0, 1, 2, 3, 4, 5, 6] rfl)
          · refine lv_fconst0 hx hb dX2_catchesLeader_92 ?_
            refine lv_goto (tgt := 103) hx hb dX2_catchesLeader_93 (by decide) ?_
            exact J_103_0 0 _ _ _ (by unfold frc; rw [if_pos c_89]) I (lv_sub hl [0, 1, 2, 3, 4, 5, 6] rfl)
  exact L_0 _ 0 (nAn w + 1) ph na mc w S2.1 S2.2 rfl (Nat.lt_succ_self _) hw rfl hcap rfl hW hQ5 (g_frD.refl _ _) (Nat.lt_succ_self _) _ _ _ I (lv_sub hl [0, 1, 2] rfl)


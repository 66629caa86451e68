/-! THE WALL: minutes, rests, anchors taken out, forces kept -/
set_option maxRecDepth 100000
theorem upd_comm {w : m_w} {i j : Nat} {x y : Int32} (h : i ≠ j) : upd (upd w i x) j y = upd (upd w j y) i x := by
  funext k
  unfold upd
  by_cases e1 : k = j
  · subst e1
    rw [if_pos rfl, if_neg (Ne.symm h), if_pos rfl]
  · rw [if_neg e1]
    by_cases e2 : k = i
    · rw [if_pos e2, if_pos e2]
    · rw [if_neg e2, if_neg e2, if_neg e1]
theorem burn_eq {w : m_w} {k : Nat} (h : w (105 + 5 * k + 4) = 0 ∨ w (105 + 5 * k + 4) = 1) : burn w k = upd (upd w (105 + 5 * k + 3) (w (105 + 5 * k + 3) - w (105 + 5 * k + 4))) (105 + 5 * k + 4) (w (105 + 5 * k + 4) &&& (if 0 < w (105 + 5 * k + 3) - w (105 + 5 * k + 4) then 1 else 0)) := by
  unfold burn
  rcases h with h | h
  · rw [if_pos h, h, upd_same (w := w) (by rw [Int32.sub_zero]), upd_same (w := w)]
    rw [h]; split <;> rfl
  · rw [if_neg (by rw [h]; decide), h]
    congr 1
    split <;> rfl
theorem band_nar {x y : Int32} (hx : x = 0 ∨ x = 1) (p : Prop) (d : Decidable p) : narrow .boolean (.int (x &&& (if p then 1 else 0))) = .int (x &&& (if p then 1 else 0)) := by
  rcases hx with rfl | rfl <;> split <;> rfl
theorem band_fit {x y : Int32} (hx : x = 0 ∨ x = 1) (p : Prop) (d : Decidable p) : fits .boolean (.int (x &&& (if p then 1 else 0))) = true := by
  rcases hx with rfl | rfl <;> split <;> rfl
theorem laLit {w : m_w} (hw : WF w) {k : Nat} (hk : k < nLa w) : w (105 + 5 * k + 4) = 0 ∨ w (105 + 5 * k + 4) = 1 := (hw.2.2.2.2.2.2.1 k hk).2.2
theorem dropG_eq {w : m_w} {k : Nat} : dropG w k = upd (upd (upd w (105 + 5 * k) (-1)) (105 + 5 * k + 1) (-1)) (105 + 5 * k + 4) 0 := by
  unfold dropG
  rw [upd_comm (w := w) (i := 105 + 5 * k + 1) (j := 105 + 5 * k) (by omega)]
set_option maxHeartbeats 4000000 in
set_option maxRecDepth 100000 in
theorem met_X12_burns (l : Launch) (Γ : g_C) (htr : l.stackTraces = false) (ph : g_H) (i : Nat) (ad na : Nat → Nat) (mc : Nat → Int32) (w : m_w) (k : Nat)  (hW : g_Wl Γ ph i ad na mc w) (hw : WF w) (hk : k < nLa w) : g_Met l yX12_burns (ws_ yX12_burns cX12_burns 1 none) (g_rm 1 0 0) Γ [.ref (ad (20 + k))] ph (g_ov (fun ph' => ∃ na' mc', g_Wl Γ ph' i ad na' mc' (burn w k) ∧ g_frR i ph ph')) g_no := by
  refine g_start (y := yX12_burns) (cc := cX12_burns) (maxL := 1) (ret := none) (rm := g_rm 1 0 0) (by decide) (Nat.le_of_ble_eq_true rfl) ?_
  intro pg e s m A below meth cd ls Q hQ S hr hlk hex hnm hK I hl
  have hx := S.1
  have hb := S.2.1
  have hown := S.2.2.2.1
  have hts := S.2.2.2.2
  have S : CallFix pg m cd cX12_burns 1 s A lw_all "CrumblingWall$Lamp" := S
  have hl : lv_has ls 1 [(0, .ref (ad (20 + k)))] := hl
  have hwc := hw.1; have hwl := hw.2.1; have hwa := hw.2.2.1
  have hw0 := hw
  have hl4 := laLit hw hk
  refine lv_aload_n hx hb dX12_burns_0 rfl (lv_at hl 0 rfl) ?_
  refine lv_dup hx hb dX12_burns_1 rfl ?_
  refine g_get S hK I k_X12 (v := .int (w (105 + 5 * k + 3))) (g_at.of (hW.la (k := k) (by omega))) 3 (by decide) q1578 rfl rfl dX12_burns_2 ?_
  refine lv_aload_n hx hb dX12_burns_5 rfl (lv_at hl 0 rfl) ?_
  refine g_get S hK I k_X12 (v := .int (w (105 + 5 * k + 4))) (g_at.of (hW.la (k := k) (by omega))) 4 (by decide) q1581 rfl rfl dX12_burns_6 ?_
  have J_17_0 : ∀ (x1 : Int32) (H : Heap) (locs : List Loc) (ls : Array Slot), (hx1 : x1 = (w (105 + 5 * k + 4))) → g_I Γ ph s H locs → lv_has ls 1 [(0, .ref (ad (20 + k)))] → W pg l e (g_rm 1 0 0) s m A below meth cd H locs 0 0 Q (F0 m 17 ls [.int x1, .int (w (105 + 5 * k + 3)), .ref (ad (20 + k))]) := by
    intro x1 H locs ls hx1 I hl
    subst hx1
    refine lv_isub hx hb dX12_burns_17 ?_
    refine g_put S hK I k_X12 (v := .int ((w (105 + 5 * k + 3)) - (w (105 + 5 * k + 4)))) (hW.la (k := k) (by omega)) 3 (by decide) q1578 rfl rfl rfl rfl (Nat.le_of_ble_eq_true rfl) dX12_burns_18 (fun H locs I => ?_)
    obtain ⟨P_2, I, hW, hG⟩ : ∃ zz, g_I Γ zz s H locs ∧ g_Wl Γ zz i ad na mc (upd w (105 + 5 * k + 3) ((w (105 + 5 * k + 3)) - (w (105 + 5 * k + 4)))) ∧ g_frR i ph zz := ⟨_, I, (hW.putl_3 hw (k := k) (by omega)), g_frR.put⟩
    have hF : g_frR i ph P_2 := hG
    have eR : nN (upd w (105 + 5 * k + 3) ((w (105 + 5 * k + 3)) - (w (105 + 5 * k + 4)))) = nN w ∧ nLa (upd w (105 + 5 * k + 3) ((w (105 + 5 * k + 3)) - (w (105 + 5 * k + 4)))) = nLa w := by refine ⟨nN_eq ?_, nLa_eq ?_⟩ <;> (first | rfl | (have hb4 := hw.2.1.2; have hb20 := hw.1.2; exact upd_n (by omega)))
    have eN : nN (upd w (105 + 5 * k + 3) ((w (105 + 5 * k + 3)) - (w (105 + 5 * k + 4)))) = nN w := eR.1
    have eL : nLa (upd w (105 + 5 * k + 3) ((w (105 + 5 * k + 3)) - (w (105 + 5 * k + 4)))) = nLa w := eR.2
    have hw : WF (upd w (105 + 5 * k + 3) ((w (105 + 5 * k + 3)) - (w (105 + 5 * k + 4)))) := (hw.oil (h := k) (by omega) (Or.inr rfl))
    refine lv_aload_n hx hb dX12_burns_21 rfl (lv_at hl 0 rfl) ?_
    refine lv_dup hx hb dX12_burns_22 rfl ?_
    refine g_get S hK I k_X12 (v := .int ((upd w (105 + 5 * k + 3) ((w (105 + 5 * k + 3)) - (w (105 + 5 * k + 4)))) (105 + 5 * k + 4))) (g_at.of (hW.la (k := k) (by omega))) 4 (by decide) q1581 rfl rfl dX12_burns_23 ?_
    refine lv_aload_n hx hb dX12_burns_26 rfl (lv_at hl 0 rfl) ?_
    refine g_get S hK I k_X12 (v := .int ((upd w (105 + 5 * k + 3) ((w (105 + 5 * k + 3)) - (w (105 + 5 * k + 4)))) (105 + 5 * k + 3))) (g_at.of (hW.la (k := k) (by omega))) 3 (by decide) q1578 rfl rfl dX12_burns_27 ?_
    have J_38_2 : ∀ (x2 : Int32) (H : Heap) (locs : List Loc) (ls : Array Slot), (hx2 : x2 = (if 0 < (w (105 + 5 * k + 3)) - (w (105 + 5 * k + 4)) then 1 else 0)) → g_I Γ P_2 s H locs → lv_has ls 1 [(0, .ref (ad (20 + k)))] → W pg l e (g_rm 1 0 0) s m A below meth cd H locs 0 0 Q (F0 m 38 ls [.int x2, .int ((upd w (105 + 5 * k + 3) ((w (105 + 5 * k + 3)) - (w (105 + 5 * k + 4)))) (105 + 5 * k + 4)), .ref (ad (20 + k))]) := by
      intro x2 H locs ls hx2 I hl
      subst hx2
      refine lv_iand hx hb dX12_burns_38 ?_
      rw [upd_n (w := w) (show 105 + 5 * k + 4 ≠ 105 + 5 * k + 3 by omega)]
      refine g_put S hK I k_X12 (v := .int ((w (105 + 5 * k + 4)) &&& (if 0 < (w (105 + 5 * k + 3)) - (w (105 + 5 * k + 4)) then 1 else 0))) (hW.la (k := k) (by omega)) 4 (by decide) q1581 rfl rfl (band_nar (y := 0) hl4 _ _) (band_fit (y := 0) hl4 _ _) (Nat.le_of_ble_eq_true rfl) dX12_burns_39 (fun H locs I => ?_)
      obtain ⟨P_4, I, hW, hG⟩ : ∃ zz, g_I Γ zz s H locs ∧ g_Wl Γ zz i ad na mc (upd (upd w (105 + 5 * k + 3) ((w (105 + 5 * k + 3)) - (w (105 + 5 * k + 4)))) (105 + 5 * k + 4) ((w (105 + 5 * k + 4)) &&& (if 0 < (w (105 + 5 * k + 3)) - (w (105 + 5 * k + 4)) then 1 else 0))) ∧ g_frR i P_2 zz := ⟨_, I, (hW.putl_4 hw (k := k) (by omega)), g_frR.put⟩
      have hF : g_frR i ph P_4 := hF.trans hG
      have eR : nN (upd (upd w (105 + 5 * k + 3) ((w (105 + 5 * k + 3)) - (w (105 + 5 * k + 4)))) (105 + 5 * k + 4) ((w (105 + 5 * k + 4)) &&& (if 0 < (w (105 + 5 * k + 3)) - (w (105 + 5 * k + 4)) then 1 else 0))) = nN (upd w (105 + 5 * k + 3) ((w (105 + 5 * k + 3)) - (w (105 + 5 * k + 4)))) ∧ nLa (upd (upd w (105 + 5 * k + 3) ((w (105 + 5 * k + 3)) - (w (105 + 5 * k + 4)))) (105 + 5 * k + 4) ((w (105 + 5 * k + 4)) &&& (if 0 < (w (105 + 5 * k + 3)) - (w (105 + 5 * k + 4)) then 1 else 0))) = nLa (upd w (105 + 5 * k + 3) ((w (105 + 5 * k + 3)) - (w (105 + 5 * k + 4)))) := by refine ⟨nN_eq ?_, nLa_eq ?_⟩ <;> (first | rfl | (have hb4 := hw.2.1.2; have hb20 := hw.1.2; exact upd_n (by omega)))
      have eN : nN (upd (upd w (105 + 5 * k + 3) ((w (105 + 5 * k + 3)) - (w (105 + 5 * k + 4)))) (105 + 5 * k + 4) ((w (105 + 5 * k + 4)) &&& (if 0 < (w (105 + 5 * k + 3)) - (w (105 + 5 * k + 4)) then 1 else 0))) = nN w := eR.1.trans eN
      have eL : nLa (upd (upd w (105 + 5 * k + 3) ((w (105 + 5 * k + 3)) - (w (105 + 5 * k + 4)))) (105 + 5 * k + 4) ((w (105 + 5 * k + 4)) &&& (if 0 < (w (105 + 5 * k + 3)) - (w (105 + 5 * k + 4)) then 1 else 0))) = nLa w := eR.2.trans eL
      have hw : WF (upd (upd w (105 + 5 * k + 3) ((w (105 + 5 * k + 3)) - (w (105 + 5 * k + 4)))) (105 + 5 * k + 4) ((w (105 + 5 * k + 4)) &&& (if 0 < (w (105 + 5 * k + 3)) - (w (105 + 5 * k + 4)) then 1 else 0))) := (by have z := hw0.burn (k := k) (by omega); rw [burn_eq hl4] at z; exact z)
      exact g_vret S hr hlk I dX12_burns_42 (Nat.le_of_ble_eq_true rfl) (Nat.le_of_ble_eq_true rfl) hQ ⟨rfl, ⟨_, _, (by rw [show (burn w k) = (upd (upd w (105 + 5 * k + 3) ((w (105 + 5 * k + 3)) - (w (105 + 5 * k + 4)))) (105 + 5 * k + 4) ((w (105 + 5 * k + 4)) &&& (if 0 < (w (105 + 5 * k + 3)) - (w (105 + 5 * k + 4)) then 1 else 0))) from (burn_eq hl4)]; exact hW), hF⟩⟩
    refine lv_if_le (tgt := 37) hx hb dX12_burns_30 (by decide) (fun c_30 => ?_) (fun c_30 => ?_)
    · have n_30 := Int32.not_lt.mpr c_30
      refine lv_iconst (v := 0) hx hb dX12_burns_37 (by decide) ?_
      exact J_38_2 0 _ _ _ (by rw [upd_s] at c_30; exact (if_neg (Int32.not_lt.mpr c_30)).symm) I (lv_sub hl [0] rfl)
    · have n_30 := Int32.not_le.mp c_30
      refine lv_iconst (v := 1) hx hb dX12_burns_33 (by decide) ?_
      refine lv_goto (tgt := 38) hx hb dX12_burns_34 (by decide) ?_
      exact J_38_2 1 _ _ _ (by rw [upd_s] at c_30; exact (if_pos (Int32.not_le.mp c_30)).symm) I (lv_sub hl [0] rfl)
  refine lv_if_eq (tgt := 16) hx hb dX12_burns_9 (by decide) (fun c_9 => ?_) (fun c_9 => ?_)
  · refine lv_iconst (v := 0) hx hb dX12_burns_16 (by decide) ?_
    exact J_17_0 0 _ _ _ c_9.symm I (lv_sub hl [0] rfl)
  · refine lv_iconst (v := 1) hx hb dX12_burns_12 (by decide) ?_
    refine lv_goto (tgt := 17) hx hb dX12_burns_13 (by decide) ?_
    exact J_17_0 1 _ _ _ (hl4.resolve_left c_9).symm I (lv_sub hl [0] rfl)

set_option maxHeartbeats 4000000 in
set_option maxRecDepth 100000 in
theorem met_X12_drops (l : Launch) (Γ : g_C) (htr : l.stackTraces = false) (ph : g_H) (i : Nat) (ad na : Nat → Nat) (mc : Nat → Int32) (w : m_w) (k : Nat)  (hW : g_Wl Γ ph i ad na mc w) (hw : WF w) (hk : k < nLa w) : g_Met l yX12_drops (ws_ yX12_drops cX12_drops 1 none) (g_rm 1 0 0) Γ [.ref (ad (20 + k))] ph (g_ov (fun ph' => ∃ na' mc', g_Wl Γ ph' i ad na' mc' (dropG w k) ∧ g_frR i ph ph')) g_no := by
  refine g_start (y := yX12_drops) (cc := cX12_drops) (maxL := 1) (ret := none) (rm := g_rm 1 0 0) (by decide) (Nat.le_of_ble_eq_true rfl) ?_
  intro pg e s m A below meth cd ls Q hQ S hr hlk hex hnm hK I hl
  have hx := S.1
  have hb := S.2.1
  have hown := S.2.2.2.1
  have hts := S.2.2.2.2
  have S : CallFix pg m cd cX12_drops 1 s A lw_all "CrumblingWall$Lamp" := S
  have hl : lv_has ls 1 [(0, .ref (ad (20 + k)))] := hl
  have hwc := hw.1; have hwl := hw.2.1; have hwa := hw.2.2.1
  refine lv_aload_n hx hb dX12_drops_0 rfl (lv_at hl 0 rfl) ?_
  refine lv_iconst (v := (-1)) hx hb dX12_drops_1 (by decide) ?_
  refine g_put S hK I k_X12 (v := .int (-1)) (hW.la (k := k) (by omega)) 1 (by decide) q1573 rfl rfl rfl rfl (Nat.le_of_ble_eq_true rfl) dX12_drops_2 (fun H locs I => ?_)
  obtain ⟨P_1, I, hW, hG⟩ : ∃ zz, g_I Γ zz s H locs ∧ g_Wl Γ zz i ad na mc (upd w (105 + 5 * k) (-1)) ∧ g_frR i ph zz := ⟨_, I, (hW.putl_1 hw (k := k) (by omega)), g_frR.put⟩
  have hF : g_frR i ph P_1 := hG
  have eR : nN (upd w (105 + 5 * k) (-1)) = nN w ∧ nLa (upd w (105 + 5 * k) (-1)) = nLa w := by refine ⟨nN_eq ?_, nLa_eq ?_⟩ <;> (first | rfl | (have hb4 := hw.2.1.2; have hb20 := hw.1.2; exact upd_n (by omega)))
  have eN : nN (upd w (105 + 5 * k) (-1)) = nN w := eR.1
  have eL : nLa (upd w (105 + 5 * k) (-1)) = nLa w := eR.2
  have hw : WF (upd w (105 + 5 * k) (-1)) := (hw.lplace (h := k) (by omega) okP_m1)
  refine lv_aload_n hx hb dX12_drops_5 rfl (lv_at hl 0 rfl) ?_
  refine lv_iconst (v := (-1)) hx hb dX12_drops_6 (by decide) ?_
  refine g_put S hK I k_X12 (v := .int (-1)) (hW.la (k := k) (by omega)) 2 (by decide) q1575 rfl rfl rfl rfl (Nat.le_of_ble_eq_true rfl) dX12_drops_7 (fun H locs I => ?_)
  obtain ⟨P_2, I, hW, hG⟩ : ∃ zz, g_I Γ zz s H locs ∧ g_Wl Γ zz i ad na mc (upd (upd w (105 + 5 * k) (-1)) (105 + 5 * k + 1) (-1)) ∧ g_frR i P_1 zz := ⟨_, I, (hW.putl_2 hw (k := k) (by omega)), g_frR.put⟩
  have hF : g_frR i ph P_2 := hF.trans hG
  have eR : nN (upd (upd w (105 + 5 * k) (-1)) (105 + 5 * k + 1) (-1)) = nN (upd w (105 + 5 * k) (-1)) ∧ nLa (upd (upd w (105 + 5 * k) (-1)) (105 + 5 * k + 1) (-1)) = nLa (upd w (105 + 5 * k) (-1)) := by refine ⟨nN_eq ?_, nLa_eq ?_⟩ <;> (first | rfl | (have hb4 := hw.2.1.2; have hb20 := hw.1.2; exact upd_n (by omega)))
  have eN : nN (upd (upd w (105 + 5 * k) (-1)) (105 + 5 * k + 1) (-1)) = nN w := eR.1.trans eN
  have eL : nLa (upd (upd w (105 + 5 * k) (-1)) (105 + 5 * k + 1) (-1)) = nLa w := eR.2.trans eL
  have hw : WF (upd (upd w (105 + 5 * k) (-1)) (105 + 5 * k + 1) (-1)) := (hw.lcarr (h := k) (by omega) (Or.inl rfl))
  refine lv_aload_n hx hb dX12_drops_10 rfl (lv_at hl 0 rfl) ?_
  refine lv_iconst (v := 0) hx hb dX12_drops_11 (by decide) ?_
  refine g_put S hK I k_X12 (v := .int 0) (hW.la (k := k) (by omega)) 4 (by decide) q1581 rfl rfl rfl rfl (Nat.le_of_ble_eq_true rfl) dX12_drops_12 (fun H locs I => ?_)
  obtain ⟨P_3, I, hW, hG⟩ : ∃ zz, g_I Γ zz s H locs ∧ g_Wl Γ zz i ad na mc (upd (upd (upd w (105 + 5 * k) (-1)) (105 + 5 * k + 1) (-1)) (105 + 5 * k + 4) 0) ∧ g_frR i P_2 zz := ⟨_, I, (hW.putl_4 hw (k := k) (by omega)), g_frR.put⟩
  have hF : g_frR i ph P_3 := hF.trans hG
  have eR : nN (upd (upd (upd w (105 + 5 * k) (-1)) (105 + 5 * k + 1) (-1)) (105 + 5 * k + 4) 0) = nN (upd (upd w (105 + 5 * k) (-1)) (105 + 5 * k + 1) (-1)) ∧ nLa (upd (upd (upd w (105 + 5 * k) (-1)) (105 + 5 * k + 1) (-1)) (105 + 5 * k + 4) 0) = nLa (upd (upd w (105 + 5 * k) (-1)) (105 + 5 * k + 1) (-1)) := by refine ⟨nN_eq ?_, nLa_eq ?_⟩ <;> (first | rfl | (have hb4 := hw.2.1.2; have hb20 := hw.1.2; exact upd_n (by omega)))
  have eN : nN (upd (upd (upd w (105 + 5 * k) (-1)) (105 + 5 * k + 1) (-1)) (105 + 5 * k + 4) 0) = nN w := eR.1.trans eN
  have eL : nLa (upd (upd (upd w (105 + 5 * k) (-1)) (105 + 5 * k + 1) (-1)) (105 + 5 * k + 4) 0) = nLa w := eR.2.trans eL
  have hw : WF (upd (upd (upd w (105 + 5 * k) (-1)) (105 + 5 * k + 1) (-1)) (105 + 5 * k + 4) 0) := (hw.llit (h := k) (by omega) (Or.inl rfl))
  exact g_vret S hr hlk I dX12_drops_15 (Nat.le_of_ble_eq_true rfl) (Nat.le_of_ble_eq_true rfl) hQ ⟨rfl, ⟨_, _, (by rw [show (dropG w k) = (upd (upd (upd w (105 + 5 * k) (-1)) (105 + 5 * k + 1) (-1)) (105 + 5 * k + 4) 0) from dropG_eq]; exact hW), hF⟩⟩

set_option maxHeartbeats 4000000 in
set_option maxRecDepth 100000 in
theorem met_X3_comes (l : Launch) (Γ : g_C) (htr : l.stackTraces = false) (ph : g_H) (i : Nat) (ad na : Nat → Nat) (mc : Nat → Int32) (w : m_w) (k : Nat) (pp how : Int32)  (hW : g_Wl Γ ph i ad na mc w) (hw : WF w) (hk : k < 2) (hpp : okP w pp) (hhow : ∃ q, q ≤ 2 ∧ how = nI q) : g_Met l yX3_comes (ws_ yX3_comes cX3_comes 3 none) (g_rm 1 0 0) Γ [.ref (ad (10 + k)), .int pp, .int how] ph (g_ov (fun ph' => ∃ na' mc', g_Wl Γ ph' i ad na' mc' (upd (upd w (125 + 3 * k) pp) (125 + 3 * k + 1) how) ∧ g_frR i ph ph')) g_no := by
  refine g_start (y := yX3_comes) (cc := cX3_comes) (maxL := 3) (ret := none) (rm := g_rm 1 0 0) (by decide) (Nat.le_of_ble_eq_true rfl) ?_
  intro pg e s m A below meth cd ls Q hQ S hr hlk hex hnm hK I hl
  have hx := S.1
  have hb := S.2.1
  have hown := S.2.2.2.1
  have hts := S.2.2.2.2
  have S : CallFix pg m cd cX3_comes 3 s A lw_all "CrumblingWall$Climber" := S
  have hl : lv_has ls 3 [(0, .ref (ad (10 + k))), (1, .int pp), (2, .int how)] := hl
  have hwc := hw.1; have hwl := hw.2.1; have hwa := hw.2.2.1
  refine lv_aload_n hx hb dX3_comes_0 rfl (lv_at hl 0 rfl) ?_
  refine lv_iload_n hx hb dX3_comes_1 rfl (lv_at hl 1 rfl) ?_
  refine g_put S hK I k_X3 (v := .int pp) (hW.cl (c := k) (by omega)) 1 (by decide) q211 rfl rfl rfl rfl (Nat.le_of_ble_eq_true rfl) dX3_comes_2 (fun H locs I => ?_)
  obtain ⟨P_1, I, hW, hG⟩ : ∃ zz, g_I Γ zz s H locs ∧ g_Wl Γ zz i ad na mc (upd w (125 + 3 * k) pp) ∧ g_frR i ph zz := ⟨_, I, (hW.putc_0 hw (c := k) (by omega)), g_frR.put⟩
  have hF : g_frR i ph P_1 := hG
  have eR : nN (upd w (125 + 3 * k) pp) = nN w ∧ nLa (upd w (125 + 3 * k) pp) = nLa w := by refine ⟨nN_eq ?_, nLa_eq ?_⟩ <;> (first | rfl | (have hb4 := hw.2.1.2; have hb20 := hw.1.2; exact upd_n (by omega)))
  have eN : nN (upd w (125 + 3 * k) pp) = nN w := eR.1
  have eL : nLa (upd w (125 + 3 * k) pp) = nLa w := eR.2
  have hw : WF (upd w (125 + 3 * k) pp) := (hw.cplace (c := k) (by omega) hpp)
  refine lv_aload_n hx hb dX3_comes_5 rfl (lv_at hl 0 rfl) ?_
  refine lv_iload_n hx hb dX3_comes_6 rfl (lv_at hl 2 rfl) ?_
  refine g_put S hK I k_X3 (v := .int how) (hW.cl (c := k) (by omega)) 2 (by decide) q214 rfl rfl rfl rfl (Nat.le_of_ble_eq_true rfl) dX3_comes_7 (fun H locs I => ?_)
  obtain ⟨P_2, I, hW, hG⟩ : ∃ zz, g_I Γ zz s H locs ∧ g_Wl Γ zz i ad na mc (upd (upd w (125 + 3 * k) pp) (125 + 3 * k + 1) how) ∧ g_frR i P_1 zz := ⟨_, I, (hW.putc_1 hw (c := k) (by omega)), g_frR.put⟩
  have hF : g_frR i ph P_2 := hF.trans hG
  have eR : nN (upd (upd w (125 + 3 * k) pp) (125 + 3 * k + 1) how) = nN (upd w (125 + 3 * k) pp) ∧ nLa (upd (upd w (125 + 3 * k) pp) (125 + 3 * k + 1) how) = nLa (upd w (125 + 3 * k) pp) := by refine ⟨nN_eq ?_, nLa_eq ?_⟩ <;> (first | rfl | (have hb4 := hw.2.1.2; have hb20 := hw.1.2; exact upd_n (by omega)))
  have eN : nN (upd (upd w (125 + 3 * k) pp) (125 + 3 * k + 1) how) = nN w := eR.1.trans eN
  have eL : nLa (upd (upd w (125 + 3 * k) pp) (125 + 3 * k + 1) how) = nLa w := eR.2.trans eL
  have hw : WF (upd (upd w (125 + 3 * k) pp) (125 + 3 * k + 1) how) := (hw.cstat (c := k) (by omega) hhow)
  exact g_vret S hr hlk I dX3_comes_10 (Nat.le_of_ble_eq_true rfl) (Nat.le_of_ble_eq_true rfl) hQ ⟨rfl, ⟨_, _, hW, hF⟩⟩

set_option maxHeartbeats 4000000 in
set_option maxRecDepth 100000 in
theorem met_X3_gains (l : Launch) (Γ : g_C) (htr : l.stackTraces = false) (ph : g_H) (i : Nat) (ad na : Nat → Nat) (mc : Nat → Int32) (w : m_w) (k : Nat) (mo : Int32)  (hW : g_Wl Γ ph i ad na mc w) (hw : WF w) (hk : k < 2) (hmo : ∃ q, q ≤ 20 ∧ (if 20 ≤ (w (125 + 3 * k + 2)) + mo then 20 else (w (125 + 3 * k + 2)) + mo) = nI q) : g_Met l yX3_gains (ws_ yX3_gains cX3_gains 2 none) (g_rm 2 0 0) Γ [.ref (ad (10 + k)), .int mo] ph (g_ov (fun ph' => ∃ na' mc', g_Wl Γ ph' i ad na' mc' (upd w (125 + 3 * k + 2) (if 20 ≤ (w (125 + 3 * k + 2)) + mo then 20 else (w (125 + 3 * k + 2)) + mo)) ∧ g_frR i ph ph')) g_no := by
  refine g_start (y := yX3_gains) (cc := cX3_gains) (maxL := 2) (ret := none) (rm := g_rm 2 0 0) (by decide) (Nat.le_of_ble_eq_true rfl) ?_
  intro pg e s m A below meth cd ls Q hQ S hr hlk hex hnm hK I hl
  have hx := S.1
  have hb := S.2.1
  have hown := S.2.2.2.1
  have hts := S.2.2.2.2
  have S : CallFix pg m cd cX3_gains 2 s A lw_all "CrumblingWall$Climber" := S
  have hl : lv_has ls 2 [(0, .ref (ad (10 + k))), (1, .int mo)] := hl
  have hwc := hw.1; have hwl := hw.2.1; have hwa := hw.2.2.1
  refine lv_aload_n hx hb dX3_gains_0 rfl (lv_at hl 0 rfl) ?_
  refine lv_bipush (v := 20) hx hb dX3_gains_1 (by decide) ?_
  refine lv_aload_n hx hb dX3_gains_3 rfl (lv_at hl 0 rfl) ?_
  refine g_get S hK I k_X3 (v := .int (w (125 + 3 * k + 2))) (g_at.of (hW.cl (c := k) (by omega))) 3 (by decide) q217 rfl rfl dX3_gains_4 ?_
  refine lv_iload_n hx hb dX3_gains_7 rfl (lv_at hl 1 rfl) ?_
  refine lv_iadd hx hb dX3_gains_8 ?_
  refine g_ci (g_runS S hK I (As := [.int 20, .int ((w (125 + 3 * k + 2)) + mo)]) (rest := [.ref (ad (10 + k))]) (met_J17_min l Γ ph 20 ((w (125 + 3 * k + 2)) + mo)) (va_cwS 2 hts (lw_S q2187 q398 q140 q399) rfl rfl rfl (by decide +kernel) ⟨Nat.le_of_ble_eq_true rfl, Nat.le_of_ble_eq_true rfl⟩) rfl hl.1 rfl (Nat.le_of_ble_eq_true rfl) dX3_gains_9 ⟨Nat.le_of_ble_eq_true rfl, Nat.le_of_ble_eq_true rfl⟩) I (fun r_9 ph1 H locs hp I => ?_)
  obtain ⟨hp, hph⟩ := hp
  rw [hph] at I
  have hp : r_9 = (if 20 ≤ ((w (125 + 3 * k + 2)) + mo) then 20 else ((w (125 + 3 * k + 2)) + mo)) := hp
  rw [hp]
  refine g_put S hK I k_X3 (v := .int (if 20 ≤ ((w (125 + 3 * k + 2)) + mo) then 20 else ((w (125 + 3 * k + 2)) + mo))) (hW.cl (c := k) (by omega)) 3 (by decide) q217 rfl rfl rfl rfl (Nat.le_of_ble_eq_true rfl) dX3_gains_12 (fun H locs I => ?_)
  obtain ⟨P_1, I, hW, hG⟩ : ∃ zz, g_I Γ zz s H locs ∧ g_Wl Γ zz i ad na mc (upd w (125 + 3 * k + 2) (if 20 ≤ ((w (125 + 3 * k + 2)) + mo) then 20 else ((w (125 + 3 * k + 2)) + mo))) ∧ g_frR i ph zz := ⟨_, I, (hW.putc_2 hw (c := k) (by omega)), g_frR.put⟩
  have hF : g_frR i ph P_1 := hG
  have eR : nN (upd w (125 + 3 * k + 2) (if 20 ≤ ((w (125 + 3 * k + 2)) + mo) then 20 else ((w (125 + 3 * k + 2)) + mo))) = nN w ∧ nLa (upd w (125 + 3 * k + 2) (if 20 ≤ ((w (125 + 3 * k + 2)) + mo) then 20 else ((w (125 + 3 * k + 2)) + mo))) = nLa w := by refine ⟨nN_eq ?_, nLa_eq ?_⟩ <;> (first | rfl | (have hb4 := hw.2.1.2; have hb20 := hw.1.2; exact upd_n (by omega)))
  have eN : nN (upd w (125 + 3 * k + 2) (if 20 ≤ ((w (125 + 3 * k + 2)) + mo) then 20 else ((w (125 + 3 * k + 2)) + mo))) = nN w := eR.1
  have eL : nLa (upd w (125 + 3 * k + 2) (if 20 ≤ ((w (125 + 3 * k + 2)) + mo) then 20 else ((w (125 + 3 * k + 2)) + mo))) = nLa w := eR.2
  have hw : WF (upd w (125 + 3 * k + 2) (if 20 ≤ ((w (125 + 3 * k + 2)) + mo) then 20 else ((w (125 + 3 * k + 2)) + mo))) := (hw.cgrip (c := k) (by omega) hmo)
  exact g_vret S hr hlk I dX3_gains_15 (Nat.le_of_ble_eq_true rfl) (Nat.le_of_ble_eq_true rfl) hQ ⟨rfl, ⟨_, _, hW, hF⟩⟩

set_option maxHeartbeats 4000000 in
set_option maxRecDepth 100000 in
theorem met_X2_minute (l : Launch) (Γ : g_C) (htr : l.stackTraces = false) (ph : g_H) (i : Nat) (ad na : Nat → Nat) (mc : Nat → Int32) (w : m_w)  (hW : g_Wl Γ ph i ad na mc w) (hw : WF w) : g_Met l yX2_minute (ws_ yX2_minute cX2_minute 2 none) (g_rm 4 0 0) Γ [.ref (ad 0)] ph (g_ov (fun ph' => ∃ na' mc', g_Wl Γ ph' i ad na' mc' (minW w) ∧ g_frR i ph ph')) g_no := by
  refine g_start (y := yX2_minute) (cc := cX2_minute) (maxL := 2) (ret := none) (rm := g_rm 4 0 0) (by decide) (Nat.le_of_ble_eq_true rfl) ?_
  intro pg e s m A below meth cd ls Q hQ S hr hlk hex hnm hK I hl
  have hx := S.1
  have hb := S.2.1
  have hown := S.2.2.2.1
  have hts := S.2.2.2.2
  have S : CallFix pg m cd cX2_minute 2 s A lw_all "CrumblingWall$Wall" := S
  have hl : lv_has ls 2 [(0, .ref (ad 0))] := hl
  have hwc := hw.1; have hwl := hw.2.1; have hwa := hw.2.2.1
  have hw0 := hw
  refine lv_aload_n hx hb dX2_minute_0 rfl (lv_at hl 0 rfl) ?_
  refine lv_dup hx hb dX2_minute_1 rfl ?_
  refine g_get S hK I k_X2 (v := .int (w 140)) (g_at.of hW.o0) 10 (by decide) q662 rfl rfl dX2_minute_2 ?_
  refine lv_iconst (v := 1) hx hb dX2_minute_5 (by decide) ?_
  refine lv_iadd hx hb dX2_minute_6 ?_
  refine g_put S hK I k_X2 (v := .int ((w 140) + 1)) hW.o0 10 (by decide) q662 rfl rfl rfl rfl (Nat.le_of_ble_eq_true rfl) dX2_minute_7 (fun H locs I => ?_)
  obtain ⟨P_1, I, hW, hG⟩ : ∃ zz, g_I Γ zz s H locs ∧ g_Wl Γ zz i ad na mc (upd w 140 ((w 140) + 1)) ∧ g_frR i ph zz := ⟨_, I, (hW.put_140 hw), g_frR.put⟩
  have hF : g_frR i ph P_1 := hG
  have eR : nN (upd w 140 ((w 140) + 1)) = nN w ∧ nLa (upd w 140 ((w 140) + 1)) = nLa w := by refine ⟨nN_eq ?_, nLa_eq ?_⟩ <;> first | exact upd_n (by omega) | rw [burn_n (by omega)]
  have eN : nN (upd w 140 ((w 140) + 1)) = nN w := eR.1
  have eL : nLa (upd w 140 ((w 140) + 1)) = nLa w := eR.2
  have hw : WF (upd w 140 ((w 140) + 1)) := (hw.any (by omega))
  refine lv_iconst (v := 0) hx hb dX2_minute_10 (by decide) ?_
  refine lv_istore_n (lv' := [(1, .int 0), (0, .ref (ad 0))]) hx hb dX2_minute_11 rfl hl (by decide) rfl (fun ls hl => ?_)
  have L_12 : ∀ (d : Nat) (k : Nat) (P9 : g_H) (na9 : Nat → Nat) (mc9 : Nat → Int32), (hk : k ≤ nLa w) → (hW : g_Wl Γ P9 i ad na9 mc9 (burnN (incW w 140) k)) → (hF : g_frR i ph P9) → nLa w - k < d → ∀ (H : Heap) (locs : List Loc) (ls : Array Slot), g_I Γ P9 s H locs → lv_has ls 2 [(0, .ref (ad 0)), (1, .int (nI k))] → W pg l e (g_rm 4 0 0) s m A below meth cd H locs 0 0 Q (F0 m 12 ls []) := by
    intro d
    induction d with
    | zero => intro k P9 na9 mc9 hk hW hF hd; exact absurd hd (Nat.not_lt_zero _)
    | succ d ih =>
      intro k P9 na9 mc9 hk hW hF hd H locs ls I hl
      have hw : WF (burnN (incW w 140) k) := (hw0.inc (by decide)).burnN (by omega)
      have eR : nN (burnN (incW w 140) k) = nN w ∧ nLa (burnN (incW w 140) k) = nLa w := ⟨nN_eq (by rw [burnN_n (by omega), incW_n (by omega)]), nLa_eq (by rw [burnN_n (by omega), incW_n (by omega)])⟩
      have eN := eR.1
      have eL := eR.2
      refine lv_iload_n hx hb dX2_minute_12 rfl (lv_at hl 1 rfl) ?_
      refine lv_aload_n hx hb dX2_minute_13 rfl (lv_at hl 0 rfl) ?_
      refine g_get S hK I k_X2 (v := .ref (ad 3)) (g_at.of hW.o0) 1 (by decide) q646 rfl rfl dX2_minute_14 ?_
      refine g_ci (g_runV S hK I (As := []) (rest := [.int (nI k)]) (met_J7_size l Γ P9 103 i (ad 3) (ad 4) (mc9 2) ((burnN (incW w 140) k) 104) hW.o3) (cwV 0 hts (lw_V q1353 q994 q3516 q130 q995) rfl rfl rfl (by decide +kernel) ⟨Nat.le_of_ble_eq_true rfl, Nat.le_of_ble_eq_true rfl⟩) (g_recv hK I (g_at.of hW.o3) (ci := 21) rfl) rfl hl.1 rfl (Nat.le_of_ble_eq_true rfl) dX2_minute_17 ⟨Nat.le_of_ble_eq_true rfl, Nat.le_of_ble_eq_true rfl⟩) I (fun r_17 ph1 H locs hp I => ?_)
      obtain ⟨hp, hph⟩ := hp
      rw [hph] at I
      have hp : r_17 = ((burnN (incW w 140) k) 104) := hp
      rw [hp, show ((burnN (incW w 140) k) 104) = (nI (nLa (burnN (incW w 140) k))) from hw.2.1.1]
      refine lv_icmp_ge (tgt := 43) hx hb dX2_minute_20 (by decide) (fun c_20 => ?_) (fun c_20 => ?_)
      · have n_20 := Int32.not_lt.mpr c_20
        obtain rfl : k = nLa w := by rw [nI_leI (by omega) (by omega)] at c_20; omega
        exact g_vret S hr hlk I dX2_minute_43 (Nat.le_of_ble_eq_true rfl) (Nat.le_of_ble_eq_true rfl) hQ ⟨rfl, ⟨_, _, hW, hF⟩⟩
      · have n_20 := Int32.not_le.mp c_20
        have hkl : k < nLa w := by rw [nI_leI (by omega) (by omega)] at c_20; omega
        refine lv_aload_n hx hb dX2_minute_23 rfl (lv_at hl 0 rfl) ?_
        refine g_get S hK I k_X2 (v := .ref (ad 3)) (g_at.of hW.o0) 1 (by decide) q646 rfl rfl dX2_minute_24 ?_
        refine lv_iload_n hx hb dX2_minute_27 rfl (lv_at hl 1 rfl) ?_
        refine g_cr (g_runV S hK I (As := [.int (nI k)]) (rest := []) (met_w_get3 l Γ P9 i ad na9 mc9 (burnN (incW w 140) k) hW hw k (by omega)) (cwV 1 hts (lw_V q883 q793 q3509 q130 q795) rfl rfl rfl (by decide +kernel) ⟨Nat.le_of_ble_eq_true rfl, Nat.le_of_ble_eq_true rfl⟩) (g_recv hK I (g_at.of hW.o3) (ci := 21) rfl) rfl hl.1 rfl (Nat.le_of_ble_eq_true rfl) dX2_minute_28 ⟨Nat.le_of_ble_eq_true rfl, Nat.le_of_ble_eq_true rfl⟩) I (fun r_28 ph1 H locs hp I => ?_)
        obtain ⟨hp, hph⟩ := hp
        rw [hph] at I
        have hp : r_28 = (ad (20 + k)) := hp
        rw [hp]
        refine g_castS S hK (ci := 10) rfl q1559 (g_recv hK I (g_at.of (hW.la (k := k) (by omega))) (ci := 10) rfl) dX2_minute_31 ?_
        refine g_cv (g_runV S hK I (As := []) (rest := []) (met_X12_burns l Γ htr P9 i ad na9 mc9 (burnN (incW w 140) k) k hW hw  (by omega)) (cwV 0 hts (lw_V q2145 q2146 q2147 q162 q2148) rfl rfl rfl (by decide +kernel) ⟨Nat.le_of_ble_eq_true rfl, Nat.le_of_ble_eq_true rfl⟩) (g_recv hK I (g_at.of (hW.la (k := k) (by omega))) (ci := 10) rfl) rfl hl.1 rfl (Nat.le_of_ble_eq_true rfl) dX2_minute_34 ⟨Nat.le_of_ble_eq_true rfl, Nat.le_of_ble_eq_true rfl⟩) I (fun ph1 H locs hp I => ?_)
        obtain ⟨na_3, mc_4, hW, hG⟩ := hp
        have I : g_I Γ ph1 s H locs := I
        generalize ph1 = P_2 at I hW hG
        have hF : g_frR i ph P_2 := hF.trans hG
        have eR : nN (burn (burnN (incW w 140) k) k) = nN (burnN (incW w 140) k) ∧ nLa (burn (burnN (incW w 140) k) k) = nLa (burnN (incW w 140) k) := by refine ⟨nN_eq ?_, nLa_eq ?_⟩ <;> first | exact upd_n (by omega) | rw [burn_n (by omega)]
        have eN : nN (burn (burnN (incW w 140) k) k) = nN w := eR.1.trans eN
        have eL : nLa (burn (burnN (incW w 140) k) k) = nLa w := eR.2.trans eL
        have hw : WF (burn (burnN (incW w 140) k) k) := (hw.burn (k := k) (by omega))
        refine lv_iinc (v := nI (k + 1)) (lv' := [(1, .int (nI (k + 1))), (0, .ref (ad 0))]) hx hb dX2_minute_37 hl (k := 1) rfl (nI_1 k) (by decide) rfl (fun ls hl => ?_)
        refine lv_goto (tgt := 12) hx hb dX2_minute_40 (by decide) ?_
        exact ih (k + 1) P_2 na_3 mc_4 hkl hW hF (by omega) _ _ _ I (lv_sub hl [1, 0] rfl)
  exact L_12 _ 0 P_1 na mc (Nat.zero_le _) hW hF (Nat.lt_succ_self _) _ _ _ I (lv_sub hl [1, 0] rfl)

theorem gain_le {x : Int32} : ∃ r, r ≤ 4 ∧ gain x = nI r := by
  unfold gain
  split
  · exact ⟨2, by decide, rfl⟩
  · split
    · exact ⟨4, by decide, rfl⟩
    · split
      · exact ⟨1, by decide, rfl⟩
      · exact ⟨3, by decide, rfl⟩
theorem rsA_le {w : m_w} {p : Int32} : ∃ r, r ≤ 20 ∧ rsA w p = nI r := by
  unfold rsA
  split
  · exact ⟨20, by decide, rfl⟩
  · obtain ⟨r, h1, h2⟩ := gain_le (x := hX w p 2)
    exact ⟨r, by omega, h2⟩
/-- the grip behind a rest -/
theorem gnR_eq {w : m_w} {p g : Int32} (hg : ∃ q, q ≤ 20 ∧ g = nI q) : (if 20 ≤ g + rsA w p then 20 else g + rsA w p) = resG w p g := by
  obtain ⟨q, hq, rfl⟩ := hg
  have h20 : (20 : Int32) = nI 20 := rfl
  unfold resG
  by_cases e : p = -1
  · have e1 : rsA w p = nI 20 := if_pos e
    rw [e1, nI_add, if_pos e, h20, if_pos ((nI_leI (by decide) (by omega)).mpr (by omega))]
    split <;> rfl
  · have e1 : rsA w p = gain (hX w p 2) := if_neg e
    obtain ⟨r, r1, r2⟩ := gain_le (x := hX w p 2)
    rw [e1, r2, nI_add, if_neg e, h20]
    by_cases z : 20 < q + r
    · rw [if_pos ((nI_leI (by decide) (by omega)).mpr (by omega)), if_pos ((nI_ltI (by decide) (by omega)).mpr z)]
    · rw [if_neg (fun y => z ((nI_ltI (by decide) (by omega)).mp y))]
      by_cases y : 20 = q + r
      · rw [← y, if_pos ((nI_leI (by decide) (by decide)).mpr (by decide))]
      · rw [if_neg (fun x => by have := (nI_leI (by decide) (by omega)).mp x; omega)]
def nRest (w : m_w) (c : Int32) : m_why := nAct w c true
theorem nRest_eq {w : m_w} {c : Int32} : nRest w c = if cX w c 1 = 2 then some (1, 0) else if cX w c 1 = 1 then some (9, 0) else none := by
  unfold nRest nAct
  simp
set_option maxHeartbeats 4000000 in
set_option maxRecDepth 100000 in
theorem met_X2_rests (l : Launch) (Γ : g_C) (htr : l.stackTraces = false) (ph : g_H) (i : Nat) (ad na : Nat → Nat) (mc : Nat → Int32) (w : m_w) (c : Int32)  (hW : g_Wl Γ ph i ad na mc w) (hw : WF w) (hc : vp_in c 2) : g_Met l yX2_rests (ws_ yX2_rests cX2_rests 3 (some .int)) (g_rm 5 2 16) Γ [.ref (ad 0), .int c] ph (g_oi (fun rv_ ph' => nRest w c = none ∧ rv_ = (resG w (plc w c) (cX w c 2)) ∧ ∃ na' mc', g_Wl Γ ph' i ad na' mc' (restW w c) ∧ g_frR i ph ph')) (xR (nRest w c) ph) := by
  refine g_start (y := yX2_rests) (cc := cX2_rests) (maxL := 3) (ret := (some .int)) (rm := g_rm 5 2 16) (by decide) (Nat.le_of_ble_eq_true rfl) ?_
  intro pg e s m A below meth cd ls Q hQ S hr hlk hex hnm hK I hl
  have hx := S.1
  have hb := S.2.1
  have hown := S.2.2.2.1
  have hts := S.2.2.2.2
  have S : CallFix pg m cd cX2_rests 3 s A lw_all "CrumblingWall$Wall" := S
  have hl : lv_has ls 3 [(0, .ref (ad 0)), (1, .int c)] := hl
  have hwc := hw.1; have hwl := hw.2.1; have hwa := hw.2.2.1
  have hc2 := (okC hc).1
  have hpl : okP w (w (125 + 3 * c.toNatClampNeg)) := hw.pl hc
  have hw0 := hw
  refine lv_aload_n hx hb dX2_rests_0 rfl (lv_at hl 0 rfl) ?_
  refine lv_iload_n hx hb dX2_rests_1 rfl (lv_at hl 1 rfl) ?_
  refine g_cr (g_runV S hK I (As := [.int c]) (rest := []) (met_X2_climber l Γ htr ph i ad na mc w c hW hw  hc) (cwV 1 hts (lw_V q782 q783 q784 q121 q785) rfl rfl rfl (by decide +kernel) ⟨Nat.le_of_ble_eq_true rfl, Nat.le_of_ble_eq_true rfl⟩) (g_recv hK I (g_at.of hW.o0) (ci := 1) rfl) rfl hl.1 rfl (Nat.le_of_ble_eq_true rfl) dX2_rests_2 ⟨Nat.le_of_ble_eq_true rfl, Nat.le_of_ble_eq_true rfl⟩) I (fun r_2 ph1 H locs hp I => ?_)
  obtain ⟨hp, hph⟩ := hp
  rw [hph] at I
  have hp : r_2 = (ad (10 + c.toNatClampNeg)) := hp
  rw [hp]
  refine lv_astore_n (lv' := [(2, .ref (ad (10 + c.toNatClampNeg))), (0, .ref (ad 0)), (1, .int c)]) hx hb dX2_rests_5 rfl hl (by decide) rfl (fun ls hl => ?_)
  refine lv_aload_n hx hb dX2_rests_6 rfl (lv_at hl 0 rfl) ?_
  refine g_ci (g_runV S hK I (As := []) (rest := []) (met_X3_isHurt l Γ htr ph i ad na mc w c.toNatClampNeg hW hw  (by omega)) (cwV 0 hts (lw_V q1936 q1937 q1938 q122 q1939) rfl rfl rfl (by decide +kernel) ⟨Nat.le_of_ble_eq_true rfl, Nat.le_of_ble_eq_true rfl⟩) (g_recv hK I (g_at.of (hW.cl (c := c.toNatClampNeg) (by omega))) (ci := 2) rfl) rfl hl.1 rfl (Nat.le_of_ble_eq_true rfl) dX2_rests_7 ⟨Nat.le_of_ble_eq_true rfl, Nat.le_of_ble_eq_true rfl⟩) I (fun r_7 ph1 H locs hp I => ?_)
  obtain ⟨hp, hph⟩ := hp
  rw [hph] at I
  have hp : r_7 = (b2i (decide ((w (125 + 3 * c.toNatClampNeg + 1)) = 2))) := hp
  rw [hp]
  refine lv_iconst (v := 1) hx hb dX2_rests_10 (by decide) ?_
  refine lv_iconst (v := 0) hx hb dX2_rests_11 (by decide) ?_
  refine g_cvx (g_runSN S hK I (As := [.int (b2i (decide ((w (125 + 3 * c.toNatClampNeg + 1)) = 2))), .int 1, .int 0]) (rest := []) (met_X1_refuse l Γ ph htr (decide (cX w c 1 = 2)) 1 0) ⟨va_cnB 3 hts (lw_meth q1791) rfl rfl rfl (hK.N q1940 rfl) (hts _ q120) (by decide +kernel) ⟨Nat.le_of_ble_eq_true rfl, Nat.le_of_ble_eq_true rfl⟩, hts _ q1790, trivial⟩ rfl hl.1 rfl (Nat.le_of_ble_eq_true rfl) dX2_rests_12 ⟨Nat.le_of_ble_eq_true rfl, Nat.le_of_ble_eq_true rfl⟩) I (fun E9 ce9 q9 ph1 H locs hp I hcell hv9 hcl => ?_) (fun ph1 H locs hp I => ?_)
  · obtain ⟨rfl, hb9, hx9, hf9⟩ := hp
    have hb9 := of_decide_eq_true hb9
    exact g_out S hlk hex I hcell hv9 hcl (Nat.le_of_ble_eq_true rfl) (Nat.le_of_ble_eq_true rfl) hQ ⟨rfl, (1, 0), (by rw [nRest_eq, if_pos hb9] <;> rfl), hx9, hf9⟩
  obtain ⟨hy, hp⟩ := hp
  rw [hp] at I
  have f1 := of_decide_eq_false hy
  refine lv_aload_n hx hb dX2_rests_15 rfl (lv_at hl 0 rfl) ?_
  refine g_ci (g_runV S hK I (As := []) (rest := []) (met_X3_isHanging l Γ htr ph i ad na mc w c.toNatClampNeg hW hw  (by omega)) (cwV 0 hts (lw_V q2160 q2161 q2162 q122 q2163) rfl rfl rfl (by decide +kernel) ⟨Nat.le_of_ble_eq_true rfl, Nat.le_of_ble_eq_true rfl⟩) (g_recv hK I (g_at.of (hW.cl (c := c.toNatClampNeg) (by omega))) (ci := 2) rfl) rfl hl.1 rfl (Nat.le_of_ble_eq_true rfl) dX2_rests_16 ⟨Nat.le_of_ble_eq_true rfl, Nat.le_of_ble_eq_true rfl⟩) I (fun r_16 ph1 H locs hp I => ?_)
  obtain ⟨hp, hph⟩ := hp
  rw [hph] at I
  have hp : r_16 = (b2i (decide ((w (125 + 3 * c.toNatClampNeg + 1)) = 1))) := hp
  rw [hp]
  refine lv_bipush (v := 9) hx hb dX2_rests_19 (by decide) ?_
  refine lv_iconst (v := 0) hx hb dX2_rests_21 (by decide) ?_
  refine g_cvx (g_runSN S hK I (As := [.int (b2i (decide ((w (125 + 3 * c.toNatClampNeg + 1)) = 1))), .int 9, .int 0]) (rest := []) (met_X1_refuse l Γ ph htr (decide (cX w c 1 = 1)) 9 0) ⟨va_cnB 3 hts (lw_meth q1791) rfl rfl rfl (hK.N q1940 rfl) (hts _ q120) (by decide +kernel) ⟨Nat.le_of_ble_eq_true rfl, Nat.le_of_ble_eq_true rfl⟩, hts _ q1790, trivial⟩ rfl hl.1 rfl (Nat.le_of_ble_eq_true rfl) dX2_rests_22 ⟨Nat.le_of_ble_eq_true rfl, Nat.le_of_ble_eq_true rfl⟩) I (fun E9 ce9 q9 ph1 H locs hp I hcell hv9 hcl => ?_) (fun ph1 H locs hp I => ?_)
  · obtain ⟨rfl, hb9, hx9, hf9⟩ := hp
    have hb9 := of_decide_eq_true hb9
    exact g_out S hlk hex I hcell hv9 hcl (Nat.le_of_ble_eq_true rfl) (Nat.le_of_ble_eq_true rfl) hQ ⟨rfl, (9, 0), (by rw [nRest_eq, if_neg f1, if_pos hb9] <;> rfl), hx9, hf9⟩
  obtain ⟨hy, hp⟩ := hp
  rw [hp] at I
  have f2 := of_decide_eq_false hy
  refine lv_aload_n hx hb dX2_rests_25 rfl (lv_at hl 0 rfl) ?_
  refine lv_aload_n hx hb dX2_rests_26 rfl (lv_at hl 1 rfl) ?_
  refine lv_aload_n hx hb dX2_rests_27 rfl (lv_at hl 0 rfl) ?_
  refine g_getN S hK I k_X3 (v := .int (w (125 + 3 * c.toNatClampNeg))) (g_at.of (hW.cl (c := c.toNatClampNeg) (by omega))) 1 (by decide) q212 rfl rfl dX2_rests_28 ?_
  refine g_ci (g_runV S hK I (As := [.int (w (125 + 3 * c.toNatClampNeg))]) (rest := [.ref (ad (10 + c.toNatClampNeg))]) (met_X2_restAt l Γ htr ph i ad na mc w (w (125 + 3 * c.toNatClampNeg)) hW hw  hpl) (cwV 1 hts (lw_V q2164 q2166 qs28 q121 q2167) rfl rfl rfl (by decide +kernel) ⟨Nat.le_of_ble_eq_true rfl, Nat.le_of_ble_eq_true rfl⟩) (g_recv hK I (g_at.of hW.o0) (ci := 1) rfl) rfl hl.1 rfl (Nat.le_of_ble_eq_true rfl) dX2_rests_31 ⟨Nat.le_of_ble_eq_true rfl, Nat.le_of_ble_eq_true rfl⟩) I (fun r_31 ph1 H locs hp I => ?_)
  obtain ⟨hp, hph⟩ := hp
  rw [hph] at I
  have hp : r_31 = (rsA w (w (125 + 3 * c.toNatClampNeg))) := hp
  rw [hp]
  have hgr : ∃ q, q ≤ 20 ∧ (w (125 + 3 * c.toNatClampNeg + 2)) = nI q := hw.grip hc
  have hgn := gnR_eq (w := w) (p := w (125 + 3 * c.toNatClampNeg)) hgr
  refine g_cv (g_runV S hK I (As := [.int (rsA w (w (125 + 3 * c.toNatClampNeg)))]) (rest := []) (met_X3_gains l Γ htr ph i ad na mc w c.toNatClampNeg (rsA w (w (125 + 3 * c.toNatClampNeg))) hW hw  (by omega) (by rw [hgn]; exact resG_ok hw hpl hgr)) (cwV 1 hts (lw_V q2183 q2184 q2185 q122 q2186) rfl rfl rfl (by decide +kernel) ⟨Nat.le_of_ble_eq_true rfl, Nat.le_of_ble_eq_true rfl⟩) (g_recv hK I (g_at.of (hW.cl (c := c.toNatClampNeg) (by omega))) (ci := 2) rfl) rfl hl.1 rfl (Nat.le_of_ble_eq_true rfl) dX2_rests_34 ⟨Nat.le_of_ble_eq_true rfl, Nat.le_of_ble_eq_true rfl⟩) I (fun ph1 H locs hp I => ?_)
  obtain ⟨na_2, mc_3, hW, hG⟩ := hp
  have I : g_I Γ ph1 s H locs := I
  generalize ph1 = P_1 at I hW hG
  have hF : g_frR i ph P_1 := hG
  have eR : nN (upd w (125 + 3 * c.toNatClampNeg + 2) (if 20 ≤ (w (125 + 3 * c.toNatClampNeg + 2)) + (rsA w (w (125 + 3 * c.toNatClampNeg))) then 20 else (w (125 + 3 * c.toNatClampNeg + 2)) + (rsA w (w (125 + 3 * c.toNatClampNeg))))) = nN w ∧ nLa (upd w (125 + 3 * c.toNatClampNeg + 2) (if 20 ≤ (w (125 + 3 * c.toNatClampNeg + 2)) + (rsA w (w (125 + 3 * c.toNatClampNeg))) then 20 else (w (125 + 3 * c.toNatClampNeg + 2)) + (rsA w (w (125 + 3 * c.toNatClampNeg))))) = nLa w := by refine ⟨nN_eq ?_, nLa_eq ?_⟩ <;> first | rfl | exact upd_n (by omega) | (rw [minW_n hw (by omega)])
  have eN : nN (upd w (125 + 3 * c.toNatClampNeg + 2) (if 20 ≤ (w (125 + 3 * c.toNatClampNeg + 2)) + (rsA w (w (125 + 3 * c.toNatClampNeg))) then 20 else (w (125 + 3 * c.toNatClampNeg + 2)) + (rsA w (w (125 + 3 * c.toNatClampNeg))))) = nN w := eR.1
  have eL : nLa (upd w (125 + 3 * c.toNatClampNeg + 2) (if 20 ≤ (w (125 + 3 * c.toNatClampNeg + 2)) + (rsA w (w (125 + 3 * c.toNatClampNeg))) then 20 else (w (125 + 3 * c.toNatClampNeg + 2)) + (rsA w (w (125 + 3 * c.toNatClampNeg))))) = nLa w := eR.2
  have hw : WF (upd w (125 + 3 * c.toNatClampNeg + 2) (if 20 ≤ (w (125 + 3 * c.toNatClampNeg + 2)) + (rsA w (w (125 + 3 * c.toNatClampNeg))) then 20 else (w (125 + 3 * c.toNatClampNeg + 2)) + (rsA w (w (125 + 3 * c.toNatClampNeg))))) := (hw.cgrip (c := c.toNatClampNeg) (by omega) (by rw [hgn]; exact resG_ok hw hpl hgr))
  refine lv_aload_n hx hb dX2_rests_37 rfl (lv_at hl 1 rfl) ?_
  refine lv_dup hx hb dX2_rests_38 rfl ?_
  refine g_get S hK I k_X2 (v := .int ((upd w (125 + 3 * c.toNatClampNeg + 2) (if 20 ≤ (w (125 + 3 * c.toNatClampNeg + 2)) + (rsA w (w (125 + 3 * c.toNatClampNeg))) then 20 else (w (125 + 3 * c.toNatClampNeg + 2)) + (rsA w (w (125 + 3 * c.toNatClampNeg))))) 142)) (g_at.of hW.o0) 12 (by decide) q666 rfl rfl dX2_rests_39 ?_
  refine lv_iconst (v := 1) hx hb dX2_rests_42 (by decide) ?_
  refine lv_iadd hx hb dX2_rests_43 ?_
  refine g_put S hK I k_X2 (v := .int (((upd w (125 + 3 * c.toNatClampNeg + 2) (if 20 ≤ (w (125 + 3 * c.toNatClampNeg + 2)) + (rsA w (w (125 + 3 * c.toNatClampNeg))) then 20 else (w (125 + 3 * c.toNatClampNeg + 2)) + (rsA w (w (125 + 3 * c.toNatClampNeg))))) 142) + 1)) hW.o0 12 (by decide) q666 rfl rfl rfl rfl (Nat.le_of_ble_eq_true rfl) dX2_rests_44 (fun H locs I => ?_)
  obtain ⟨P_4, I, hW, hG⟩ : ∃ zz, g_I Γ zz s H locs ∧ g_Wl Γ zz i ad na_2 mc_3 (upd (upd w (125 + 3 * c.toNatClampNeg + 2) (if 20 ≤ (w (125 + 3 * c.toNatClampNeg + 2)) + (rsA w (w (125 + 3 * c.toNatClampNeg))) then 20 else (w (125 + 3 * c.toNatClampNeg + 2)) + (rsA w (w (125 + 3 * c.toNatClampNeg))))) 142 (((upd w (125 + 3 * c.toNatClampNeg + 2) (if 20 ≤ (w (125 + 3 * c.toNatClampNeg + 2)) + (rsA w (w (125 + 3 * c.toNatClampNeg))) then 20 else (w (125 + 3 * c.toNatClampNeg + 2)) + (rsA w (w (125 + 3 * c.toNatClampNeg))))) 142) + 1)) ∧ g_frR i P_1 zz := ⟨_, I, (hW.put_142 hw), g_frR.put⟩
  have hF : g_frR i ph P_4 := hF.trans hG
  have eR : nN (upd (upd w (125 + 3 * c.toNatClampNeg + 2) (if 20 ≤ (w (125 + 3 * c.toNatClampNeg + 2)) + (rsA w (w (125 + 3 * c.toNatClampNeg))) then 20 else (w (125 + 3 * c.toNatClampNeg + 2)) + (rsA w (w (125 + 3 * c.toNatClampNeg))))) 142 (((upd w (125 + 3 * c.toNatClampNeg + 2) (if 20 ≤ (w (125 + 3 * c.toNatClampNeg + 2)) + (rsA w (w (125 + 3 * c.toNatClampNeg))) then 20 else (w (125 + 3 * c.toNatClampNeg + 2)) + (rsA w (w (125 + 3 * c.toNatClampNeg))))) 142) + 1)) = nN (upd w (125 + 3 * c.toNatClampNeg + 2) (if 20 ≤ (w (125 + 3 * c.toNatClampNeg + 2)) + (rsA w (w (125 + 3 * c.toNatClampNeg))) then 20 else (w (125 + 3 * c.toNatClampNeg + 2)) + (rsA w (w (125 + 3 * c.toNatClampNeg))))) ∧ nLa (upd (upd w (125 + 3 * c.toNatClampNeg + 2) (if 20 ≤ (w (125 + 3 * c.toNatClampNeg + 2)) + (rsA w (w (125 + 3 * c.toNatClampNeg))) then 20 else (w (125 + 3 * c.toNatClampNeg + 2)) + (rsA w (w (125 + 3 * c.toNatClampNeg))))) 142 (((upd w (125 + 3 * c.toNatClampNeg + 2) (if 20 ≤ (w (125 + 3 * c.toNatClampNeg + 2)) + (rsA w (w (125 + 3 * c.toNatClampNeg))) then 20 else (w (125 + 3 * c.toNatClampNeg + 2)) + (rsA w (w (125 + 3 * c.toNatClampNeg))))) 142) + 1)) = nLa (upd w (125 + 3 * c.toNatClampNeg + 2) (if 20 ≤ (w (125 + 3 * c.toNatClampNeg + 2)) + (rsA w (w (125 + 3 * c.toNatClampNeg))) then 20 else (w (125 + 3 * c.toNatClampNeg + 2)) + (rsA w (w (125 + 3 * c.toNatClampNeg))))) := by refine ⟨nN_eq ?_, nLa_eq ?_⟩ <;> first | rfl | exact upd_n (by omega) | (rw [minW_n hw (by omega)])
  have eN : nN (upd (upd w (125 + 3 * c.toNatClampNeg + 2) (if 20 ≤ (w (125 + 3 * c.toNatClampNeg + 2)) + (rsA w (w (125 + 3 * c.toNatClampNeg))) then 20 else (w (125 + 3 * c.toNatClampNeg + 2)) + (rsA w (w (125 + 3 * c.toNatClampNeg))))) 142 (((upd w (125 + 3 * c.toNatClampNeg + 2) (if 20 ≤ (w (125 + 3 * c.toNatClampNeg + 2)) + (rsA w (w (125 + 3 * c.toNatClampNeg))) then 20 else (w (125 + 3 * c.toNatClampNeg + 2)) + (rsA w (w (125 + 3 * c.toNatClampNeg))))) 142) + 1)) = nN w := eR.1.trans eN
  have eL : nLa (upd (upd w (125 + 3 * c.toNatClampNeg + 2) (if 20 ≤ (w (125 + 3 * c.toNatClampNeg + 2)) + (rsA w (w (125 + 3 * c.toNatClampNeg))) then 20 else (w (125 + 3 * c.toNatClampNeg + 2)) + (rsA w (w (125 + 3 * c.toNatClampNeg))))) 142 (((upd w (125 + 3 * c.toNatClampNeg + 2) (if 20 ≤ (w (125 + 3 * c.toNatClampNeg + 2)) + (rsA w (w (125 + 3 * c.toNatClampNeg))) then 20 else (w (125 + 3 * c.toNatClampNeg + 2)) + (rsA w (w (125 + 3 * c.toNatClampNeg))))) 142) + 1)) = nLa w := eR.2.trans eL
  have hw : WF (upd (upd w (125 + 3 * c.toNatClampNeg + 2) (if 20 ≤ (w (125 + 3 * c.toNatClampNeg + 2)) + (rsA w (w (125 + 3 * c.toNatClampNeg))) then 20 else (w (125 + 3 * c.toNatClampNeg + 2)) + (rsA w (w (125 + 3 * c.toNatClampNeg))))) 142 (((upd w (125 + 3 * c.toNatClampNeg + 2) (if 20 ≤ (w (125 + 3 * c.toNatClampNeg + 2)) + (rsA w (w (125 + 3 * c.toNatClampNeg))) then 20 else (w (125 + 3 * c.toNatClampNeg + 2)) + (rsA w (w (125 + 3 * c.toNatClampNeg))))) 142) + 1)) := (hw.any (by omega))
  refine lv_aload_n hx hb dX2_rests_47 rfl (lv_at hl 1 rfl) ?_
  have hw2 := hw
  refine g_cv (g_runV S hK I (As := []) (rest := []) (met_X2_minute l Γ htr P_4 i ad na_2 mc_3 (upd (upd w (125 + 3 * c.toNatClampNeg + 2) (if 20 ≤ (w (125 + 3 * c.toNatClampNeg + 2)) + (rsA w (w (125 + 3 * c.toNatClampNeg))) then 20 else (w (125 + 3 * c.toNatClampNeg + 2)) + (rsA w (w (125 + 3 * c.toNatClampNeg))))) 142 (((upd w (125 + 3 * c.toNatClampNeg + 2) (if 20 ≤ (w (125 + 3 * c.toNatClampNeg + 2)) + (rsA w (w (125 + 3 * c.toNatClampNeg))) then 20 else (w (125 + 3 * c.toNatClampNeg + 2)) + (rsA w (w (125 + 3 * c.toNatClampNeg))))) 142) + 1))  hW hw  ) (cwV 0 hts (lw_V q2141 q2143 qs27 q121 q2144) rfl rfl rfl (by decide +kernel) ⟨Nat.le_of_ble_eq_true rfl, Nat.le_of_ble_eq_true rfl⟩) (g_recv hK I (g_at.of hW.o0) (ci := 1) rfl) rfl hl.1 rfl (Nat.le_of_ble_eq_true rfl) dX2_rests_48 ⟨Nat.le_of_ble_eq_true rfl, Nat.le_of_ble_eq_true rfl⟩) I (fun ph1 H locs hp I => ?_)
  obtain ⟨na_6, mc_7, hW, hG⟩ := hp
  have I : g_I Γ ph1 s H locs := I
  generalize ph1 = P_5 at I hW hG
  have hF : g_frR i ph P_5 := hF.trans hG
  have eR : nN (minW (upd (upd w (125 + 3 * c.toNatClampNeg + 2) (if 20 ≤ (w (125 + 3 * c.toNatClampNeg + 2)) + (rsA w (w (125 + 3 * c.toNatClampNeg))) then 20 else (w (125 + 3 * c.toNatClampNeg + 2)) + (rsA w (w (125 + 3 * c.toNatClampNeg))))) 142 (((upd w (125 + 3 * c.toNatClampNeg + 2) (if 20 ≤ (w (125 + 3 * c.toNatClampNeg + 2)) + (rsA w (w (125 + 3 * c.toNatClampNeg))) then 20 else (w (125 + 3 * c.toNatClampNeg + 2)) + (rsA w (w (125 + 3 * c.toNatClampNeg))))) 142) + 1))) = nN (upd (upd w (125 + 3 * c.toNatClampNeg + 2) (if 20 ≤ (w (125 + 3 * c.toNatClampNeg + 2)) + (rsA w (w (125 + 3 * c.toNatClampNeg))) then 20 else (w (125 + 3 * c.toNatClampNeg + 2)) + (rsA w (w (125 + 3 * c.toNatClampNeg))))) 142 (((upd w (125 + 3 * c.toNatClampNeg + 2) (if 20 ≤ (w (125 + 3 * c.toNatClampNeg + 2)) + (rsA w (w (125 + 3 * c.toNatClampNeg))) then 20 else (w (125 + 3 * c.toNatClampNeg + 2)) + (rsA w (w (125 + 3 * c.toNatClampNeg))))) 142) + 1)) ∧ nLa (minW (upd (upd w (125 + 3 * c.toNatClampNeg + 2) (if 20 ≤ (w (125 + 3 * c.toNatClampNeg + 2)) + (rsA w (w (125 + 3 * c.toNatClampNeg))) then 20 else (w (125 + 3 * c.toNatClampNeg + 2)) + (rsA w (w (125 + 3 * c.toNatClampNeg))))) 142 (((upd w (125 + 3 * c.toNatClampNeg + 2) (if 20 ≤ (w (125 + 3 * c.toNatClampNeg + 2)) + (rsA w (w (125 + 3 * c.toNatClampNeg))) then 20 else (w (125 + 3 * c.toNatClampNeg + 2)) + (rsA w (w (125 + 3 * c.toNatClampNeg))))) 142) + 1))) = nLa (upd (upd w (125 + 3 * c.toNatClampNeg + 2) (if 20 ≤ (w (125 + 3 * c.toNatClampNeg + 2)) + (rsA w (w (125 + 3 * c.toNatClampNeg))) then 20 else (w (125 + 3 * c.toNatClampNeg + 2)) + (rsA w (w (125 + 3 * c.toNatClampNeg))))) 142 (((upd w (125 + 3 * c.toNatClampNeg + 2) (if 20 ≤ (w (125 + 3 * c.toNatClampNeg + 2)) + (rsA w (w (125 + 3 * c.toNatClampNeg))) then 20 else (w (125 + 3 * c.toNatClampNeg + 2)) + (rsA w (w (125 + 3 * c.toNatClampNeg))))) 142) + 1)) := by refine ⟨nN_eq ?_, nLa_eq ?_⟩ <;> first | rfl | exact upd_n (by omega) | (rw [minW_n hw (by omega)])
  have eN : nN (minW (upd (upd w (125 + 3 * c.toNatClampNeg + 2) (if 20 ≤ (w (125 + 3 * c.toNatClampNeg + 2)) + (rsA w (w (125 + 3 * c.toNatClampNeg))) then 20 else (w (125 + 3 * c.toNatClampNeg + 2)) + (rsA w (w (125 + 3 * c.toNatClampNeg))))) 142 (((upd w (125 + 3 * c.toNatClampNeg + 2) (if 20 ≤ (w (125 + 3 * c.toNatClampNeg + 2)) + (rsA w (w (125 + 3 * c.toNatClampNeg))) then 20 else (w (125 + 3 * c.toNatClampNeg + 2)) + (rsA w (w (125 + 3 * c.toNatClampNeg))))) 142) + 1))) = nN w := eR.1.trans eN
  have eL : nLa (minW (upd (upd w (125 + 3 * c.toNatClampNeg + 2) (if 20 ≤ (w (125 + 3 * c.toNatClampNeg + 2)) + (rsA w (w (125 + 3 * c.toNatClampNeg))) then 20 else (w (125 + 3 * c.toNatClampNeg + 2)) + (rsA w (w (125 + 3 * c.toNatClampNeg))))) 142 (((upd w (125 + 3 * c.toNatClampNeg + 2) (if 20 ≤ (w (125 + 3 * c.toNatClampNeg + 2)) + (rsA w (w (125 + 3 * c.toNatClampNeg))) then 20 else (w (125 + 3 * c.toNatClampNeg + 2)) + (rsA w (w (125 + 3 * c.toNatClampNeg))))) 142) + 1))) = nLa w := eR.2.trans eL
  have hw : WF (minW (upd (upd w (125 + 3 * c.toNatClampNeg + 2) (if 20 ≤ (w (125 + 3 * c.toNatClampNeg + 2)) + (rsA w (w (125 + 3 * c.toNatClampNeg))) then 20 else (w (125 + 3 * c.toNatClampNeg + 2)) + (rsA w (w (125 + 3 * c.toNatClampNeg))))) 142 (((upd w (125 + 3 * c.toNatClampNeg + 2) (if 20 ≤ (w (125 + 3 * c.toNatClampNeg + 2)) + (rsA w (w (125 + 3 * c.toNatClampNeg))) then 20 else (w (125 + 3 * c.toNatClampNeg + 2)) + (rsA w (w (125 + 3 * c.toNatClampNeg))))) 142) + 1))) := hw.min
  refine lv_aload_n hx hb dX2_rests_51 rfl (lv_at hl 0 rfl) ?_
  refine g_getN S hK I k_X3 (v := .int ((minW (upd (upd w (125 + 3 * c.toNatClampNeg + 2) (if 20 ≤ (w (125 + 3 * c.toNatClampNeg + 2)) + (rsA w (w (125 + 3 * c.toNatClampNeg))) then 20 else (w (125 + 3 * c.toNatClampNeg + 2)) + (rsA w (w (125 + 3 * c.toNatClampNeg))))) 142 (((upd w (125 + 3 * c.toNatClampNeg + 2) (if 20 ≤ (w (125 + 3 * c.toNatClampNeg + 2)) + (rsA w (w (125 + 3 * c.toNatClampNeg))) then 20 else (w (125 + 3 * c.toNatClampNeg + 2)) + (rsA w (w (125 + 3 * c.toNatClampNeg))))) 142) + 1))) (125 + 3 * c.toNatClampNeg + 2))) (g_at.of (hW.cl (c := c.toNatClampNeg) (by omega))) 3 (by decide) q219 rfl rfl dX2_rests_52 ?_
  exact g_iret S hr hlk I dX2_rests_55 (Nat.le_of_ble_eq_true rfl) (Nat.le_of_ble_eq_true rfl) hQ ⟨_, rfl, (by rw [nRest_eq, if_neg f1, if_neg f2]), (by rw [minW_n hw2 (by omega), upd_n (by omega), upd_s, hgn]; rfl), ⟨_, _, (by rw [show (restW w c) = (minW (upd (upd w (125 + 3 * c.toNatClampNeg + 2) (if 20 ≤ (w (125 + 3 * c.toNatClampNeg + 2)) + (rsA w (w (125 + 3 * c.toNatClampNeg))) then 20 else (w (125 + 3 * c.toNatClampNeg + 2)) + (rsA w (w (125 + 3 * c.toNatClampNeg))))) 142 (((upd w (125 + 3 * c.toNatClampNeg + 2) (if 20 ≤ (w (125 + 3 * c.toNatClampNeg + 2)) + (rsA w (w (125 + 3 * c.toNatClampNeg))) then 20 else (w (125 + 3 * c.toNatClampNeg + 2)) + (rsA w (w (125 + 3 * c.toNatClampNeg))))) 142) + 1))) from (by rw [hgn]; rfl)]; exact hW), hF⟩⟩

theorem met_J32_removeA (l : Launch) (Γ : g_C) (ph : g_H) (j i q jn n k : Nat) (na it : Nat → Nat) (mc : Int32) (ju iu u : Nat) (hL : g_LL ph j i q jn (n + 1) na it mc) (hk : k ≤ n) (hu : ph ju iu u = some (.inr (26, [.ref (na k), lkK (k + 1) (n + 1) na, .int (nI (k + 1)), .int mc, .ref q]))) (hj : j ≠ jn) (hj1 : ju ≠ j) (hj2 : ju ≠ jn) : g_Met l yJ32_remove (ws_ yJ32_remove cJ32_remove 2 none) (g_rm 2 0 0) Γ [.ref u] ph (g_ov (fun ph' => g_LL ph' j i q jn n (delN na k) (delN it k) (mc + 1) ∧ ph' ju iu u = some (.inr (26, [.null, lkK k n (delN na k), .int (nI k), .int (mc + 1), .ref q])) ∧ g_fr [(j, i), (jn, i), (ju, iu)] ph ph')) g_no := by
  by_cases e : n = k
  · subst e
    rw [show lkK (n + 1) (n + 1) na = .null from if_neg (Nat.lt_irrefl _)] at hu
    rw [show lkK n n (delN na n) = .null from if_neg (Nat.lt_irrefl _)]
    exact met_J32_remove_0 l Γ ph j i q jn n na it mc ju iu u hL hu hj hj1 hj2
  · obtain ⟨n0, rfl⟩ : ∃ n0, n = k + n0 + 1 := ⟨n - k - 1, by omega⟩
    rw [show lkK (k + 1) (k + n0 + 1 + 1) na = .ref (na (k + 1)) from if_pos (by omega)] at hu
    rw [show lkK k (k + n0 + 1) (delN na k) = .ref (na (k + 1)) from by unfold lkK; rw [if_pos (by omega), delN_ge (Nat.le_refl _)]]
    exact met_J32_remove_1 l Γ ph j i q jn k n0 na it mc ju iu u hL hu hj hj1 hj2
theorem tkW_it {w : m_w} (hw : WF w) {h : Int32} {k : Nat} (hk : k < (tkN w h (nAn w)).2) (Γ : g_C) : g_bx Γ ((tkN w h (nAn w)).1 (132 + k)).toNatClampNeg = anI Γ (tkW w h) k := by
  unfold anI tkW
  rw [upd_n (by omega)]
set_option maxHeartbeats 4000000 in
set_option maxRecDepth 100000 in
theorem met_X2_takesOut (l : Launch) (Γ : g_C) (htr : l.stackTraces = false) (ph : g_H) (i : Nat) (ad na : Nat → Nat) (mc : Nat → Int32) (w : m_w) (h : Int32)  (hW : g_Wl Γ ph i ad na mc w) (hw : WF w) (hT : g_Tr 34 ph) : g_Met l yX2_takesOut (ws_ yX2_takesOut cX2_takesOut 4 none) (g_rm 6 1 5) Γ [.ref (ad 0), .int h] ph (g_ov (fun ph' => ∃ na' mc', g_Wl Γ ph' i ad na' mc' (tkW w h) ∧ g_frR i ph ph')) g_no := by
  refine g_start (y := yX2_takesOut) (cc := cX2_takesOut) (maxL := 4) (ret := none) (rm := g_rm 6 1 5) (by decide) (Nat.le_of_ble_eq_true rfl) ?_
  intro pg e s m A below meth cd ls Q hQ S hr hlk hex hnm hK I hl
  have hx := S.1
  have hb := S.2.1
  have hown := S.2.2.2.1
  have hts := S.2.2.2.2
  have S : CallFix pg m cd cX2_takesOut 4 s A lw_all "CrumblingWall$Wall" := S
  have hl : lv_has ls 4 [(0, .ref (ad 0)), (1, .int h)] := hl
  have hwc := hw.1; have hwl := hw.2.1; have hwa := hw.2.2.1
  refine lv_aload_n hx hb dX2_takesOut_0 rfl (lv_at hl 0 rfl) ?_
  refine g_get S hK I k_X2 (v := .ref (ad 5)) (g_at.of hW.o0) 2 (by decide) q648 rfl rfl dX2_takesOut_1 ?_
  refine g_cr (g_runU S hK I (As := []) (rest := []) (met_J23_iterator l Γ ph 105 i (ad 5) 200 (nAn w) na (anI Γ w) (mc 0) 30 0 hW.o5 (by omega) (by decide) (by decide)) (g_cwD (n := 0) hts q894 q147 (by decide) (by decide +kernel) q889 q890 (g_declN (hK.N q891 rfl)) q892 q893 ⟨Nat.le_of_ble_eq_true rfl, Nat.le_of_ble_eq_true rfl⟩) (g_recv hK I (g_at.of hW.o5.1) (ci := 24) rfl) rfl hl.1 rfl (Nat.le_of_ble_eq_true rfl) dX2_takesOut_4 ⟨Nat.le_of_ble_eq_true rfl, Nat.le_of_ble_eq_true rfl⟩) I (fun u ph1 H locs hp I => ?_)
  obtain ⟨hfu, hu9, hg9⟩ := hp
  generalize ph1 = P_1 at I hu9 hg9
  have hW0 := hW
  have hW : g_Wl Γ P_1 i ad na mc w := hW0.frL hg9 (by simp)
  have hP9 : g_fr [(30, 0)] ph P_1 := hg9
  refine lv_astore_n (lv' := [(2, .ref u), (0, .ref (ad 0)), (1, .int h)]) hx hb dX2_takesOut_7 rfl hl (by decide) rfl (fun ls hl => ?_)
  have L_8 : ∀ (d : Nat) (k : Nat) (mm : Nat) (n9 : Nat) (P9 : g_H) (na9 : Nat → Nat) (it9 : Nat → Nat) (m9 : Int32) (lr9 : Value), (hk : k ≤ nAn w) → (hm : (tkN w h k).2 = mm) → (hn9 : n9 + k = nAn w + mm) → (hL9 : g_LL P9 105 i (ad 5) 200 n9 na9 it9 m9) → (hi1 : ∀ t, t < mm → it9 t = g_bx Γ ((tkN w h k).1 (132 + t)).toNatClampNeg) → (hi2 : ∀ t, mm ≤ t → t < n9 → it9 t = anI Γ w (t + (k - mm))) → (hu9 : P9 30 0 u = some (.inr (26, [lr9, lkK mm n9 na9, .int (nI mm), .int m9, .ref (ad 5)]))) → (hf9 : g_fr [(105, i), (200, i), (30, 0)] ph P9) → nAn w - k < d → ∀ (H : Heap) (locs : List Loc) (ls : Array Slot), g_I Γ P9 s H locs → lv_has ls 4 [(0, .ref (ad 0)), (1, .int h), (2, .ref u)] → W pg l e (g_rm 6 1 5) s m A below meth cd H locs 1 5 Q (F0 m 8 ls []) := by
    intro d
    induction d with
    | zero => intro k mm n9 P9 na9 it9 m9 lr9 hk hm hn9 hL9 hi1 hi2 hu9 hf9 hd; exact absurd hd (Nat.not_lt_zero _)
    | succ d ih =>
      intro k mm n9 P9 na9 it9 m9 lr9 hk hm hn9 hL9 hi1 hi2 hu9 hf9 hd H locs ls I hl
      have hmk := tkN_le (w := w) (h := h) (n := k)
      rw [hm] at hmk
      have hlia := hL9.1
      refine lv_aload_n hx hb dX2_takesOut_8 rfl (lv_at hl 2 rfl) ?_
      refine g_cFi (g_runF S hK I (As := []) (rest := []) (met_J32_hasNext l Γ P9 105 i (ad 5) 200 n9 na9 it9 m9 30 0 u mm lr9 hL9 hu9 (by omega) (by omega)) (ci := 26) rfl (va_cwF 0 hts (lw_F q982 q1014 q1016 q167 q1018) rfl rfl rfl (hK.F 3 rfl) (by decide +kernel) ⟨Nat.le_of_ble_eq_true rfl, Nat.le_of_ble_eq_true rfl⟩) (g_recv hK I (g_at.of hu9) (ci := 26) rfl) rfl hl.1 rfl (Nat.le_of_ble_eq_true rfl) dX2_takesOut_9 ⟨Nat.le_of_ble_eq_true rfl, Nat.le_of_ble_eq_true rfl⟩) I (fun r_9 ph1 H locs hp I => ?_)
      obtain ⟨hp, hph⟩ := hp
      rw [hph] at I
      have hp : r_9 = (b2i (decide (mm < n9))) := hp
      rw [hp]
      refine lv_if_eq (tgt := 44) hx hb dX2_takesOut_14 (by decide) (fun c_14 => ?_) (fun c_14 => ?_)
      · have p_14 := of_decide_eq_false ((b2i_eq0 _).mp c_14)
        have c_14 := p_14
        obtain rfl : k = nAn w := by omega
        obtain rfl : n9 = mm := by omega
        have hnt : nAn (tkW w h) = n9 := by rw [tk_nAn hw]; exact hm
        have hW := hW0.puta2 hw (w' := tkW w h) hL9 (fun j h1 h2 h3 => hf9 j i (by simp; exact ⟨h2, h3, fun z => absurd z (by omega)⟩)) hnt (fun k hk => by rw [hi1 k hk]; exact tkW_it hw (by rw [hm]; exact hk) Γ) (fun j hj => tkW_n hw hj)
        obtain ⟨P7, I, hW, hF⟩ := hW.empty I (g_frT.ofL (n := 34) hf9 (by simp)) hT (by decide)
        exact g_vret S hr hlk I dX2_takesOut_44 (Nat.le_of_ble_eq_true rfl) (Nat.le_of_ble_eq_true rfl) hQ ⟨rfl, _, _, hW, hF⟩
      · have p_14 := of_decide_eq_true ((b2i_ne0 _).mp c_14)
        have c_14 := p_14
        refine lv_aload_n hx hb dX2_takesOut_17 rfl (lv_at hl 2 rfl) ?_
        have hkl : k < nAn w := by omega
        have hb9 : (w (132 + k)).toNatClampNeg < nN w ∧ nI (w (132 + k)).toNatClampNeg = w (132 + k) := okHx hw (hw.2.2.2.2.2.2.2 k hkl)
        have hb8 := hb9.1
        refine g_cFr (g_runF S hK I (As := []) (rest := []) (met_J32_next l Γ P9 105 i (ad 5) 200 n9 na9 it9 m9 30 0 u mm lr9 hL9 hu9 (by omega) c_14 (by decide) (by decide)) (ci := 26) rfl (va_cwF 0 hts (lw_F q1020 q1194 q1196 q167 q1198) rfl rfl rfl (hK.F 4 rfl) (by decide +kernel) ⟨Nat.le_of_ble_eq_true rfl, Nat.le_of_ble_eq_true rfl⟩) (g_recv hK I (g_at.of hu9) (ci := 26) rfl) rfl hl.1 rfl (Nat.le_of_ble_eq_true rfl) dX2_takesOut_18 ⟨Nat.le_of_ble_eq_true rfl, Nat.le_of_ble_eq_true rfl⟩) I (fun r_18 ph1 H locs hp I => ?_)
        obtain ⟨hp, hu9, hg9⟩ := hp
        have hp : r_18 = (g_bx Γ (w (132 + k)).toNatClampNeg) := by rw [hp, hi2 mm (Nat.le_refl _) c_14, show mm + (k - mm) = k by omega]; rfl
        rw [hp]
        generalize ph1 = P8 at I hu9 hg9
        have hL9 : g_LL P8 105 i (ad 5) 200 n9 na9 it9 m9 := hL9.move (fun a => by rw [hg9 _ _ (by simp)]) (fun a => by rw [hg9 _ _ (by simp)]) (fun _ _ => rfl)
        have hf9 := hf9.trans (hg9.mono (by simp))
        refine g_castI S hK q1200 (g_recvB hK I (by omega)) dX2_takesOut_23 ?_
        refine g_ci (g_runV S hK I (As := []) (rest := []) (met_J22_intValue l Γ P8 (w (132 + k)).toNatClampNeg (by omega)) (cwV 0 hts (lw_V q1201 q1202 q1203 q146 q1204) rfl rfl rfl (by decide +kernel) ⟨Nat.le_of_ble_eq_true rfl, Nat.le_of_ble_eq_true rfl⟩) (g_recvB hK I (by omega)) rfl hl.1 rfl (Nat.le_of_ble_eq_true rfl) dX2_takesOut_26 ⟨Nat.le_of_ble_eq_true rfl, Nat.le_of_ble_eq_true rfl⟩) I (fun r_26 ph1 H locs hp I => ?_)
        obtain ⟨hp, hph⟩ := hp
        rw [hph] at I
        have hp : r_26 = (w (132 + k)) := hp.trans hb9.2
        rw [hp]
        refine lv_istore_n (lv' := [(3, .int (w (132 + k))), (0, .ref (ad 0)), (1, .int h), (2, .ref u)]) hx hb dX2_takesOut_29 rfl hl (by decide) rfl (fun ls hl => ?_)
        refine lv_iload_n hx hb dX2_takesOut_30 rfl (lv_at hl 0 rfl) ?_
        refine lv_iload_n hx hb dX2_takesOut_31 rfl (lv_at hl 2 rfl) ?_
        refine lv_icmp_ne (tgt := 41) hx hb dX2_takesOut_32 (by decide) (fun c_32 => ?_) (fun c_32 => ?_)
        · have hw1 : (tkN w h k).1 (132 + k) = w (132 + k) := tkN_n (by omega)
          have hts1 : tkN w h (k + 1) = (upd (tkN w h k).1 (132 + mm) ((tkN w h k).1 (132 + k)), mm + 1) := by rw [← hm]; exact if_neg (by rw [hw1]; exact c_32)
          have hm1 : (tkN w h (k + 1)).2 = mm + 1 := by rw [hts1]
          have hi1 : ∀ t, t < mm + 1 → it9 t = g_bx Γ ((tkN w h (k + 1)).1 (132 + t)).toNatClampNeg := fun t ht => by rw [hts1]; show it9 t = g_bx Γ (upd _ _ _ _).toNatClampNeg; by_cases e9 : t = mm; subst e9; rw [upd_s, hw1, hi2 t (Nat.le_refl _) c_14, show t + (k - t) = k by omega]; rfl; rw [upd_n (by omega)]; exact hi1 t (by omega)
          have hi2 : ∀ t, mm + 1 ≤ t → t < n9 → it9 t = anI Γ w (t + (k + 1 - (mm + 1))) := fun t h1 h2 => by rw [hi2 t (by omega) h2, show k + 1 - (mm + 1) = k - mm by omega]
          refine lv_goto (tgt := 8) hx hb dX2_takesOut_41 (by decide) ?_
          exact ih (k + 1) (mm + 1) n9 P8 na9 it9 m9 _ (by omega) hm1 (by omega) hL9 hi1 hi2 hu9 hf9 (by omega) _ _ _ I (lv_sub hl [1, 2, 3] rfl)
        · refine lv_aload_n hx hb dX2_takesOut_35 rfl (lv_at hl 3 rfl) ?_
          obtain ⟨n8, rfl⟩ : ∃ n8, n9 = n8 + 1 := ⟨n9 - 1, by omega⟩
          refine g_cFv (g_runF S hK I (As := []) (rest := []) (met_J32_removeA l Γ P8 105 i (ad 5) 200 n8 mm na9 it9 m9 30 0 u hL9 (by omega) hu9 (by decide) (by decide) (by decide)) (ci := 26) rfl (va_cwF 0 hts (lw_F q2033 q2099 q2093 q167 q2095) rfl rfl rfl (hK.F 5 rfl) (by decide +kernel) ⟨Nat.le_of_ble_eq_true rfl, Nat.le_of_ble_eq_true rfl⟩) (g_recv hK I (g_at.of hu9) (ci := 26) rfl) rfl hl.1 rfl (Nat.le_of_ble_eq_true rfl) dX2_takesOut_36 ⟨Nat.le_of_ble_eq_true rfl, Nat.le_of_ble_eq_true rfl⟩) I (fun ph1 H locs hp I => ?_)
          obtain ⟨hL9, hu9, hg9⟩ := hp
          have hf9 := hf9.trans hg9
          have hw1 : (tkN w h k).1 (132 + k) = w (132 + k) := tkN_n (by omega)
          have hts1 : tkN w h (k + 1) = tkN w h k := if_pos (by rw [hw1]; exact c_32)
          have hm1 : (tkN w h (k + 1)).2 = mm := by rw [hts1]; exact hm
          have hi1 : ∀ t, t < mm → delN it9 mm t = g_bx Γ ((tkN w h (k + 1)).1 (132 + t)).toNatClampNeg := fun t ht => by rw [hts1, delN_lt ht]; exact hi1 t ht
          have hi2 : ∀ t, mm ≤ t → t < n8 + 1 - 1 → delN it9 mm t = anI Γ w (t + (k + 1 - mm)) := fun t h1 h2 => by rw [delN_ge h1, hi2 (t + 1) (by omega) (by omega), show t + 1 + (k - mm) = t + (k + 1 - mm) by omega]
          refine lv_goto (tgt := 8) hx hb dX2_takesOut_41 (by decide) ?_
          exact ih (k + 1) mm n8 ph1 _ _ _ _ (by omega) hm1 (by omega) hL9 hi1 hi2 hu9 hf9 (by omega) _ _ _ I (lv_sub hl [1, 2, 3] rfl)
  exact L_8 _ 0 0 (nAn w) P_1 na (anI Γ w) (mc 0) _ (Nat.zero_le _) rfl rfl hW.o5 (fun t ht => absurd ht (Nat.not_lt_zero _)) (fun t _ _ => rfl) hu9 (hP9.mono (by simp)) (Nat.lt_succ_self _) _ _ _ I (lv_sub hl [1, 2, 0] rfl)


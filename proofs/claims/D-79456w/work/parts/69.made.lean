/-! A WALL IS MADE; A WALL IS COPIED -/
set_option maxRecDepth 100000
theorem k_X4 : g_cls 3 RX4 gT0 0 (fun _ => .int) := ⟨rfl, fun w h => absurd h List.not_mem_nil, fun k h => absurd h (Nat.not_lt_zero _), fun a h => absurd h (Nat.not_lt_zero _)⟩
theorem k_X22 : g_cls 17 RX22 gT0 0 (fun _ => .int) := ⟨rfl, fun w h => absurd h List.not_mem_nil, fun k h => absurd h (Nat.not_lt_zero _), fun a h => absurd h (Nat.not_lt_zero _)⟩
theorem k_X23 : g_cls 18 RX23 gT0 0 (fun _ => .int) := ⟨rfl, fun w h => absurd h List.not_mem_nil, fun k h => absurd h (Nat.not_lt_zero _), fun a h => absurd h (Nat.not_lt_zero _)⟩
theorem k_X24 : g_cls 19 RX24 gT0 0 (fun _ => .int) := ⟨rfl, fun w h => absurd h List.not_mem_nil, fun k h => absurd h (Nat.not_lt_zero _), fun a h => absurd h (Nat.not_lt_zero _)⟩
theorem rfs_0 {f : Nat → Nat} : rfs 0 f = fun _ => none := by funext k; exact if_neg (Nat.not_lt_zero k)
theorem v0_foF {w : m_w} : foF (v0W w) = fun _ => 0 := by
  funext k
  unfold foF
  by_cases e : k < 16
  · rw [if_pos e]
    unfold v0W
    rw [if_neg (by omega), if_neg (by omega), if_neg (by omega), if_neg (by omega)]
    rfl
  · rw [if_neg e]
theorem v0_cl {w : m_w} {c : Nat} (hc : c < 2) : clW (v0W w) c = clW w c := clW_eq (fun t ht => by unfold v0W; rw [if_pos (by omega)])
theorem g_Wl.make {Γ : g_C} {ph : g_H} {i : Nat} {w : m_w} {q l1 d1 l3 d3 l5 q6 l7 l8 a0 a1 : Nat} (hi : i ≠ 0) (h0 : ph 100 i q = some (.inr (1, [.ref l1, .ref l3, .ref l5, .ref q6, .ref l7, .ref l8, .int 0, .int 3, .int 21, .int 30, .int 0, .int 0, .int 0, .int 0, .int 0]))) (h1 : ph 101 i l1 = some (.inr (21, [.int 0, .ref d1, .int 0]))) (h2 : ph 102 i d1 = some (.inl (g_t Γ 7, 20, .inr (.inr (.inr (.inr (fun _ => none))))))) (h3 : ph 103 i l3 = some (.inr (21, [.int 0, .ref d3, .int 0]))) (h4 : ph 104 i d3 = some (.inl (g_t Γ 7, 4, .inr (.inr (.inr (.inr (fun _ => none))))))) (h5 : ph 105 i l5 = some (.inr (24, [.int 0, .int 0, .null, .null]))) (h6 : ph 106 i q6 = some (.inr (20, [.ref a0, .ref a1]))) (h7 : ph 107 i l7 = some (.inr (3, []))) (h8 : ph 108 i l8 = some (.inl (g_t Γ 5, 16, .inr (.inr (.inl (fun _ => 0)))))) (hc0 : ph 110 i a0 = some (clW w 0)) (hc1 : ph 111 i a1 = some (clW w 1)) : ∃ ad na mc, ad 0 = q ∧ g_Wl Γ ph i ad na mc (v0W w) := by
  refine ⟨fun t => if t = 0 then q else if t = 1 then l1 else if t = 2 then d1 else if t = 3 then l3 else if t = 4 then d3 else if t = 5 then l5 else if t = 6 then q6 else if t = 7 then l7 else if t = 8 then l8 else if t = 10 then a0 else if t = 11 then a1 else 0, fun _ => 0, fun _ => 0, rfl, hi, ⟨h0, ⟨h1, ?_⟩, ⟨h3, ?_⟩, ⟨h6, h7, ?_⟩, fun c hc => ?_, fun k hk => absurd hk (Nat.not_lt_zero _), fun k hk => absurd hk (Nat.not_lt_zero _)⟩, h5, fun k hk => absurd hk (Nat.not_lt_zero _), fun k _ hk => absurd hk (Nat.not_lt_zero _)⟩
  · rw [show nN (v0W w) = 0 from rfl, rfs_0]; exact h2
  · rw [show nLa (v0W w) = 0 from rfl, rfs_0]; exact h4
  · rw [v0_foF]; exact h8
  · rw [v0_cl hc]
    rcases (show c = 0 ∨ c = 1 by omega) with rfl | rfl
    · exact hc0
    · exact hc1
set_option maxHeartbeats 4000000 in
set_option maxRecDepth 100000 in
theorem met_X2_init_2 (l : Launch) (Γ : g_C) (ph : g_H) (i q q6 a0 a1 : Nat) (w : m_w)   (hi : i ≠ 0) (hq : ph 100 i q = some (.inr (1, [.null, .null, .null, .null, .null, .null, .int 0, .int 0, .int 0, .int 0, .int 0, .int 0, .int 0, .int 0, .int 0]))) (h6 : ph 106 i q6 = some (.inr (20, [.ref a0, .ref a1]))) (hc0 : ph 110 i a0 = some (clW w 0)) (hc1 : ph 111 i a1 = some (clW w 1)) : g_Met l yX2_init_2 (ws_ yX2_init_2 cX2_init_2 2 none) (g_rm 5 7 50) Γ [.ref q, .ref q6] (ph) (g_ov (fun ph' => ∃ ad na mc, ad 0 = q ∧ g_Wl Γ ph' i ad na mc (v0W w) ∧ g_frR i ph ph')) g_no := by
  refine g_start (y := yX2_init_2) (cc := cX2_init_2) (maxL := 2) (ret := none) (rm := g_rm 5 7 50) (by decide) (Nat.le_of_ble_eq_true rfl) ?_
  intro p e s m A below meth c ls Q hQ S hr hlk hex hnm hK I hl
  have hx := S.1
  have hb := S.2.1
  have hown := S.2.2.2.1
  have hts := S.2.2.2.2
  have S : CallFix p m c cX2_init_2 2 s A lw_all "CrumblingWall$Wall" := S
  have hl : lv_has ls 2 [(0, .ref q), (1, .ref q6)] := hl
  have hG : g_frR i ph ph := g_frR.refl i ph
  refine lv_aload_n hx hb dX2_init_2_0 rfl (lv_at hl 0 rfl) ?_
  refine g_obj S hl.1 q260 dX2_init_2_1 (Nat.le_of_ble_eq_true rfl) (Nat.le_of_ble_eq_true rfl) ?_
  refine lv_aload_n hx hb dX2_init_2_4 rfl (lv_at hl 0 rfl) ?_
  refine g_new S hK I 101 i k_J7 q261 q262 q130 (fs := [.int 0, .null, .int 0]) (by decide) (Nat.le_of_ble_eq_true rfl) (Nat.le_of_ble_eq_true rfl) dX2_init_2_5 (fun l1 H hfl1 I => ?_)
  have I : g_I Γ (gput ph 101 i l1 (.inr (21, [.int 0, .null, .int 0]))) s _ _ := I
  have hc_q : (gput ph 101 i l1 (.inr (21, [.int 0, .null, .int 0]))) 100 i q = some (.inr (1, [.null, .null, .null, .null, .null, .null, .int 0, .int 0, .int 0, .int 0, .int 0, .int 0, .int 0, .int 0, .int 0])) := ((g_oj (by decide)).trans hq)
  have hc_q6 : (gput ph 101 i l1 (.inr (21, [.int 0, .null, .int 0]))) 106 i q6 = some (.inr (20, [.ref a0, .ref a1])) := ((g_oj (by decide)).trans h6)
  have hc_a0 : (gput ph 101 i l1 (.inr (21, [.int 0, .null, .int 0]))) 110 i a0 = some (clW w 0) := ((g_oj (by decide)).trans hc0)
  have hc_a1 : (gput ph 101 i l1 (.inr (21, [.int 0, .null, .int 0]))) 111 i a1 = some (clW w 1) := ((g_oj (by decide)).trans hc1)
  have hc_l1 : (gput ph 101 i l1 (.inr (21, [.int 0, .null, .int 0]))) 101 i l1 = some (.inr (21, [.int 0, .null, .int 0])) := (gput_self _ _ _ _ _)
  have hG : g_frR i ph (gput ph 101 i l1 (.inr (21, [.int 0, .null, .int 0]))) := hG.trans g_frR.put
  generalize gput ph 101 i l1 (.inr (21, [.int 0, .null, .int 0])) = P_1 at I hG hc_q hc_q6 hc_a0 hc_a1 hc_l1
  refine lv_dup hx hb dX2_init_2_8 rfl ?_
  refine lv_bipush (v := 20) hx hb dX2_init_2_9 (by decide) ?_
  refine g_cv (g_runI S hK I (As := [.int 20]) (rest := [.ref l1, .ref q]) (met_J7_init_20 l Γ P_1 101 i l1 102 hc_l1 (by decide)) (cwI 1 hts (lw_meth q265) rfl rfl rfl (hts _ q130) (hts _ q263) (hts _ q264) rfl (by decide +kernel) ⟨Nat.le_of_ble_eq_true rfl, Nat.le_of_ble_eq_true rfl⟩) rfl hl.1 rfl (Nat.le_of_ble_eq_true rfl) dX2_init_2_11 ⟨by dsimp only [g_rm]; omega, by dsimp only [g_rm]; omega⟩) I (fun ph1 H locs hp I => ?_)
  obtain ⟨d1, hn1, hn2, hg9⟩ := hp
  have hc_q : ph1 100 i q = some (.inr (1, [.null, .null, .null, .null, .null, .null, .int 0, .int 0, .int 0, .int 0, .int 0, .int 0, .int 0, .int 0, .int 0])) := by rw [hg9 100 i (by simp)]; exact hc_q
  have hc_q6 : ph1 106 i q6 = some (.inr (20, [.ref a0, .ref a1])) := by rw [hg9 106 i (by simp)]; exact hc_q6
  have hc_a0 : ph1 110 i a0 = some (clW w 0) := by rw [hg9 110 i (by simp)]; exact hc_a0
  have hc_a1 : ph1 111 i a1 = some (clW w 1) := by rw [hg9 111 i (by simp)]; exact hc_a1
  have hc_l1 : ph1 101 i l1 = some (.inr (21, [.int 0, .ref d1, .int 0])) := hn1
  have hc_d1 : ph1 102 i d1 = some (.inl (g_t Γ 7, 20, .inr (.inr (.inr (.inr (fun _ => none)))))) := hn2
  have hG : g_frR i ph ph1 := hG.trans (g_frR.of hg9 (by simp))
  generalize ph1 = P_2 at I hG hc_q hc_q6 hc_a0 hc_a1 hc_l1 hc_d1
  refine g_putF S hK I k_X2 (v := .ref l1) hc_q 0 (by decide) q643 rfl rfl hnm rfl rfl (Nat.le_of_ble_eq_true rfl) dX2_init_2_14 (fun H locs I => ?_)
  have I : g_I Γ (gput P_2 100 i q (.inr (1, [.ref l1, .null, .null, .null, .null, .null, .int 0, .int 0, .int 0, .int 0, .int 0, .int 0, .int 0, .int 0, .int 0]))) s _ _ := I
  have hc_q : (gput P_2 100 i q (.inr (1, [.ref l1, .null, .null, .null, .null, .null, .int 0, .int 0, .int 0, .int 0, .int 0, .int 0, .int 0, .int 0, .int 0]))) 100 i q = some (.inr (1, [.ref l1, .null, .null, .null, .null, .null, .int 0, .int 0, .int 0, .int 0, .int 0, .int 0, .int 0, .int 0, .int 0])) := (gput_self _ _ _ _ _)
  have hc_q6 : (gput P_2 100 i q (.inr (1, [.ref l1, .null, .null, .null, .null, .null, .int 0, .int 0, .int 0, .int 0, .int 0, .int 0, .int 0, .int 0, .int 0]))) 106 i q6 = some (.inr (20, [.ref a0, .ref a1])) := ((g_oj (by decide)).trans hc_q6)
  have hc_a0 : (gput P_2 100 i q (.inr (1, [.ref l1, .null, .null, .null, .null, .null, .int 0, .int 0, .int 0, .int 0, .int 0, .int 0, .int 0, .int 0, .int 0]))) 110 i a0 = some (clW w 0) := ((g_oj (by decide)).trans hc_a0)
  have hc_a1 : (gput P_2 100 i q (.inr (1, [.ref l1, .null, .null, .null, .null, .null, .int 0, .int 0, .int 0, .int 0, .int 0, .int 0, .int 0, .int 0, .int 0]))) 111 i a1 = some (clW w 1) := ((g_oj (by decide)).trans hc_a1)
  have hc_l1 : (gput P_2 100 i q (.inr (1, [.ref l1, .null, .null, .null, .null, .null, .int 0, .int 0, .int 0, .int 0, .int 0, .int 0, .int 0, .int 0, .int 0]))) 101 i l1 = some (.inr (21, [.int 0, .ref d1, .int 0])) := ((g_oj (by decide)).trans hc_l1)
  have hc_d1 : (gput P_2 100 i q (.inr (1, [.ref l1, .null, .null, .null, .null, .null, .int 0, .int 0, .int 0, .int 0, .int 0, .int 0, .int 0, .int 0, .int 0]))) 102 i d1 = some (.inl (g_t Γ 7, 20, .inr (.inr (.inr (.inr (fun _ => none)))))) := ((g_oj (by decide)).trans hc_d1)
  have hG : g_frR i ph (gput P_2 100 i q (.inr (1, [.ref l1, .null, .null, .null, .null, .null, .int 0, .int 0, .int 0, .int 0, .int 0, .int 0, .int 0, .int 0, .int 0]))) := hG.trans g_frR.put
  generalize gput P_2 100 i q (.inr (1, [.ref l1, .null, .null, .null, .null, .null, .int 0, .int 0, .int 0, .int 0, .int 0, .int 0, .int 0, .int 0, .int 0])) = P_3 at I hG hc_q hc_q6 hc_a0 hc_a1 hc_l1 hc_d1
  refine lv_aload_n hx hb dX2_init_2_17 rfl (lv_at hl 0 rfl) ?_
  refine g_new S hK I 103 i k_J7 q261 q262 q130 (fs := [.int 0, .null, .int 0]) (by decide) (Nat.le_of_ble_eq_true rfl) (Nat.le_of_ble_eq_true rfl) dX2_init_2_18 (fun l3 H hfl3 I => ?_)
  have I : g_I Γ (gput P_3 103 i l3 (.inr (21, [.int 0, .null, .int 0]))) s _ _ := I
  have hc_q : (gput P_3 103 i l3 (.inr (21, [.int 0, .null, .int 0]))) 100 i q = some (.inr (1, [.ref l1, .null, .null, .null, .null, .null, .int 0, .int 0, .int 0, .int 0, .int 0, .int 0, .int 0, .int 0, .int 0])) := ((g_oj (by decide)).trans hc_q)
  have hc_q6 : (gput P_3 103 i l3 (.inr (21, [.int 0, .null, .int 0]))) 106 i q6 = some (.inr (20, [.ref a0, .ref a1])) := ((g_oj (by decide)).trans hc_q6)
  have hc_a0 : (gput P_3 103 i l3 (.inr (21, [.int 0, .null, .int 0]))) 110 i a0 = some (clW w 0) := ((g_oj (by decide)).trans hc_a0)
  have hc_a1 : (gput P_3 103 i l3 (.inr (21, [.int 0, .null, .int 0]))) 111 i a1 = some (clW w 1) := ((g_oj (by decide)).trans hc_a1)
  have hc_l1 : (gput P_3 103 i l3 (.inr (21, [.int 0, .null, .int 0]))) 101 i l1 = some (.inr (21, [.int 0, .ref d1, .int 0])) := ((g_oj (by decide)).trans hc_l1)
  have hc_d1 : (gput P_3 103 i l3 (.inr (21, [.int 0, .null, .int 0]))) 102 i d1 = some (.inl (g_t Γ 7, 20, .inr (.inr (.inr (.inr (fun _ => none)))))) := ((g_oj (by decide)).trans hc_d1)
  have hc_l3 : (gput P_3 103 i l3 (.inr (21, [.int 0, .null, .int 0]))) 103 i l3 = some (.inr (21, [.int 0, .null, .int 0])) := (gput_self _ _ _ _ _)
  have hG : g_frR i ph (gput P_3 103 i l3 (.inr (21, [.int 0, .null, .int 0]))) := hG.trans g_frR.put
  generalize gput P_3 103 i l3 (.inr (21, [.int 0, .null, .int 0])) = P_4 at I hG hc_q hc_q6 hc_a0 hc_a1 hc_l1 hc_d1 hc_l3
  refine lv_dup hx hb dX2_init_2_21 rfl ?_
  refine lv_iconst (v := 4) hx hb dX2_init_2_22 (by decide) ?_
  refine g_cv (g_runI S hK I (As := [.int 4]) (rest := [.ref l3, .ref q]) (met_J7_init_4 l Γ P_4 103 i l3 104 hc_l3 (by decide)) (cwI 1 hts (lw_meth q265) rfl rfl rfl (hts _ q130) (hts _ q263) (hts _ q264) rfl (by decide +kernel) ⟨Nat.le_of_ble_eq_true rfl, Nat.le_of_ble_eq_true rfl⟩) rfl hl.1 rfl (Nat.le_of_ble_eq_true rfl) dX2_init_2_23 ⟨by dsimp only [g_rm]; omega, by dsimp only [g_rm]; omega⟩) I (fun ph1 H locs hp I => ?_)
  obtain ⟨d3, hn1, hn2, hg9⟩ := hp
  have hc_q : ph1 100 i q = some (.inr (1, [.ref l1, .null, .null, .null, .null, .null, .int 0, .int 0, .int 0, .int 0, .int 0, .int 0, .int 0, .int 0, .int 0])) := by rw [hg9 100 i (by simp)]; exact hc_q
  have hc_q6 : ph1 106 i q6 = some (.inr (20, [.ref a0, .ref a1])) := by rw [hg9 106 i (by simp)]; exact hc_q6
  have hc_a0 : ph1 110 i a0 = some (clW w 0) := by rw [hg9 110 i (by simp)]; exact hc_a0
  have hc_a1 : ph1 111 i a1 = some (clW w 1) := by rw [hg9 111 i (by simp)]; exact hc_a1
  have hc_l1 : ph1 101 i l1 = some (.inr (21, [.int 0, .ref d1, .int 0])) := by rw [hg9 101 i (by simp)]; exact hc_l1
  have hc_d1 : ph1 102 i d1 = some (.inl (g_t Γ 7, 20, .inr (.inr (.inr (.inr (fun _ => none)))))) := by rw [hg9 102 i (by simp)]; exact hc_d1
  have hc_l3 : ph1 103 i l3 = some (.inr (21, [.int 0, .ref d3, .int 0])) := hn1
  have hc_d3 : ph1 104 i d3 = some (.inl (g_t Γ 7, 4, .inr (.inr (.inr (.inr (fun _ => none)))))) := hn2
  have hG : g_frR i ph ph1 := hG.trans (g_frR.of hg9 (by simp))
  generalize ph1 = P_5 at I hG hc_q hc_q6 hc_a0 hc_a1 hc_l1 hc_d1 hc_l3 hc_d3
  refine g_putF S hK I k_X2 (v := .ref l3) hc_q 1 (by decide) q646 rfl rfl hnm rfl rfl (Nat.le_of_ble_eq_true rfl) dX2_init_2_26 (fun H locs I => ?_)
  have I : g_I Γ (gput P_5 100 i q (.inr (1, [.ref l1, .ref l3, .null, .null, .null, .null, .int 0, .int 0, .int 0, .int 0, .int 0, .int 0, .int 0, .int 0, .int 0]))) s _ _ := I
  have hc_q : (gput P_5 100 i q (.inr (1, [.ref l1, .ref l3, .null, .null, .null, .null, .int 0, .int 0, .int 0, .int 0, .int 0, .int 0, .int 0, .int 0, .int 0]))) 100 i q = some (.inr (1, [.ref l1, .ref l3, .null, .null, .null, .null, .int 0, .int 0, .int 0, .int 0, .int 0, .int 0, .int 0, .int 0, .int 0])) := (gput_self _ _ _ _ _)
  have hc_q6 : (gput P_5 100 i q (.inr (1, [.ref l1, .ref l3, .null, .null, .null, .null, .int 0, .int 0, .int 0, .int 0, .int 0, .int 0, .int 0, .int 0, .int 0]))) 106 i q6 = some (.inr (20, [.ref a0, .ref a1])) := ((g_oj (by decide)).trans hc_q6)
  have hc_a0 : (gput P_5 100 i q (.inr (1, [.ref l1, .ref l3, .null, .null, .null, .null, .int 0, .int 0, .int 0, .int 0, .int 0, .int 0, .int 0, .int 0, .int 0]))) 110 i a0 = some (clW w 0) := ((g_oj (by decide)).trans hc_a0)
  have hc_a1 : (gput P_5 100 i q (.inr (1, [.ref l1, .ref l3, .null, .null, .null, .null, .int 0, .int 0, .int 0, .int 0, .int 0, .int 0, .int 0, .int 0, .int 0]))) 111 i a1 = some (clW w 1) := ((g_oj (by decide)).trans hc_a1)
  have hc_l1 : (gput P_5 100 i q (.inr (1, [.ref l1, .ref l3, .null, .null, .null, .null, .int 0, .int 0, .int 0, .int 0, .int 0, .int 0, .int 0, .int 0, .int 0]))) 101 i l1 = some (.inr (21, [.int 0, .ref d1, .int 0])) := ((g_oj (by decide)).trans hc_l1)
  have hc_d1 : (gput P_5 100 i q (.inr (1, [.ref l1, .ref l3, .null, .null, .null, .null, .int 0, .int 0, .int 0, .int 0, .int 0, .int 0, .int 0, .int 0, .int 0]))) 102 i d1 = some (.inl (g_t Γ 7, 20, .inr (.inr (.inr (.inr (fun _ => none)))))) := ((g_oj (by decide)).trans hc_d1)
  have hc_l3 : (gput P_5 100 i q (.inr (1, [.ref l1, .ref l3, .null, .null, .null, .null, .int 0, .int 0, .int 0, .int 0, .int 0, .int 0, .int 0, .int 0, .int 0]))) 103 i l3 = some (.inr (21, [.int 0, .ref d3, .int 0])) := ((g_oj (by decide)).trans hc_l3)
  have hc_d3 : (gput P_5 100 i q (.inr (1, [.ref l1, .ref l3, .null, .null, .null, .null, .int 0, .int 0, .int 0, .int 0, .int 0, .int 0, .int 0, .int 0, .int 0]))) 104 i d3 = some (.inl (g_t Γ 7, 4, .inr (.inr (.inr (.inr (fun _ => none)))))) := ((g_oj (by decide)).trans hc_d3)
  have hG : g_frR i ph (gput P_5 100 i q (.inr (1, [.ref l1, .ref l3, .null, .null, .null, .null, .int 0, .int 0, .int 0, .int 0, .int 0, .int 0, .int 0, .int 0, .int 0]))) := hG.trans g_frR.put
  generalize gput P_5 100 i q (.inr (1, [.ref l1, .ref l3, .null, .null, .null, .null, .int 0, .int 0, .int 0, .int 0, .int 0, .int 0, .int 0, .int 0, .int 0])) = P_6 at I hG hc_q hc_q6 hc_a0 hc_a1 hc_l1 hc_d1 hc_l3 hc_d3
  refine lv_aload_n hx hb dX2_init_2_29 rfl (lv_at hl 0 rfl) ?_
  refine g_new S hK I 105 i k_J24 q614 q615 q148 (fs := [.int 0, .int 0, .null, .null]) (by decide) (Nat.le_of_ble_eq_true rfl) (Nat.le_of_ble_eq_true rfl) dX2_init_2_30 (fun l5 H hfl5 I => ?_)
  have I : g_I Γ (gput P_6 105 i l5 (.inr (24, [.int 0, .int 0, .null, .null]))) s _ _ := I
  have hc_q : (gput P_6 105 i l5 (.inr (24, [.int 0, .int 0, .null, .null]))) 100 i q = some (.inr (1, [.ref l1, .ref l3, .null, .null, .null, .null, .int 0, .int 0, .int 0, .int 0, .int 0, .int 0, .int 0, .int 0, .int 0])) := ((g_oj (by decide)).trans hc_q)
  have hc_q6 : (gput P_6 105 i l5 (.inr (24, [.int 0, .int 0, .null, .null]))) 106 i q6 = some (.inr (20, [.ref a0, .ref a1])) := ((g_oj (by decide)).trans hc_q6)
  have hc_a0 : (gput P_6 105 i l5 (.inr (24, [.int 0, .int 0, .null, .null]))) 110 i a0 = some (clW w 0) := ((g_oj (by decide)).trans hc_a0)
  have hc_a1 : (gput P_6 105 i l5 (.inr (24, [.int 0, .int 0, .null, .null]))) 111 i a1 = some (clW w 1) := ((g_oj (by decide)).trans hc_a1)
  have hc_l1 : (gput P_6 105 i l5 (.inr (24, [.int 0, .int 0, .null, .null]))) 101 i l1 = some (.inr (21, [.int 0, .ref d1, .int 0])) := ((g_oj (by decide)).trans hc_l1)
  have hc_d1 : (gput P_6 105 i l5 (.inr (24, [.int 0, .int 0, .null, .null]))) 102 i d1 = some (.inl (g_t Γ 7, 20, .inr (.inr (.inr (.inr (fun _ => none)))))) := ((g_oj (by decide)).trans hc_d1)
  have hc_l3 : (gput P_6 105 i l5 (.inr (24, [.int 0, .int 0, .null, .null]))) 103 i l3 = some (.inr (21, [.int 0, .ref d3, .int 0])) := ((g_oj (by decide)).trans hc_l3)
  have hc_d3 : (gput P_6 105 i l5 (.inr (24, [.int 0, .int 0, .null, .null]))) 104 i d3 = some (.inl (g_t Γ 7, 4, .inr (.inr (.inr (.inr (fun _ => none)))))) := ((g_oj (by decide)).trans hc_d3)
  have hc_l5 : (gput P_6 105 i l5 (.inr (24, [.int 0, .int 0, .null, .null]))) 105 i l5 = some (.inr (24, [.int 0, .int 0, .null, .null])) := (gput_self _ _ _ _ _)
  have hG : g_frR i ph (gput P_6 105 i l5 (.inr (24, [.int 0, .int 0, .null, .null]))) := hG.trans g_frR.put
  generalize gput P_6 105 i l5 (.inr (24, [.int 0, .int 0, .null, .null])) = P_7 at I hG hc_q hc_q6 hc_a0 hc_a1 hc_l1 hc_d1 hc_l3 hc_d3 hc_l5
  refine lv_dup hx hb dX2_init_2_33 rfl ?_
  refine g_cv (g_runI S hK I (As := []) (rest := [.ref l5, .ref q]) (met_J24_init l Γ P_7 105 i l5 0 0 .null .null hc_l5) (cwI 0 hts (lw_meth q618) rfl rfl rfl (hts _ q148) (hts _ q616) (hts _ q617) rfl (by decide +kernel) ⟨Nat.le_of_ble_eq_true rfl, Nat.le_of_ble_eq_true rfl⟩) rfl hl.1 rfl (Nat.le_of_ble_eq_true rfl) dX2_init_2_34 ⟨by dsimp only [g_rm]; omega, by dsimp only [g_rm]; omega⟩) I (fun ph1 H locs hp I => ?_)
  rw [hp, gput_gput] at I
  have I : g_I Γ (gput P_7 105 i l5 (.inr (24, [.int 0, .int 0, .null, .null]))) s _ _ := I
  have hc_q : (gput P_7 105 i l5 (.inr (24, [.int 0, .int 0, .null, .null]))) 100 i q = some (.inr (1, [.ref l1, .ref l3, .null, .null, .null, .null, .int 0, .int 0, .int 0, .int 0, .int 0, .int 0, .int 0, .int 0, .int 0])) := ((g_oj (by decide)).trans hc_q)
  have hc_q6 : (gput P_7 105 i l5 (.inr (24, [.int 0, .int 0, .null, .null]))) 106 i q6 = some (.inr (20, [.ref a0, .ref a1])) := ((g_oj (by decide)).trans hc_q6)
  have hc_a0 : (gput P_7 105 i l5 (.inr (24, [.int 0, .int 0, .null, .null]))) 110 i a0 = some (clW w 0) := ((g_oj (by decide)).trans hc_a0)
  have hc_a1 : (gput P_7 105 i l5 (.inr (24, [.int 0, .int 0, .null, .null]))) 111 i a1 = some (clW w 1) := ((g_oj (by decide)).trans hc_a1)
  have hc_l1 : (gput P_7 105 i l5 (.inr (24, [.int 0, .int 0, .null, .null]))) 101 i l1 = some (.inr (21, [.int 0, .ref d1, .int 0])) := ((g_oj (by decide)).trans hc_l1)
  have hc_d1 : (gput P_7 105 i l5 (.inr (24, [.int 0, .int 0, .null, .null]))) 102 i d1 = some (.inl (g_t Γ 7, 20, .inr (.inr (.inr (.inr (fun _ => none)))))) := ((g_oj (by decide)).trans hc_d1)
  have hc_l3 : (gput P_7 105 i l5 (.inr (24, [.int 0, .int 0, .null, .null]))) 103 i l3 = some (.inr (21, [.int 0, .ref d3, .int 0])) := ((g_oj (by decide)).trans hc_l3)
  have hc_d3 : (gput P_7 105 i l5 (.inr (24, [.int 0, .int 0, .null, .null]))) 104 i d3 = some (.inl (g_t Γ 7, 4, .inr (.inr (.inr (.inr (fun _ => none)))))) := ((g_oj (by decide)).trans hc_d3)
  have hc_l5 : (gput P_7 105 i l5 (.inr (24, [.int 0, .int 0, .null, .null]))) 105 i l5 = some (.inr (24, [.int 0, .int 0, .null, .null])) := (gput_self _ _ _ _ _)
  have hG : g_frR i ph (gput P_7 105 i l5 (.inr (24, [.int 0, .int 0, .null, .null]))) := hG.trans g_frR.put
  generalize gput P_7 105 i l5 (.inr (24, [.int 0, .int 0, .null, .null])) = P_8 at I hG hc_q hc_q6 hc_a0 hc_a1 hc_l1 hc_d1 hc_l3 hc_d3 hc_l5
  refine g_putF S hK I k_X2 (v := .ref l5) hc_q 2 (by decide) q648 rfl rfl hnm rfl rfl (Nat.le_of_ble_eq_true rfl) dX2_init_2_37 (fun H locs I => ?_)
  have I : g_I Γ (gput P_8 100 i q (.inr (1, [.ref l1, .ref l3, .ref l5, .null, .null, .null, .int 0, .int 0, .int 0, .int 0, .int 0, .int 0, .int 0, .int 0, .int 0]))) s _ _ := I
  have hc_q : (gput P_8 100 i q (.inr (1, [.ref l1, .ref l3, .ref l5, .null, .null, .null, .int 0, .int 0, .int 0, .int 0, .int 0, .int 0, .int 0, .int 0, .int 0]))) 100 i q = some (.inr (1, [.ref l1, .ref l3, .ref l5, .null, .null, .null, .int 0, .int 0, .int 0, .int 0, .int 0, .int 0, .int 0, .int 0, .int 0])) := (gput_self _ _ _ _ _)
  have hc_q6 : (gput P_8 100 i q (.inr (1, [.ref l1, .ref l3, .ref l5, .null, .null, .null, .int 0, .int 0, .int 0, .int 0, .int 0, .int 0, .int 0, .int 0, .int 0]))) 106 i q6 = some (.inr (20, [.ref a0, .ref a1])) := ((g_oj (by decide)).trans hc_q6)
  have hc_a0 : (gput P_8 100 i q (.inr (1, [.ref l1, .ref l3, .ref l5, .null, .null, .null, .int 0, .int 0, .int 0, .int 0, .int 0, .int 0, .int 0, .int 0, .int 0]))) 110 i a0 = some (clW w 0) := ((g_oj (by decide)).trans hc_a0)
  have hc_a1 : (gput P_8 100 i q (.inr (1, [.ref l1, .ref l3, .ref l5, .null, .null, .null, .int 0, .int 0, .int 0, .int 0, .int 0, .int 0, .int 0, .int 0, .int 0]))) 111 i a1 = some (clW w 1) := ((g_oj (by decide)).trans hc_a1)
  have hc_l1 : (gput P_8 100 i q (.inr (1, [.ref l1, .ref l3, .ref l5, .null, .null, .null, .int 0, .int 0, .int 0, .int 0, .int 0, .int 0, .int 0, .int 0, .int 0]))) 101 i l1 = some (.inr (21, [.int 0, .ref d1, .int 0])) := ((g_oj (by decide)).trans hc_l1)
  have hc_d1 : (gput P_8 100 i q (.inr (1, [.ref l1, .ref l3, .ref l5, .null, .null, .null, .int 0, .int 0, .int 0, .int 0, .int 0, .int 0, .int 0, .int 0, .int 0]))) 102 i d1 = some (.inl (g_t Γ 7, 20, .inr (.inr (.inr (.inr (fun _ => none)))))) := ((g_oj (by decide)).trans hc_d1)
  have hc_l3 : (gput P_8 100 i q (.inr (1, [.ref l1, .ref l3, .ref l5, .null, .null, .null, .int 0, .int 0, .int 0, .int 0, .int 0, .int 0, .int 0, .int 0, .int 0]))) 103 i l3 = some (.inr (21, [.int 0, .ref d3, .int 0])) := ((g_oj (by decide)).trans hc_l3)
  have hc_d3 : (gput P_8 100 i q (.inr (1, [.ref l1, .ref l3, .ref l5, .null, .null, .null, .int 0, .int 0, .int 0, .int 0, .int 0, .int 0, .int 0, .int 0, .int 0]))) 104 i d3 = some (.inl (g_t Γ 7, 4, .inr (.inr (.inr (.inr (fun _ => none)))))) := ((g_oj (by decide)).trans hc_d3)
  have hc_l5 : (gput P_8 100 i q (.inr (1, [.ref l1, .ref l3, .ref l5, .null, .null, .null, .int 0, .int 0, .int 0, .int 0, .int 0, .int 0, .int 0, .int 0, .int 0]))) 105 i l5 = some (.inr (24, [.int 0, .int 0, .null, .null])) := ((g_oj (by decide)).trans hc_l5)
  have hG : g_frR i ph (gput P_8 100 i q (.inr (1, [.ref l1, .ref l3, .ref l5, .null, .null, .null, .int 0, .int 0, .int 0, .int 0, .int 0, .int 0, .int 0, .int 0, .int 0]))) := hG.trans g_frR.put
  generalize gput P_8 100 i q (.inr (1, [.ref l1, .ref l3, .ref l5, .null, .null, .null, .int 0, .int 0, .int 0, .int 0, .int 0, .int 0, .int 0, .int 0, .int 0])) = P_9 at I hG hc_q hc_q6 hc_a0 hc_a1 hc_l1 hc_d1 hc_l3 hc_d3 hc_l5
  refine lv_aload_n hx hb dX2_init_2_40 rfl (lv_at hl 0 rfl) ?_
  refine g_new S hK I 107 i k_X4 q636 q637 q149 (fs := []) (by decide) (Nat.le_of_ble_eq_true rfl) (Nat.le_of_ble_eq_true rfl) dX2_init_2_41 (fun l7 H hfl7 I => ?_)
  have I : g_I Γ (gput P_9 107 i l7 (.inr (3, []))) s _ _ := I
  have hc_q : (gput P_9 107 i l7 (.inr (3, []))) 100 i q = some (.inr (1, [.ref l1, .ref l3, .ref l5, .null, .null, .null, .int 0, .int 0, .int 0, .int 0, .int 0, .int 0, .int 0, .int 0, .int 0])) := ((g_oj (by decide)).trans hc_q)
  have hc_q6 : (gput P_9 107 i l7 (.inr (3, []))) 106 i q6 = some (.inr (20, [.ref a0, .ref a1])) := ((g_oj (by decide)).trans hc_q6)
  have hc_a0 : (gput P_9 107 i l7 (.inr (3, []))) 110 i a0 = some (clW w 0) := ((g_oj (by decide)).trans hc_a0)
  have hc_a1 : (gput P_9 107 i l7 (.inr (3, []))) 111 i a1 = some (clW w 1) := ((g_oj (by decide)).trans hc_a1)
  have hc_l1 : (gput P_9 107 i l7 (.inr (3, []))) 101 i l1 = some (.inr (21, [.int 0, .ref d1, .int 0])) := ((g_oj (by decide)).trans hc_l1)
  have hc_d1 : (gput P_9 107 i l7 (.inr (3, []))) 102 i d1 = some (.inl (g_t Γ 7, 20, .inr (.inr (.inr (.inr (fun _ => none)))))) := ((g_oj (by decide)).trans hc_d1)
  have hc_l3 : (gput P_9 107 i l7 (.inr (3, []))) 103 i l3 = some (.inr (21, [.int 0, .ref d3, .int 0])) := ((g_oj (by decide)).trans hc_l3)
  have hc_d3 : (gput P_9 107 i l7 (.inr (3, []))) 104 i d3 = some (.inl (g_t Γ 7, 4, .inr (.inr (.inr (.inr (fun _ => none)))))) := ((g_oj (by decide)).trans hc_d3)
  have hc_l5 : (gput P_9 107 i l7 (.inr (3, []))) 105 i l5 = some (.inr (24, [.int 0, .int 0, .null, .null])) := ((g_oj (by decide)).trans hc_l5)
  have hc_l7 : (gput P_9 107 i l7 (.inr (3, []))) 107 i l7 = some (.inr (3, [])) := (gput_self _ _ _ _ _)
  have hG : g_frR i ph (gput P_9 107 i l7 (.inr (3, []))) := hG.trans g_frR.put
  generalize gput P_9 107 i l7 (.inr (3, [])) = P_10 at I hG hc_q hc_q6 hc_a0 hc_a1 hc_l1 hc_d1 hc_l3 hc_d3 hc_l5 hc_l7
  refine lv_dup hx hb dX2_init_2_44 rfl ?_
  refine g_cv (g_runIN S hK I (As := []) (rest := [.ref l7, .ref q]) (met_X4_init l Γ P_10 107 i l7 hc_l7) ⟨va_cnB 0 hts (lw_meth q640) rfl rfl rfl (hK.N q638 rfl) (hts _ q149) (by decide +kernel) ⟨Nat.le_of_ble_eq_true rfl, Nat.le_of_ble_eq_true rfl⟩, rfl, hts _ q639⟩ rfl hl.1 rfl (Nat.le_of_ble_eq_true rfl) dX2_init_2_45 ⟨by dsimp only [g_rm]; omega, by dsimp only [g_rm]; omega⟩) I (fun ph1 H locs hp I => ?_)
  obtain ⟨hn1, hg9⟩ := hp
  have hc_q : ph1 100 i q = some (.inr (1, [.ref l1, .ref l3, .ref l5, .null, .null, .null, .int 0, .int 0, .int 0, .int 0, .int 0, .int 0, .int 0, .int 0, .int 0])) := by rw [hg9 100 i (by simp)]; exact hc_q
  have hc_q6 : ph1 106 i q6 = some (.inr (20, [.ref a0, .ref a1])) := by rw [hg9 106 i (by simp)]; exact hc_q6
  have hc_a0 : ph1 110 i a0 = some (clW w 0) := by rw [hg9 110 i (by simp)]; exact hc_a0
  have hc_a1 : ph1 111 i a1 = some (clW w 1) := by rw [hg9 111 i (by simp)]; exact hc_a1
  have hc_l1 : ph1 101 i l1 = some (.inr (21, [.int 0, .ref d1, .int 0])) := by rw [hg9 101 i (by simp)]; exact hc_l1
  have hc_d1 : ph1 102 i d1 = some (.inl (g_t Γ 7, 20, .inr (.inr (.inr (.inr (fun _ => none)))))) := by rw [hg9 102 i (by simp)]; exact hc_d1
  have hc_l3 : ph1 103 i l3 = some (.inr (21, [.int 0, .ref d3, .int 0])) := by rw [hg9 103 i (by simp)]; exact hc_l3
  have hc_d3 : ph1 104 i d3 = some (.inl (g_t Γ 7, 4, .inr (.inr (.inr (.inr (fun _ => none)))))) := by rw [hg9 104 i (by simp)]; exact hc_d3
  have hc_l5 : ph1 105 i l5 = some (.inr (24, [.int 0, .int 0, .null, .null])) := by rw [hg9 105 i (by simp)]; exact hc_l5
  have hc_l7 : ph1 107 i l7 = some (.inr (3, [])) := hn1
  have hG : g_frR i ph ph1 := hG.trans (g_frR.of hg9 (by simp))
  generalize ph1 = P_11 at I hG hc_q hc_q6 hc_a0 hc_a1 hc_l1 hc_d1 hc_l3 hc_d3 hc_l5 hc_l7
  refine g_putF S hK I k_X2 (v := .ref l7) hc_q 4 (by decide) q651 rfl rfl hnm rfl rfl (Nat.le_of_ble_eq_true rfl) dX2_init_2_48 (fun H locs I => ?_)
  have I : g_I Γ (gput P_11 100 i q (.inr (1, [.ref l1, .ref l3, .ref l5, .null, .ref l7, .null, .int 0, .int 0, .int 0, .int 0, .int 0, .int 0, .int 0, .int 0, .int 0]))) s _ _ := I
  have hc_q : (gput P_11 100 i q (.inr (1, [.ref l1, .ref l3, .ref l5, .null, .ref l7, .null, .int 0, .int 0, .int 0, .int 0, .int 0, .int 0, .int 0, .int 0, .int 0]))) 100 i q = some (.inr (1, [.ref l1, .ref l3, .ref l5, .null, .ref l7, .null, .int 0, .int 0, .int 0, .int 0, .int 0, .int 0, .int 0, .int 0, .int 0])) := (gput_self _ _ _ _ _)
  have hc_q6 : (gput P_11 100 i q (.inr (1, [.ref l1, .ref l3, .ref l5, .null, .ref l7, .null, .int 0, .int 0, .int 0, .int 0, .int 0, .int 0, .int 0, .int 0, .int 0]))) 106 i q6 = some (.inr (20, [.ref a0, .ref a1])) := ((g_oj (by decide)).trans hc_q6)
  have hc_a0 : (gput P_11 100 i q (.inr (1, [.ref l1, .ref l3, .ref l5, .null, .ref l7, .null, .int 0, .int 0, .int 0, .int 0, .int 0, .int 0, .int 0, .int 0, .int 0]))) 110 i a0 = some (clW w 0) := ((g_oj (by decide)).trans hc_a0)
  have hc_a1 : (gput P_11 100 i q (.inr (1, [.ref l1, .ref l3, .ref l5, .null, .ref l7, .null, .int 0, .int 0, .int 0, .int 0, .int 0, .int 0, .int 0, .int 0, .int 0]))) 111 i a1 = some (clW w 1) := ((g_oj (by decide)).trans hc_a1)
  have hc_l1 : (gput P_11 100 i q (.inr (1, [.ref l1, .ref l3, .ref l5, .null, .ref l7, .null, .int 0, .int 0, .int 0, .int 0, .int 0, .int 0, .int 0, .int 0, .int 0]))) 101 i l1 = some (.inr (21, [.int 0, .ref d1, .int 0])) := ((g_oj (by decide)).trans hc_l1)
  have hc_d1 : (gput P_11 100 i q (.inr (1, [.ref l1, .ref l3, .ref l5, .null, .ref l7, .null, .int 0, .int 0, .int 0, .int 0, .int 0, .int 0, .int 0, .int 0, .int 0]))) 102 i d1 = some (.inl (g_t Γ 7, 20, .inr (.inr (.inr (.inr (fun _ => none)))))) := ((g_oj (by decide)).trans hc_d1)
  have hc_l3 : (gput P_11 100 i q (.inr (1, [.ref l1, .ref l3, .ref l5, .null, .ref l7, .null, .int 0, .int 0, .int 0, .int 0, .int 0, .int 0, .int 0, .int 0, .int 0]))) 103 i l3 = some (.inr (21, [.int 0, .ref d3, .int 0])) := ((g_oj (by decide)).trans hc_l3)
  have hc_d3 : (gput P_11 100 i q (.inr (1, [.ref l1, .ref l3, .ref l5, .null, .ref l7, .null, .int 0, .int 0, .int 0, .int 0, .int 0, .int 0, .int 0, .int 0, .int 0]))) 104 i d3 = some (.inl (g_t Γ 7, 4, .inr (.inr (.inr (.inr (fun _ => none)))))) := ((g_oj (by decide)).trans hc_d3)
  have hc_l5 : (gput P_11 100 i q (.inr (1, [.ref l1, .ref l3, .ref l5, .null, .ref l7, .null, .int 0, .int 0, .int 0, .int 0, .int 0, .int 0, .int 0, .int 0, .int 0]))) 105 i l5 = some (.inr (24, [.int 0, .int 0, .null, .null])) := ((g_oj (by decide)).trans hc_l5)
  have hc_l7 : (gput P_11 100 i q (.inr (1, [.ref l1, .ref l3, .ref l5, .null, .ref l7, .null, .int 0, .int 0, .int 0, .int 0, .int 0, .int 0, .int 0, .int 0, .int 0]))) 107 i l7 = some (.inr (3, [])) := ((g_oj (by decide)).trans hc_l7)
  have hG : g_frR i ph (gput P_11 100 i q (.inr (1, [.ref l1, .ref l3, .ref l5, .null, .ref l7, .null, .int 0, .int 0, .int 0, .int 0, .int 0, .int 0, .int 0, .int 0, .int 0]))) := hG.trans g_frR.put
  generalize gput P_11 100 i q (.inr (1, [.ref l1, .ref l3, .ref l5, .null, .ref l7, .null, .int 0, .int 0, .int 0, .int 0, .int 0, .int 0, .int 0, .int 0, .int 0])) = P_12 at I hG hc_q hc_q6 hc_a0 hc_a1 hc_l1 hc_d1 hc_l3 hc_d3 hc_l5 hc_l7
  refine lv_aload_n hx hb dX2_init_2_51 rfl (lv_at hl 0 rfl) ?_
  refine lv_bipush (v := 16) hx hb dX2_init_2_52 (by decide) ?_
  refine g_newa (atype := .float) S hK I 108 i 5 (N' := 16) (a0 := (16, .inr (.inr (.inl fun _ => 0)))) q703 rfl rfl (fun _ => rfl) (by decide) rfl (by decide) (Nat.le_of_ble_eq_true rfl) (Nat.le_of_ble_eq_true rfl) dX2_init_2_54 (fun l8 H hfl8 I => ?_)
  have I : g_I Γ (gput P_12 108 i l8 (.inl (g_t Γ 5, 16, .inr (.inr (.inl (fun _ => 0)))))) s _ _ := I
  have hc_q : (gput P_12 108 i l8 (.inl (g_t Γ 5, 16, .inr (.inr (.inl (fun _ => 0)))))) 100 i q = some (.inr (1, [.ref l1, .ref l3, .ref l5, .null, .ref l7, .null, .int 0, .int 0, .int 0, .int 0, .int 0, .int 0, .int 0, .int 0, .int 0])) := ((g_oj (by decide)).trans hc_q)
  have hc_q6 : (gput P_12 108 i l8 (.inl (g_t Γ 5, 16, .inr (.inr (.inl (fun _ => 0)))))) 106 i q6 = some (.inr (20, [.ref a0, .ref a1])) := ((g_oj (by decide)).trans hc_q6)
  have hc_a0 : (gput P_12 108 i l8 (.inl (g_t Γ 5, 16, .inr (.inr (.inl (fun _ => 0)))))) 110 i a0 = some (clW w 0) := ((g_oj (by decide)).trans hc_a0)
  have hc_a1 : (gput P_12 108 i l8 (.inl (g_t Γ 5, 16, .inr (.inr (.inl (fun _ => 0)))))) 111 i a1 = some (clW w 1) := ((g_oj (by decide)).trans hc_a1)
  have hc_l1 : (gput P_12 108 i l8 (.inl (g_t Γ 5, 16, .inr (.inr (.inl (fun _ => 0)))))) 101 i l1 = some (.inr (21, [.int 0, .ref d1, .int 0])) := ((g_oj (by decide)).trans hc_l1)
  have hc_d1 : (gput P_12 108 i l8 (.inl (g_t Γ 5, 16, .inr (.inr (.inl (fun _ => 0)))))) 102 i d1 = some (.inl (g_t Γ 7, 20, .inr (.inr (.inr (.inr (fun _ => none)))))) := ((g_oj (by decide)).trans hc_d1)
  have hc_l3 : (gput P_12 108 i l8 (.inl (g_t Γ 5, 16, .inr (.inr (.inl (fun _ => 0)))))) 103 i l3 = some (.inr (21, [.int 0, .ref d3, .int 0])) := ((g_oj (by decide)).trans hc_l3)
  have hc_d3 : (gput P_12 108 i l8 (.inl (g_t Γ 5, 16, .inr (.inr (.inl (fun _ => 0)))))) 104 i d3 = some (.inl (g_t Γ 7, 4, .inr (.inr (.inr (.inr (fun _ => none)))))) := ((g_oj (by decide)).trans hc_d3)
  have hc_l5 : (gput P_12 108 i l8 (.inl (g_t Γ 5, 16, .inr (.inr (.inl (fun _ => 0)))))) 105 i l5 = some (.inr (24, [.int 0, .int 0, .null, .null])) := ((g_oj (by decide)).trans hc_l5)
  have hc_l7 : (gput P_12 108 i l8 (.inl (g_t Γ 5, 16, .inr (.inr (.inl (fun _ => 0)))))) 107 i l7 = some (.inr (3, [])) := ((g_oj (by decide)).trans hc_l7)
  have hc_l8 : (gput P_12 108 i l8 (.inl (g_t Γ 5, 16, .inr (.inr (.inl (fun _ => 0)))))) 108 i l8 = some (.inl (g_t Γ 5, 16, .inr (.inr (.inl (fun _ => 0))))) := (gput_self _ _ _ _ _)
  have hG : g_frR i ph (gput P_12 108 i l8 (.inl (g_t Γ 5, 16, .inr (.inr (.inl (fun _ => 0)))))) := hG.trans g_frR.put
  generalize gput P_12 108 i l8 (.inl (g_t Γ 5, 16, .inr (.inr (.inl (fun _ => 0))))) = P_13 at I hG hc_q hc_q6 hc_a0 hc_a1 hc_l1 hc_d1 hc_l3 hc_d3 hc_l5 hc_l7 hc_l8
  refine g_putF S hK I k_X2 (v := .ref l8) hc_q 5 (by decide) q652 rfl rfl hnm rfl rfl (Nat.le_of_ble_eq_true rfl) dX2_init_2_56 (fun H locs I => ?_)
  have I : g_I Γ (gput P_13 100 i q (.inr (1, [.ref l1, .ref l3, .ref l5, .null, .ref l7, .ref l8, .int 0, .int 0, .int 0, .int 0, .int 0, .int 0, .int 0, .int 0, .int 0]))) s _ _ := I
  have hc_q : (gput P_13 100 i q (.inr (1, [.ref l1, .ref l3, .ref l5, .null, .ref l7, .ref l8, .int 0, .int 0, .int 0, .int 0, .int 0, .int 0, .int 0, .int 0, .int 0]))) 100 i q = some (.inr (1, [.ref l1, .ref l3, .ref l5, .null, .ref l7, .ref l8, .int 0, .int 0, .int 0, .int 0, .int 0, .int 0, .int 0, .int 0, .int 0])) := (gput_self _ _ _ _ _)
  have hc_q6 : (gput P_13 100 i q (.inr (1, [.ref l1, .ref l3, .ref l5, .null, .ref l7, .ref l8, .int 0, .int 0, .int 0, .int 0, .int 0, .int 0, .int 0, .int 0, .int 0]))) 106 i q6 = some (.inr (20, [.ref a0, .ref a1])) := ((g_oj (by decide)).trans hc_q6)
  have hc_a0 : (gput P_13 100 i q (.inr (1, [.ref l1, .ref l3, .ref l5, .null, .ref l7, .ref l8, .int 0, .int 0, .int 0, .int 0, .int 0, .int 0, .int 0, .int 0, .int 0]))) 110 i a0 = some (clW w 0) := ((g_oj (by decide)).trans hc_a0)
  have hc_a1 : (gput P_13 100 i q (.inr (1, [.ref l1, .ref l3, .ref l5, .null, .ref l7, .ref l8, .int 0, .int 0, .int 0, .int 0, .int 0, .int 0, .int 0, .int 0, .int 0]))) 111 i a1 = some (clW w 1) := ((g_oj (by decide)).trans hc_a1)
  have hc_l1 : (gput P_13 100 i q (.inr (1, [.ref l1, .ref l3, .ref l5, .null, .ref l7, .ref l8, .int 0, .int 0, .int 0, .int 0, .int 0, .int 0, .int 0, .int 0, .int 0]))) 101 i l1 = some (.inr (21, [.int 0, .ref d1, .int 0])) := ((g_oj (by decide)).trans hc_l1)
  have hc_d1 : (gput P_13 100 i q (.inr (1, [.ref l1, .ref l3, .ref l5, .null, .ref l7, .ref l8, .int 0, .int 0, .int 0, .int 0, .int 0, .int 0, .int 0, .int 0, .int 0]))) 102 i d1 = some (.inl (g_t Γ 7, 20, .inr (.inr (.inr (.inr (fun _ => none)))))) := ((g_oj (by decide)).trans hc_d1)
  have hc_l3 : (gput P_13 100 i q (.inr (1, [.ref l1, .ref l3, .ref l5, .null, .ref l7, .ref l8, .int 0, .int 0, .int 0, .int 0, .int 0, .int 0, .int 0, .int 0, .int 0]))) 103 i l3 = some (.inr (21, [.int 0, .ref d3, .int 0])) := ((g_oj (by decide)).trans hc_l3)
  have hc_d3 : (gput P_13 100 i q (.inr (1, [.ref l1, .ref l3, .ref l5, .null, .ref l7, .ref l8, .int 0, .int 0, .int 0, .int 0, .int 0, .int 0, .int 0, .int 0, .int 0]))) 104 i d3 = some (.inl (g_t Γ 7, 4, .inr (.inr (.inr (.inr (fun _ => none)))))) := ((g_oj (by decide)).trans hc_d3)
  have hc_l5 : (gput P_13 100 i q (.inr (1, [.ref l1, .ref l3, .ref l5, .null, .ref l7, .ref l8, .int 0, .int 0, .int 0, .int 0, .int 0, .int 0, .int 0, .int 0, .int 0]))) 105 i l5 = some (.inr (24, [.int 0, .int 0, .null, .null])) := ((g_oj (by decide)).trans hc_l5)
  have hc_l7 : (gput P_13 100 i q (.inr (1, [.ref l1, .ref l3, .ref l5, .null, .ref l7, .ref l8, .int 0, .int 0, .int 0, .int 0, .int 0, .int 0, .int 0, .int 0, .int 0]))) 107 i l7 = some (.inr (3, [])) := ((g_oj (by decide)).trans hc_l7)
  have hc_l8 : (gput P_13 100 i q (.inr (1, [.ref l1, .ref l3, .ref l5, .null, .ref l7, .ref l8, .int 0, .int 0, .int 0, .int 0, .int 0, .int 0, .int 0, .int 0, .int 0]))) 108 i l8 = some (.inl (g_t Γ 5, 16, .inr (.inr (.inl (fun _ => 0))))) := ((g_oj (by decide)).trans hc_l8)
  have hG : g_frR i ph (gput P_13 100 i q (.inr (1, [.ref l1, .ref l3, .ref l5, .null, .ref l7, .ref l8, .int 0, .int 0, .int 0, .int 0, .int 0, .int 0, .int 0, .int 0, .int 0]))) := hG.trans g_frR.put
  generalize gput P_13 100 i q (.inr (1, [.ref l1, .ref l3, .ref l5, .null, .ref l7, .ref l8, .int 0, .int 0, .int 0, .int 0, .int 0, .int 0, .int 0, .int 0, .int 0])) = P_14 at I hG hc_q hc_q6 hc_a0 hc_a1 hc_l1 hc_d1 hc_l3 hc_d3 hc_l5 hc_l7 hc_l8
  refine lv_aload_n hx hb dX2_init_2_59 rfl (lv_at hl 0 rfl) ?_
  refine lv_iconst (v := 3) hx hb dX2_init_2_60 (by decide) ?_
  refine g_put S hK I k_X2 (v := .int 3) hc_q 7 (by decide) q656 rfl rfl rfl rfl (Nat.le_of_ble_eq_true rfl) dX2_init_2_61 (fun H locs I => ?_)
  have I : g_I Γ (gput P_14 100 i q (.inr (1, [.ref l1, .ref l3, .ref l5, .null, .ref l7, .ref l8, .int 0, .int 3, .int 0, .int 0, .int 0, .int 0, .int 0, .int 0, .int 0]))) s _ _ := I
  have hc_q : (gput P_14 100 i q (.inr (1, [.ref l1, .ref l3, .ref l5, .null, .ref l7, .ref l8, .int 0, .int 3, .int 0, .int 0, .int 0, .int 0, .int 0, .int 0, .int 0]))) 100 i q = some (.inr (1, [.ref l1, .ref l3, .ref l5, .null, .ref l7, .ref l8, .int 0, .int 3, .int 0, .int 0, .int 0, .int 0, .int 0, .int 0, .int 0])) := (gput_self _ _ _ _ _)
  have hc_q6 : (gput P_14 100 i q (.inr (1, [.ref l1, .ref l3, .ref l5, .null, .ref l7, .ref l8, .int 0, .int 3, .int 0, .int 0, .int 0, .int 0, .int 0, .int 0, .int 0]))) 106 i q6 = some (.inr (20, [.ref a0, .ref a1])) := ((g_oj (by decide)).trans hc_q6)
  have hc_a0 : (gput P_14 100 i q (.inr (1, [.ref l1, .ref l3, .ref l5, .null, .ref l7, .ref l8, .int 0, .int 3, .int 0, .int 0, .int 0, .int 0, .int 0, .int 0, .int 0]))) 110 i a0 = some (clW w 0) := ((g_oj (by decide)).trans hc_a0)
  have hc_a1 : (gput P_14 100 i q (.inr (1, [.ref l1, .ref l3, .ref l5, .null, .ref l7, .ref l8, .int 0, .int 3, .int 0, .int 0, .int 0, .int 0, .int 0, .int 0, .int 0]))) 111 i a1 = some (clW w 1) := ((g_oj (by decide)).trans hc_a1)
  have hc_l1 : (gput P_14 100 i q (.inr (1, [.ref l1, .ref l3, .ref l5, .null, .ref l7, .ref l8, .int 0, .int 3, .int 0, .int 0, .int 0, .int 0, .int 0, .int 0, .int 0]))) 101 i l1 = some (.inr (21, [.int 0, .ref d1, .int 0])) := ((g_oj (by decide)).trans hc_l1)
  have hc_d1 : (gput P_14 100 i q (.inr (1, [.ref l1, .ref l3, .ref l5, .null, .ref l7, .ref l8, .int 0, .int 3, .int 0, .int 0, .int 0, .int 0, .int 0, .int 0, .int 0]))) 102 i d1 = some (.inl (g_t Γ 7, 20, .inr (.inr (.inr (.inr (fun _ => none)))))) := ((g_oj (by decide)).trans hc_d1)
  have hc_l3 : (gput P_14 100 i q (.inr (1, [.ref l1, .ref l3, .ref l5, .null, .ref l7, .ref l8, .int 0, .int 3, .int 0, .int 0, .int 0, .int 0, .int 0, .int 0, .int 0]))) 103 i l3 = some (.inr (21, [.int 0, .ref d3, .int 0])) := ((g_oj (by decide)).trans hc_l3)
  have hc_d3 : (gput P_14 100 i q (.inr (1, [.ref l1, .ref l3, .ref l5, .null, .ref l7, .ref l8, .int 0, .int 3, .int 0, .int 0, .int 0, .int 0, .int 0, .int 0, .int 0]))) 104 i d3 = some (.inl (g_t Γ 7, 4, .inr (.inr (.inr (.inr (fun _ => none)))))) := ((g_oj (by decide)).trans hc_d3)
  have hc_l5 : (gput P_14 100 i q (.inr (1, [.ref l1, .ref l3, .ref l5, .null, .ref l7, .ref l8, .int 0, .int 3, .int 0, .int 0, .int 0, .int 0, .int 0, .int 0, .int 0]))) 105 i l5 = some (.inr (24, [.int 0, .int 0, .null, .null])) := ((g_oj (by decide)).trans hc_l5)
  have hc_l7 : (gput P_14 100 i q (.inr (1, [.ref l1, .ref l3, .ref l5, .null, .ref l7, .ref l8, .int 0, .int 3, .int 0, .int 0, .int 0, .int 0, .int 0, .int 0, .int 0]))) 107 i l7 = some (.inr (3, [])) := ((g_oj (by decide)).trans hc_l7)
  have hc_l8 : (gput P_14 100 i q (.inr (1, [.ref l1, .ref l3, .ref l5, .null, .ref l7, .ref l8, .int 0, .int 3, .int 0, .int 0, .int 0, .int 0, .int 0, .int 0, .int 0]))) 108 i l8 = some (.inl (g_t Γ 5, 16, .inr (.inr (.inl (fun _ => 0))))) := ((g_oj (by decide)).trans hc_l8)
  have hG : g_frR i ph (gput P_14 100 i q (.inr (1, [.ref l1, .ref l3, .ref l5, .null, .ref l7, .ref l8, .int 0, .int 3, .int 0, .int 0, .int 0, .int 0, .int 0, .int 0, .int 0]))) := hG.trans g_frR.put
  generalize gput P_14 100 i q (.inr (1, [.ref l1, .ref l3, .ref l5, .null, .ref l7, .ref l8, .int 0, .int 3, .int 0, .int 0, .int 0, .int 0, .int 0, .int 0, .int 0])) = P_15 at I hG hc_q hc_q6 hc_a0 hc_a1 hc_l1 hc_d1 hc_l3 hc_d3 hc_l5 hc_l7 hc_l8
  refine lv_aload_n hx hb dX2_init_2_64 rfl (lv_at hl 0 rfl) ?_
  refine lv_bipush (v := 21) hx hb dX2_init_2_65 (by decide) ?_
  refine g_put S hK I k_X2 (v := .int 21) hc_q 8 (by decide) q658 rfl rfl rfl rfl (Nat.le_of_ble_eq_true rfl) dX2_init_2_67 (fun H locs I => ?_)
  have I : g_I Γ (gput P_15 100 i q (.inr (1, [.ref l1, .ref l3, .ref l5, .null, .ref l7, .ref l8, .int 0, .int 3, .int 21, .int 0, .int 0, .int 0, .int 0, .int 0, .int 0]))) s _ _ := I
  have hc_q : (gput P_15 100 i q (.inr (1, [.ref l1, .ref l3, .ref l5, .null, .ref l7, .ref l8, .int 0, .int 3, .int 21, .int 0, .int 0, .int 0, .int 0, .int 0, .int 0]))) 100 i q = some (.inr (1, [.ref l1, .ref l3, .ref l5, .null, .ref l7, .ref l8, .int 0, .int 3, .int 21, .int 0, .int 0, .int 0, .int 0, .int 0, .int 0])) := (gput_self _ _ _ _ _)
  have hc_q6 : (gput P_15 100 i q (.inr (1, [.ref l1, .ref l3, .ref l5, .null, .ref l7, .ref l8, .int 0, .int 3, .int 21, .int 0, .int 0, .int 0, .int 0, .int 0, .int 0]))) 106 i q6 = some (.inr (20, [.ref a0, .ref a1])) := ((g_oj (by decide)).trans hc_q6)
  have hc_a0 : (gput P_15 100 i q (.inr (1, [.ref l1, .ref l3, .ref l5, .null, .ref l7, .ref l8, .int 0, .int 3, .int 21, .int 0, .int 0, .int 0, .int 0, .int 0, .int 0]))) 110 i a0 = some (clW w 0) := ((g_oj (by decide)).trans hc_a0)
  have hc_a1 : (gput P_15 100 i q (.inr (1, [.ref l1, .ref l3, .ref l5, .null, .ref l7, .ref l8, .int 0, .int 3, .int 21, .int 0, .int 0, .int 0, .int 0, .int 0, .int 0]))) 111 i a1 = some (clW w 1) := ((g_oj (by decide)).trans hc_a1)
  have hc_l1 : (gput P_15 100 i q (.inr (1, [.ref l1, .ref l3, .ref l5, .null, .ref l7, .ref l8, .int 0, .int 3, .int 21, .int 0, .int 0, .int 0, .int 0, .int 0, .int 0]))) 101 i l1 = some (.inr (21, [.int 0, .ref d1, .int 0])) := ((g_oj (by decide)).trans hc_l1)
  have hc_d1 : (gput P_15 100 i q (.inr (1, [.ref l1, .ref l3, .ref l5, .null, .ref l7, .ref l8, .int 0, .int 3, .int 21, .int 0, .int 0, .int 0, .int 0, .int 0, .int 0]))) 102 i d1 = some (.inl (g_t Γ 7, 20, .inr (.inr (.inr (.inr (fun _ => none)))))) := ((g_oj (by decide)).trans hc_d1)
  have hc_l3 : (gput P_15 100 i q (.inr (1, [.ref l1, .ref l3, .ref l5, .null, .ref l7, .ref l8, .int 0, .int 3, .int 21, .int 0, .int 0, .int 0, .int 0, .int 0, .int 0]))) 103 i l3 = some (.inr (21, [.int 0, .ref d3, .int 0])) := ((g_oj (by decide)).trans hc_l3)
  have hc_d3 : (gput P_15 100 i q (.inr (1, [.ref l1, .ref l3, .ref l5, .null, .ref l7, .ref l8, .int 0, .int 3, .int 21, .int 0, .int 0, .int 0, .int 0, .int 0, .int 0]))) 104 i d3 = some (.inl (g_t Γ 7, 4, .inr (.inr (.inr (.inr (fun _ => none)))))) := ((g_oj (by decide)).trans hc_d3)
  have hc_l5 : (gput P_15 100 i q (.inr (1, [.ref l1, .ref l3, .ref l5, .null, .ref l7, .ref l8, .int 0, .int 3, .int 21, .int 0, .int 0, .int 0, .int 0, .int 0, .int 0]))) 105 i l5 = some (.inr (24, [.int 0, .int 0, .null, .null])) := ((g_oj (by decide)).trans hc_l5)
  have hc_l7 : (gput P_15 100 i q (.inr (1, [.ref l1, .ref l3, .ref l5, .null, .ref l7, .ref l8, .int 0, .int 3, .int 21, .int 0, .int 0, .int 0, .int 0, .int 0, .int 0]))) 107 i l7 = some (.inr (3, [])) := ((g_oj (by decide)).trans hc_l7)
  have hc_l8 : (gput P_15 100 i q (.inr (1, [.ref l1, .ref l3, .ref l5, .null, .ref l7, .ref l8, .int 0, .int 3, .int 21, .int 0, .int 0, .int 0, .int 0, .int 0, .int 0]))) 108 i l8 = some (.inl (g_t Γ 5, 16, .inr (.inr (.inl (fun _ => 0))))) := ((g_oj (by decide)).trans hc_l8)
  have hG : g_frR i ph (gput P_15 100 i q (.inr (1, [.ref l1, .ref l3, .ref l5, .null, .ref l7, .ref l8, .int 0, .int 3, .int 21, .int 0, .int 0, .int 0, .int 0, .int 0, .int 0]))) := hG.trans g_frR.put
  generalize gput P_15 100 i q (.inr (1, [.ref l1, .ref l3, .ref l5, .null, .ref l7, .ref l8, .int 0, .int 3, .int 21, .int 0, .int 0, .int 0, .int 0, .int 0, .int 0])) = P_16 at I hG hc_q hc_q6 hc_a0 hc_a1 hc_l1 hc_d1 hc_l3 hc_d3 hc_l5 hc_l7 hc_l8
  refine lv_aload_n hx hb dX2_init_2_70 rfl (lv_at hl 0 rfl) ?_
  refine lv_bipush (v := 30) hx hb dX2_init_2_71 (by decide) ?_
  refine g_put S hK I k_X2 (v := .int 30) hc_q 9 (by decide) q660 rfl rfl rfl rfl (Nat.le_of_ble_eq_true rfl) dX2_init_2_73 (fun H locs I => ?_)
  have I : g_I Γ (gput P_16 100 i q (.inr (1, [.ref l1, .ref l3, .ref l5, .null, .ref l7, .ref l8, .int 0, .int 3, .int 21, .int 30, .int 0, .int 0, .int 0, .int 0, .int 0]))) s _ _ := I
  have hc_q : (gput P_16 100 i q (.inr (1, [.ref l1, .ref l3, .ref l5, .null, .ref l7, .ref l8, .int 0, .int 3, .int 21, .int 30, .int 0, .int 0, .int 0, .int 0, .int 0]))) 100 i q = some (.inr (1, [.ref l1, .ref l3, .ref l5, .null, .ref l7, .ref l8, .int 0, .int 3, .int 21, .int 30, .int 0, .int 0, .int 0, .int 0, .int 0])) := (gput_self _ _ _ _ _)
  have hc_q6 : (gput P_16 100 i q (.inr (1, [.ref l1, .ref l3, .ref l5, .null, .ref l7, .ref l8, .int 0, .int 3, .int 21, .int 30, .int 0, .int 0, .int 0, .int 0, .int 0]))) 106 i q6 = some (.inr (20, [.ref a0, .ref a1])) := ((g_oj (by decide)).trans hc_q6)
  have hc_a0 : (gput P_16 100 i q (.inr (1, [.ref l1, .ref l3, .ref l5, .null, .ref l7, .ref l8, .int 0, .int 3, .int 21, .int 30, .int 0, .int 0, .int 0, .int 0, .int 0]))) 110 i a0 = some (clW w 0) := ((g_oj (by decide)).trans hc_a0)
  have hc_a1 : (gput P_16 100 i q (.inr (1, [.ref l1, .ref l3, .ref l5, .null, .ref l7, .ref l8, .int 0, .int 3, .int 21, .int 30, .int 0, .int 0, .int 0, .int 0, .int 0]))) 111 i a1 = some (clW w 1) := ((g_oj (by decide)).trans hc_a1)
  have hc_l1 : (gput P_16 100 i q (.inr (1, [.ref l1, .ref l3, .ref l5, .null, .ref l7, .ref l8, .int 0, .int 3, .int 21, .int 30, .int 0, .int 0, .int 0, .int 0, .int 0]))) 101 i l1 = some (.inr (21, [.int 0, .ref d1, .int 0])) := ((g_oj (by decide)).trans hc_l1)
  have hc_d1 : (gput P_16 100 i q (.inr (1, [.ref l1, .ref l3, .ref l5, .null, .ref l7, .ref l8, .int 0, .int 3, .int 21, .int 30, .int 0, .int 0, .int 0, .int 0, .int 0]))) 102 i d1 = some (.inl (g_t Γ 7, 20, .inr (.inr (.inr (.inr (fun _ => none)))))) := ((g_oj (by decide)).trans hc_d1)
  have hc_l3 : (gput P_16 100 i q (.inr (1, [.ref l1, .ref l3, .ref l5, .null, .ref l7, .ref l8, .int 0, .int 3, .int 21, .int 30, .int 0, .int 0, .int 0, .int 0, .int 0]))) 103 i l3 = some (.inr (21, [.int 0, .ref d3, .int 0])) := ((g_oj (by decide)).trans hc_l3)
  have hc_d3 : (gput P_16 100 i q (.inr (1, [.ref l1, .ref l3, .ref l5, .null, .ref l7, .ref l8, .int 0, .int 3, .int 21, .int 30, .int 0, .int 0, .int 0, .int 0, .int 0]))) 104 i d3 = some (.inl (g_t Γ 7, 4, .inr (.inr (.inr (.inr (fun _ => none)))))) := ((g_oj (by decide)).trans hc_d3)
  have hc_l5 : (gput P_16 100 i q (.inr (1, [.ref l1, .ref l3, .ref l5, .null, .ref l7, .ref l8, .int 0, .int 3, .int 21, .int 30, .int 0, .int 0, .int 0, .int 0, .int 0]))) 105 i l5 = some (.inr (24, [.int 0, .int 0, .null, .null])) := ((g_oj (by decide)).trans hc_l5)
  have hc_l7 : (gput P_16 100 i q (.inr (1, [.ref l1, .ref l3, .ref l5, .null, .ref l7, .ref l8, .int 0, .int 3, .int 21, .int 30, .int 0, .int 0, .int 0, .int 0, .int 0]))) 107 i l7 = some (.inr (3, [])) := ((g_oj (by decide)).trans hc_l7)
  have hc_l8 : (gput P_16 100 i q (.inr (1, [.ref l1, .ref l3, .ref l5, .null, .ref l7, .ref l8, .int 0, .int 3, .int 21, .int 30, .int 0, .int 0, .int 0, .int 0, .int 0]))) 108 i l8 = some (.inl (g_t Γ 5, 16, .inr (.inr (.inl (fun _ => 0))))) := ((g_oj (by decide)).trans hc_l8)
  have hG : g_frR i ph (gput P_16 100 i q (.inr (1, [.ref l1, .ref l3, .ref l5, .null, .ref l7, .ref l8, .int 0, .int 3, .int 21, .int 30, .int 0, .int 0, .int 0, .int 0, .int 0]))) := hG.trans g_frR.put
  generalize gput P_16 100 i q (.inr (1, [.ref l1, .ref l3, .ref l5, .null, .ref l7, .ref l8, .int 0, .int 3, .int 21, .int 30, .int 0, .int 0, .int 0, .int 0, .int 0])) = P_17 at I hG hc_q hc_q6 hc_a0 hc_a1 hc_l1 hc_d1 hc_l3 hc_d3 hc_l5 hc_l7 hc_l8
  refine lv_aload_n hx hb dX2_init_2_76 rfl (lv_at hl 0 rfl) ?_
  refine lv_aload_n hx hb dX2_init_2_77 rfl (lv_at hl 1 rfl) ?_
  refine g_putF S hK I k_X2 (v := .ref q6) hc_q 3 (by decide) q650 rfl rfl hnm rfl rfl (Nat.le_of_ble_eq_true rfl) dX2_init_2_78 (fun H locs I => ?_)
  have I : g_I Γ (gput P_17 100 i q (.inr (1, [.ref l1, .ref l3, .ref l5, .ref q6, .ref l7, .ref l8, .int 0, .int 3, .int 21, .int 30, .int 0, .int 0, .int 0, .int 0, .int 0]))) s _ _ := I
  have hc_q : (gput P_17 100 i q (.inr (1, [.ref l1, .ref l3, .ref l5, .ref q6, .ref l7, .ref l8, .int 0, .int 3, .int 21, .int 30, .int 0, .int 0, .int 0, .int 0, .int 0]))) 100 i q = some (.inr (1, [.ref l1, .ref l3, .ref l5, .ref q6, .ref l7, .ref l8, .int 0, .int 3, .int 21, .int 30, .int 0, .int 0, .int 0, .int 0, .int 0])) := (gput_self _ _ _ _ _)
  have hc_q6 : (gput P_17 100 i q (.inr (1, [.ref l1, .ref l3, .ref l5, .ref q6, .ref l7, .ref l8, .int 0, .int 3, .int 21, .int 30, .int 0, .int 0, .int 0, .int 0, .int 0]))) 106 i q6 = some (.inr (20, [.ref a0, .ref a1])) := ((g_oj (by decide)).trans hc_q6)
  have hc_a0 : (gput P_17 100 i q (.inr (1, [.ref l1, .ref l3, .ref l5, .ref q6, .ref l7, .ref l8, .int 0, .int 3, .int 21, .int 30, .int 0, .int 0, .int 0, .int 0, .int 0]))) 110 i a0 = some (clW w 0) := ((g_oj (by decide)).trans hc_a0)
  have hc_a1 : (gput P_17 100 i q (.inr (1, [.ref l1, .ref l3, .ref l5, .ref q6, .ref l7, .ref l8, .int 0, .int 3, .int 21, .int 30, .int 0, .int 0, .int 0, .int 0, .int 0]))) 111 i a1 = some (clW w 1) := ((g_oj (by decide)).trans hc_a1)
  have hc_l1 : (gput P_17 100 i q (.inr (1, [.ref l1, .ref l3, .ref l5, .ref q6, .ref l7, .ref l8, .int 0, .int 3, .int 21, .int 30, .int 0, .int 0, .int 0, .int 0, .int 0]))) 101 i l1 = some (.inr (21, [.int 0, .ref d1, .int 0])) := ((g_oj (by decide)).trans hc_l1)
  have hc_d1 : (gput P_17 100 i q (.inr (1, [.ref l1, .ref l3, .ref l5, .ref q6, .ref l7, .ref l8, .int 0, .int 3, .int 21, .int 30, .int 0, .int 0, .int 0, .int 0, .int 0]))) 102 i d1 = some (.inl (g_t Γ 7, 20, .inr (.inr (.inr (.inr (fun _ => none)))))) := ((g_oj (by decide)).trans hc_d1)
  have hc_l3 : (gput P_17 100 i q (.inr (1, [.ref l1, .ref l3, .ref l5, .ref q6, .ref l7, .ref l8, .int 0, .int 3, .int 21, .int 30, .int 0, .int 0, .int 0, .int 0, .int 0]))) 103 i l3 = some (.inr (21, [.int 0, .ref d3, .int 0])) := ((g_oj (by decide)).trans hc_l3)
  have hc_d3 : (gput P_17 100 i q (.inr (1, [.ref l1, .ref l3, .ref l5, .ref q6, .ref l7, .ref l8, .int 0, .int 3, .int 21, .int 30, .int 0, .int 0, .int 0, .int 0, .int 0]))) 104 i d3 = some (.inl (g_t Γ 7, 4, .inr (.inr (.inr (.inr (fun _ => none)))))) := ((g_oj (by decide)).trans hc_d3)
  have hc_l5 : (gput P_17 100 i q (.inr (1, [.ref l1, .ref l3, .ref l5, .ref q6, .ref l7, .ref l8, .int 0, .int 3, .int 21, .int 30, .int 0, .int 0, .int 0, .int 0, .int 0]))) 105 i l5 = some (.inr (24, [.int 0, .int 0, .null, .null])) := ((g_oj (by decide)).trans hc_l5)
  have hc_l7 : (gput P_17 100 i q (.inr (1, [.ref l1, .ref l3, .ref l5, .ref q6, .ref l7, .ref l8, .int 0, .int 3, .int 21, .int 30, .int 0, .int 0, .int 0, .int 0, .int 0]))) 107 i l7 = some (.inr (3, [])) := ((g_oj (by decide)).trans hc_l7)
  have hc_l8 : (gput P_17 100 i q (.inr (1, [.ref l1, .ref l3, .ref l5, .ref q6, .ref l7, .ref l8, .int 0, .int 3, .int 21, .int 30, .int 0, .int 0, .int 0, .int 0, .int 0]))) 108 i l8 = some (.inl (g_t Γ 5, 16, .inr (.inr (.inl (fun _ => 0))))) := ((g_oj (by decide)).trans hc_l8)
  have hG : g_frR i ph (gput P_17 100 i q (.inr (1, [.ref l1, .ref l3, .ref l5, .ref q6, .ref l7, .ref l8, .int 0, .int 3, .int 21, .int 30, .int 0, .int 0, .int 0, .int 0, .int 0]))) := hG.trans g_frR.put
  generalize gput P_17 100 i q (.inr (1, [.ref l1, .ref l3, .ref l5, .ref q6, .ref l7, .ref l8, .int 0, .int 3, .int 21, .int 30, .int 0, .int 0, .int 0, .int 0, .int 0])) = P_18 at I hG hc_q hc_q6 hc_a0 hc_a1 hc_l1 hc_d1 hc_l3 hc_d3 hc_l5 hc_l7 hc_l8
  exact g_vret S hr hlk I dX2_init_2_81 (Nat.le_of_ble_eq_true rfl) (Nat.le_of_ble_eq_true rfl) hQ ⟨rfl, (by obtain ⟨ad, na, mc, e1, e2⟩ := g_Wl.make (w := w) hi hc_q hc_l1 hc_d1 hc_l3 hc_d3 hc_l5 hc_q6 hc_l7 hc_l8 hc_a0 hc_a1; exact ⟨ad, na, mc, e1, e2, hG⟩)⟩

set_option maxHeartbeats 4000000 in
set_option maxRecDepth 100000 in
theorem met_X2_init (l : Launch) (Γ : g_C) (ph : g_H) (i q : Nat) (w : m_w)   (hi : i ≠ 0) (hq : ph 100 i q = some (.inr (1, [.null, .null, .null, .null, .null, .null, .int 0, .int 0, .int 0, .int 0, .int 0, .int 0, .int 0, .int 0, .int 0]))) (hcw : ∀ c, c < 2 → clW w c = clE c (-1) 0 20) : g_Met l yX2_init (ws_ yX2_init cX2_init 1 none) (g_rm 6 10 60) Γ [.ref q] (ph) (g_ov (fun ph' => ∃ ad na mc, ad 0 = q ∧ g_Wl Γ ph' i ad na mc (v0W w) ∧ g_frR i ph ph')) g_no := by
  refine g_start (y := yX2_init) (cc := cX2_init) (maxL := 1) (ret := none) (rm := g_rm 6 10 60) (by decide) (Nat.le_of_ble_eq_true rfl) ?_
  intro p e s m A below meth c ls Q hQ S hr hlk hex hnm hK I hl
  have hx := S.1
  have hb := S.2.1
  have hown := S.2.2.2.1
  have hts := S.2.2.2.2
  have S : CallFix p m c cX2_init 1 s A lw_all "CrumblingWall$Wall" := S
  have hl : lv_has ls 1 [(0, .ref q)] := hl
  have hG : g_frR i ph ph := g_frR.refl i ph
  refine lv_aload_n hx hb dX2_init_0 rfl (lv_at hl 0 rfl) ?_
  refine g_new S hK I 110 i k_X3 q204 q205 q122 (fs := [.int 0, .int 0, .int 0, .int 0]) (by decide) (Nat.le_of_ble_eq_true rfl) (Nat.le_of_ble_eq_true rfl) dX2_init_1 (fun a0 H hfa0 I => ?_)
  have I : g_I Γ (gput ph 110 i a0 (.inr (2, [.int 0, .int 0, .int 0, .int 0]))) s _ _ := I
  have hc_q : (gput ph 110 i a0 (.inr (2, [.int 0, .int 0, .int 0, .int 0]))) 100 i q = some (.inr (1, [.null, .null, .null, .null, .null, .null, .int 0, .int 0, .int 0, .int 0, .int 0, .int 0, .int 0, .int 0, .int 0])) := ((g_oj (by decide)).trans hq)
  have hc_a0 : (gput ph 110 i a0 (.inr (2, [.int 0, .int 0, .int 0, .int 0]))) 110 i a0 = some (.inr (2, [.int 0, .int 0, .int 0, .int 0])) := (gput_self _ _ _ _ _)
  have hG : g_frR i ph (gput ph 110 i a0 (.inr (2, [.int 0, .int 0, .int 0, .int 0]))) := hG.trans g_frR.put
  generalize gput ph 110 i a0 (.inr (2, [.int 0, .int 0, .int 0, .int 0])) = P_1 at I hG hc_q hc_a0
  refine lv_dup hx hb dX2_init_4 rfl ?_
  refine lv_iconst (v := 0) hx hb dX2_init_5 (by decide) ?_
  refine g_cv (g_runI S hK I (As := [.int 0]) (rest := [.ref a0, .ref q]) (met_X3_init l Γ P_1 110 i a0 0 hc_a0) (cwI 1 hts (lw_meth q208) rfl rfl rfl (hts _ q122) (hts _ q206) (hts _ q207) rfl (by decide +kernel) ⟨Nat.le_of_ble_eq_true rfl, Nat.le_of_ble_eq_true rfl⟩) rfl hl.1 rfl (Nat.le_of_ble_eq_true rfl) dX2_init_6 ⟨by dsimp only [g_rm]; omega, by dsimp only [g_rm]; omega⟩) I (fun ph1 H locs hp I => ?_)
  obtain ⟨hn1, hg9⟩ := hp
  have hc_q : ph1 100 i q = some (.inr (1, [.null, .null, .null, .null, .null, .null, .int 0, .int 0, .int 0, .int 0, .int 0, .int 0, .int 0, .int 0, .int 0])) := by rw [hg9 100 i (by simp)]; exact hc_q
  have hc_a0 : ph1 110 i a0 = some (.inr (2, [.int 0, .int (-1), .int 0, .int 20])) := hn1
  have hG : g_frR i ph ph1 := hG.trans (g_frR.of hg9 (by simp))
  generalize ph1 = P_2 at I hG hc_q hc_a0
  refine g_new S hK I 111 i k_X3 q204 q205 q122 (fs := [.int 0, .int 0, .int 0, .int 0]) (by decide) (Nat.le_of_ble_eq_true rfl) (Nat.le_of_ble_eq_true rfl) dX2_init_9 (fun a1 H hfa1 I => ?_)
  have I : g_I Γ (gput P_2 111 i a1 (.inr (2, [.int 0, .int 0, .int 0, .int 0]))) s _ _ := I
  have hc_q : (gput P_2 111 i a1 (.inr (2, [.int 0, .int 0, .int 0, .int 0]))) 100 i q = some (.inr (1, [.null, .null, .null, .null, .null, .null, .int 0, .int 0, .int 0, .int 0, .int 0, .int 0, .int 0, .int 0, .int 0])) := ((g_oj (by decide)).trans hc_q)
  have hc_a0 : (gput P_2 111 i a1 (.inr (2, [.int 0, .int 0, .int 0, .int 0]))) 110 i a0 = some (.inr (2, [.int 0, .int (-1), .int 0, .int 20])) := ((g_oj (by decide)).trans hc_a0)
  have hc_a1 : (gput P_2 111 i a1 (.inr (2, [.int 0, .int 0, .int 0, .int 0]))) 111 i a1 = some (.inr (2, [.int 0, .int 0, .int 0, .int 0])) := (gput_self _ _ _ _ _)
  have hG : g_frR i ph (gput P_2 111 i a1 (.inr (2, [.int 0, .int 0, .int 0, .int 0]))) := hG.trans g_frR.put
  generalize gput P_2 111 i a1 (.inr (2, [.int 0, .int 0, .int 0, .int 0])) = P_3 at I hG hc_q hc_a0 hc_a1
  refine lv_dup hx hb dX2_init_12 rfl ?_
  refine lv_iconst (v := 1) hx hb dX2_init_13 (by decide) ?_
  refine g_cv (g_runI S hK I (As := [.int 1]) (rest := [.ref a1, .ref a0, .ref q]) (met_X3_init l Γ P_3 111 i a1 1 hc_a1) (cwI 1 hts (lw_meth q208) rfl rfl rfl (hts _ q122) (hts _ q206) (hts _ q207) rfl (by decide +kernel) ⟨Nat.le_of_ble_eq_true rfl, Nat.le_of_ble_eq_true rfl⟩) rfl hl.1 rfl (Nat.le_of_ble_eq_true rfl) dX2_init_14 ⟨by dsimp only [g_rm]; omega, by dsimp only [g_rm]; omega⟩) I (fun ph1 H locs hp I => ?_)
  obtain ⟨hn1, hg9⟩ := hp
  have hc_q : ph1 100 i q = some (.inr (1, [.null, .null, .null, .null, .null, .null, .int 0, .int 0, .int 0, .int 0, .int 0, .int 0, .int 0, .int 0, .int 0])) := by rw [hg9 100 i (by simp)]; exact hc_q
  have hc_a0 : ph1 110 i a0 = some (.inr (2, [.int 0, .int (-1), .int 0, .int 20])) := by rw [hg9 110 i (by simp)]; exact hc_a0
  have hc_a1 : ph1 111 i a1 = some (.inr (2, [.int 1, .int (-1), .int 0, .int 20])) := hn1
  have hG : g_frR i ph ph1 := hG.trans (g_frR.of hg9 (by simp))
  generalize ph1 = P_4 at I hG hc_q hc_a0 hc_a1
  refine g_cr (g_runS S hK I (As := [.ref a0, .ref a1]) (rest := [.ref q]) (met_J0_of l Γ P_4 106 i a0 a1) (va_cwS 2 hts (lw_S q229 q230 q123 q231) rfl rfl rfl (by decide +kernel) ⟨Nat.le_of_ble_eq_true rfl, Nat.le_of_ble_eq_true rfl⟩) rfl hl.1 rfl (Nat.le_of_ble_eq_true rfl) dX2_init_17 ⟨by dsimp only [g_rm]; omega, by dsimp only [g_rm]; omega⟩) I (fun q6 ph1 H locs hp I => ?_)
  obtain ⟨hn1, hg9⟩ := hp
  have hc_q : ph1 100 i q = some (.inr (1, [.null, .null, .null, .null, .null, .null, .int 0, .int 0, .int 0, .int 0, .int 0, .int 0, .int 0, .int 0, .int 0])) := by rw [hg9 100 i (by simp)]; exact hc_q
  have hc_a0 : ph1 110 i a0 = some (.inr (2, [.int 0, .int (-1), .int 0, .int 20])) := by rw [hg9 110 i (by simp)]; exact hc_a0
  have hc_a1 : ph1 111 i a1 = some (.inr (2, [.int 1, .int (-1), .int 0, .int 20])) := by rw [hg9 111 i (by simp)]; exact hc_a1
  have hc_q6 : ph1 106 i q6 = some (.inr (20, [.ref a0, .ref a1])) := hn1
  have hG : g_frR i ph ph1 := hG.trans (g_frR.of hg9 (by simp))
  generalize ph1 = P_5 at I hG hc_q hc_a0 hc_a1 hc_q6
  refine g_cv (g_runI S hK I (As := [.ref q6]) (rest := []) (met_X2_init_2 l Γ P_5 i q q6 a0 a1 w hi hc_q hc_q6 (by rw [hcw 0 (by decide)]; exact hc_a0) (by rw [hcw 1 (by decide)]; exact hc_a1)) (cwI 1 hts (lw_meth q259) rfl rfl rfl (hts _ q121) (hts _ q257) (hts _ q258) rfl (by decide +kernel) ⟨Nat.le_of_ble_eq_true rfl, Nat.le_of_ble_eq_true rfl⟩) rfl hl.1 rfl (Nat.le_of_ble_eq_true rfl) dX2_init_20 ⟨by dsimp only [g_rm]; omega, by dsimp only [g_rm]; omega⟩) I (fun ph1 H locs hp I => ?_)
  obtain ⟨ad, na, mc, e1, e2, e3⟩ := hp
  exact g_vret S hr hlk I dX2_init_23 (Nat.le_of_ble_eq_true rfl) (Nat.le_of_ble_eq_true rfl) hQ ⟨rfl, ⟨ad, na, mc, e1, e2, hG.trans e3⟩⟩


/-! THE JDK: LinkedList, changes -/
set_option maxRecDepth 100000
set_option maxHeartbeats 4000000 in
set_option maxRecDepth 100000 in
theorem met_J24_linkLast_0 (l : Launch) (Γ : g_C) (ph : g_H) (j i q jn v : Nat) (na it : Nat → Nat) (mc : Int32)   (hj : j ≠ jn) (hL : g_LL ph j i q jn 0 na it mc) : g_Met l yJ24_linkLast (ws_ yJ24_linkLast cJ24_linkLast 4 none) (g_rm 2 1 3) Γ [.ref q, .ref v] (ph) (g_ov (fun ph' => ∃ q', (∀ j i, ph j i q' = none) ∧ g_LL ph' j i q jn (0 + 1) (va_up na 0 q') (va_up it 0 v) (mc + 1) ∧ g_fr [(j, i), (jn, i)] ph ph')) g_no := by
  refine g_start (y := yJ24_linkLast) (cc := cJ24_linkLast) (maxL := 4) (ret := none) (rm := g_rm 2 1 3) (by decide) (Nat.le_of_ble_eq_true rfl) ?_
  intro p e s m A below meth c ls Q hQ S hr hlk hex hnm hK I hl
  have hx := S.1
  have hb := S.2.1
  have hown := S.2.2.2.1
  have hts := S.2.2.2.2
  have S : CallFix p m c cJ24_linkLast 4 s A lw_all "java/util/LinkedList" := S
  have hl : lv_has ls 4 [(0, .ref q), (1, .ref v)] := hl
  have hq : ph j i q = some (.inr (24, [.int mc, .int (nI 0), .null, .null])) := hL.1
  refine lv_aload_n hx hb dJ24_linkLast_0 rfl (lv_at hl 0 rfl) ?_
  refine g_get S hK I k_J24 (v := .null) (g_at.of hq) 3 (by decide) q626 rfl rfl dJ24_linkLast_1 ?_
  refine lv_astore_nN (lv' := [(2, .null), (0, .ref q), (1, .ref v)]) hx hb dJ24_linkLast_4 rfl hl (by decide) rfl (fun ls hl => ?_)
  refine g_new S hK I jn i k_J34 q1603 q1604 q169 (fs := [.null, .null, .null]) (by decide) (Nat.le_of_ble_eq_true rfl) (Nat.le_of_ble_eq_true rfl) dJ24_linkLast_5 (fun q5 H hf I => ?_)
  have I : g_I Γ (gput ph jn i q5 (.inr (27, [.null, .null, .null]))) s _ _ := I
  refine lv_dup hx hb dJ24_linkLast_8 rfl ?_
  refine lv_aload_nN hx hb dJ24_linkLast_9 rfl (lv_at hl 0 rfl) ?_
  refine lv_aload_n hx hb dJ24_linkLast_10 rfl (lv_at hl 2 rfl) ?_
  refine lv_null hx hb dJ24_linkLast_11 ?_
  refine g_cv (g_runI S hK I (As := [.null, .ref v, .null]) (rest := [.ref q5]) (met_J34_init_0 l Γ (gput ph jn i q5 (.inr (27, [.null, .null, .null]))) jn i q5 .null .null .null v (gput_self _ _ _ _ _)) (cwI 3 hts (lw_meth q1607) rfl rfl rfl (hts _ q169) (hts _ q1605) (hts _ q1606) rfl (by decide +kernel) ⟨Nat.le_of_ble_eq_true rfl, Nat.le_of_ble_eq_true rfl⟩) rfl hl.1 rfl (Nat.le_of_ble_eq_true rfl) dJ24_linkLast_12 ⟨Nat.le_of_ble_eq_true rfl, Nat.le_of_ble_eq_true rfl⟩) I (fun ph1 H locs hp I => ?_)
  rw [hp] at I
  have I : g_I Γ (gput (gput (gput (gput ph jn i q5 (.inr (27, [.null, .null, .null]))) jn i q5 (.inr (27, [.ref v, .null, .null]))) jn i q5 (.inr (27, [.ref v, .null, .null]))) jn i q5 (.inr (27, [.ref v, .null, .null]))) s _ _ := I
  refine lv_astore_n (lv' := [(3, .ref q5), (2, .null), (0, .ref q), (1, .ref v)]) hx hb dJ24_linkLast_15 rfl hl (by decide) rfl (fun ls hl => ?_)
  refine lv_aload_n hx hb dJ24_linkLast_16 rfl (lv_at hl 2 rfl) ?_
  refine lv_aload_n hx hb dJ24_linkLast_17 rfl (lv_at hl 0 rfl) ?_
  refine g_put S hK I k_J24 (v := .ref q5) ((g_oj hj).trans ((g_oj hj).trans ((g_oj hj).trans ((g_oj hj).trans hq)))) 3 (by decide) q626 rfl rfl rfl rfl (Nat.le_of_ble_eq_true rfl) dJ24_linkLast_18 (fun H locs I => ?_)
  have I : g_I Γ (gput (gput (gput (gput (gput ph jn i q5 (.inr (27, [.null, .null, .null]))) jn i q5 (.inr (27, [.ref v, .null, .null]))) jn i q5 (.inr (27, [.ref v, .null, .null]))) jn i q5 (.inr (27, [.ref v, .null, .null]))) j i q (.inr (24, [.int mc, .int (nI 0), .null, .ref q5]))) s _ _ := I
  refine lv_aload_nN hx hb dJ24_linkLast_21 rfl (lv_at hl 1 rfl) ?_
  refine lv_ifnonnullN hx hb dJ24_linkLast_22 ?_
  refine lv_aload_n hx hb dJ24_linkLast_25 rfl (lv_at hl 2 rfl) ?_
  refine lv_aload_n hx hb dJ24_linkLast_26 rfl (lv_at hl 0 rfl) ?_
  refine g_put S hK I k_J24 (v := .ref q5) (gput_self _ _ _ _ _) 2 (by decide) q625 rfl rfl rfl rfl (Nat.le_of_ble_eq_true rfl) dJ24_linkLast_27 (fun H locs I => ?_)
  have I : g_I Γ (gput (gput (gput (gput (gput (gput ph jn i q5 (.inr (27, [.null, .null, .null]))) jn i q5 (.inr (27, [.ref v, .null, .null]))) jn i q5 (.inr (27, [.ref v, .null, .null]))) jn i q5 (.inr (27, [.ref v, .null, .null]))) j i q (.inr (24, [.int mc, .int (nI 0), .null, .ref q5]))) j i q (.inr (24, [.int mc, .int (nI 0), .ref q5, .ref q5]))) s _ _ := I
  refine lv_goto (tgt := 38) hx hb dJ24_linkLast_30 (by decide) ?_
  refine lv_aload_n hx hb dJ24_linkLast_38 rfl (lv_at hl 2 rfl) ?_
  refine lv_dup hx hb dJ24_linkLast_39 rfl ?_
  refine g_get S hK I k_J24 (v := .int (nI 0)) (g_at.of (gput_self _ _ _ _ _)) 1 (by decide) q623 rfl rfl dJ24_linkLast_40 ?_
  refine lv_iconst (v := 1) hx hb dJ24_linkLast_43 (by decide) ?_
  refine lv_iadd hx hb dJ24_linkLast_44 ?_
  refine g_put S hK I k_J24 (v := .int ((nI 0) + 1)) (gput_self _ _ _ _ _) 1 (by decide) q623 rfl rfl rfl rfl (Nat.le_of_ble_eq_true rfl) dJ24_linkLast_45 (fun H locs I => ?_)
  have I : g_I Γ (gput (gput (gput (gput (gput (gput (gput ph jn i q5 (.inr (27, [.null, .null, .null]))) jn i q5 (.inr (27, [.ref v, .null, .null]))) jn i q5 (.inr (27, [.ref v, .null, .null]))) jn i q5 (.inr (27, [.ref v, .null, .null]))) j i q (.inr (24, [.int mc, .int (nI 0), .null, .ref q5]))) j i q (.inr (24, [.int mc, .int (nI 0), .ref q5, .ref q5]))) j i q (.inr (24, [.int mc, .int ((nI 0) + 1), .ref q5, .ref q5]))) s _ _ := I
  refine lv_aload_n hx hb dJ24_linkLast_48 rfl (lv_at hl 2 rfl) ?_
  refine lv_dup hx hb dJ24_linkLast_49 rfl ?_
  refine g_getU S hK I k_J24 (v := .int mc) (g_at.of (gput_self _ _ _ _ _)) 0 (by decide) q605 q601 rfl dJ24_linkLast_50 ?_
  refine lv_iconst (v := 1) hx hb dJ24_linkLast_53 (by decide) ?_
  refine lv_iadd hx hb dJ24_linkLast_54 ?_
  refine g_putU S hK I k_J24 (v := .int (mc + 1)) (gput_self _ _ _ _ _) 0 (by decide) q605 q601 rfl rfl rfl (Nat.le_of_ble_eq_true rfl) dJ24_linkLast_55 (fun H locs I => ?_)
  have I : g_I Γ (gput (gput (gput (gput (gput (gput (gput (gput ph jn i q5 (.inr (27, [.null, .null, .null]))) jn i q5 (.inr (27, [.ref v, .null, .null]))) jn i q5 (.inr (27, [.ref v, .null, .null]))) jn i q5 (.inr (27, [.ref v, .null, .null]))) j i q (.inr (24, [.int mc, .int (nI 0), .null, .ref q5]))) j i q (.inr (24, [.int mc, .int (nI 0), .ref q5, .ref q5]))) j i q (.inr (24, [.int mc, .int ((nI 0) + 1), .ref q5, .ref q5]))) j i q (.inr (24, [.int (mc + 1), .int ((nI 0) + 1), .ref q5, .ref q5]))) s _ _ := I
  exact g_vret S hr hlk I dJ24_linkLast_58 (Nat.le_of_ble_eq_true rfl) (Nat.le_of_ble_eq_true rfl) hQ ⟨rfl, ⟨q5, hf, ll_add hL ((gput_self _ _ _ _ _)) (((g_oj (Ne.symm hj)).trans ((g_oj (Ne.symm hj)).trans ((g_oj (Ne.symm hj)).trans ((g_oj (Ne.symm hj)).trans (gput_self _ _ _ _ _)))))) (fun z => absurd z (Nat.lt_irrefl _)) (fun a9 h9 g9 => by simp [gput, gset, pput, h9, hj, Ne.symm hj]) (fun k hk z => by have := hL.2.1 k hk; rw [z, hf] at this; exact absurd this (by simp)), (g_fr.put (g_fr.put (g_fr.put (g_fr.put (g_fr.put (g_fr.put (g_fr.put (g_fr.put (g_fr.refl _ _) (by simp)) (by simp)) (by simp)) (by simp)) (by simp)) (by simp)) (by simp)) (by simp))⟩⟩

set_option maxHeartbeats 4000000 in
set_option maxRecDepth 100000 in
theorem met_J24_linkLast_1 (l : Launch) (Γ : g_C) (ph : g_H) (j i q jn v n0 : Nat) (na it : Nat → Nat) (mc : Int32)   (hj : j ≠ jn) (hL : g_LL ph j i q jn (n0 + 1) na it mc) : g_Met l yJ24_linkLast (ws_ yJ24_linkLast cJ24_linkLast 4 none) (g_rm 2 1 3) Γ [.ref q, .ref v] (ph) (g_ov (fun ph' => ∃ q', (∀ j i, ph j i q' = none) ∧ g_LL ph' j i q jn ((n0 + 1) + 1) (va_up na (n0 + 1) q') (va_up it (n0 + 1) v) (mc + 1) ∧ g_fr [(j, i), (jn, i)] ph ph')) g_no := by
  refine g_start (y := yJ24_linkLast) (cc := cJ24_linkLast) (maxL := 4) (ret := none) (rm := g_rm 2 1 3) (by decide) (Nat.le_of_ble_eq_true rfl) ?_
  intro p e s m A below meth c ls Q hQ S hr hlk hex hnm hK I hl
  have hx := S.1
  have hb := S.2.1
  have hown := S.2.2.2.1
  have hts := S.2.2.2.2
  have S : CallFix p m c cJ24_linkLast 4 s A lw_all "java/util/LinkedList" := S
  have hl : lv_has ls 4 [(0, .ref q), (1, .ref v)] := hl
  have hq : ph j i q = some (.inr (24, [.int mc, .int (nI (n0 + 1)), .ref (na 0), .ref (na n0)])) := hL.1
  have ht : ph jn i (na n0) = some (.inr (27, [.ref (it n0), .null, lkP n0 na])) := by have := hL.2.1 n0 (Nat.lt_succ_self _); unfold lkN at this; rw [if_neg (Nat.lt_irrefl _)] at this; exact this
  generalize htt : na n0 = t at hq ht
  refine lv_aload_n hx hb dJ24_linkLast_0 rfl (lv_at hl 0 rfl) ?_
  refine g_get S hK I k_J24 (v := .ref t) (g_at.of hq) 3 (by decide) q626 rfl rfl dJ24_linkLast_1 ?_
  refine lv_astore_n (lv' := [(2, .ref t), (0, .ref q), (1, .ref v)]) hx hb dJ24_linkLast_4 rfl hl (by decide) rfl (fun ls hl => ?_)
  refine g_new S hK I jn i k_J34 q1603 q1604 q169 (fs := [.null, .null, .null]) (by decide) (Nat.le_of_ble_eq_true rfl) (Nat.le_of_ble_eq_true rfl) dJ24_linkLast_5 (fun q5 H hf I => ?_)
  have I : g_I Γ (gput ph jn i q5 (.inr (27, [.null, .null, .null]))) s _ _ := I
  refine lv_dup hx hb dJ24_linkLast_8 rfl ?_
  refine lv_aload_n hx hb dJ24_linkLast_9 rfl (lv_at hl 0 rfl) ?_
  refine lv_aload_n hx hb dJ24_linkLast_10 rfl (lv_at hl 2 rfl) ?_
  refine lv_null hx hb dJ24_linkLast_11 ?_
  refine g_cv (g_runI S hK I (As := [.ref t, .ref v, .null]) (rest := [.ref q5]) (met_J34_init_1 l Γ (gput ph jn i q5 (.inr (27, [.null, .null, .null]))) jn i q5 .null .null .null v t (gput_self _ _ _ _ _)) (cwI 3 hts (lw_meth q1607) rfl rfl rfl (hts _ q169) (hts _ q1605) (hts _ q1606) rfl (by decide +kernel) ⟨Nat.le_of_ble_eq_true rfl, Nat.le_of_ble_eq_true rfl⟩) rfl hl.1 rfl (Nat.le_of_ble_eq_true rfl) dJ24_linkLast_12 ⟨Nat.le_of_ble_eq_true rfl, Nat.le_of_ble_eq_true rfl⟩) I (fun ph1 H locs hp I => ?_)
  rw [hp] at I
  have I : g_I Γ (gput (gput (gput (gput ph jn i q5 (.inr (27, [.null, .null, .null]))) jn i q5 (.inr (27, [.ref v, .null, .null]))) jn i q5 (.inr (27, [.ref v, .null, .null]))) jn i q5 (.inr (27, [.ref v, .null, .ref t]))) s _ _ := I
  refine lv_astore_n (lv' := [(3, .ref q5), (2, .ref t), (0, .ref q), (1, .ref v)]) hx hb dJ24_linkLast_15 rfl hl (by decide) rfl (fun ls hl => ?_)
  refine lv_aload_n hx hb dJ24_linkLast_16 rfl (lv_at hl 2 rfl) ?_
  refine lv_aload_n hx hb dJ24_linkLast_17 rfl (lv_at hl 0 rfl) ?_
  refine g_put S hK I k_J24 (v := .ref q5) ((g_oj hj).trans ((g_oj hj).trans ((g_oj hj).trans ((g_oj hj).trans hq)))) 3 (by decide) q626 rfl rfl rfl rfl (Nat.le_of_ble_eq_true rfl) dJ24_linkLast_18 (fun H locs I => ?_)
  have I : g_I Γ (gput (gput (gput (gput (gput ph jn i q5 (.inr (27, [.null, .null, .null]))) jn i q5 (.inr (27, [.ref v, .null, .null]))) jn i q5 (.inr (27, [.ref v, .null, .null]))) jn i q5 (.inr (27, [.ref v, .null, .ref t]))) j i q (.inr (24, [.int mc, .int (nI (n0 + 1)), .ref (na 0), .ref q5]))) s _ _ := I
  refine lv_aload_n hx hb dJ24_linkLast_21 rfl (lv_at hl 1 rfl) ?_
  refine lv_ifnonnull (tgt := 33) hx hb dJ24_linkLast_22 (by decide) ?_
  refine lv_aload_n hx hb dJ24_linkLast_33 rfl (lv_at hl 1 rfl) ?_
  refine lv_aload_n hx hb dJ24_linkLast_34 rfl (lv_at hl 0 rfl) ?_
  refine g_put S hK I k_J34 (v := .ref q5) ((g_oj (Ne.symm hj)).trans ((g_oa (fun z => by rw [← z] at hf; exact absurd (ht.symm.trans (hf _ _)) (by simp))).trans ((g_oa (fun z => by rw [← z] at hf; exact absurd (ht.symm.trans (hf _ _)) (by simp))).trans ((g_oa (fun z => by rw [← z] at hf; exact absurd (ht.symm.trans (hf _ _)) (by simp))).trans ((g_oa (fun z => by rw [← z] at hf; exact absurd (ht.symm.trans (hf _ _)) (by simp))).trans ht))))) 1 (by decide) q1614 rfl rfl rfl rfl (Nat.le_of_ble_eq_true rfl) dJ24_linkLast_35 (fun H locs I => ?_)
  have I : g_I Γ (gput (gput (gput (gput (gput (gput ph jn i q5 (.inr (27, [.null, .null, .null]))) jn i q5 (.inr (27, [.ref v, .null, .null]))) jn i q5 (.inr (27, [.ref v, .null, .null]))) jn i q5 (.inr (27, [.ref v, .null, .ref t]))) j i q (.inr (24, [.int mc, .int (nI (n0 + 1)), .ref (na 0), .ref q5]))) jn i t (.inr (27, [.ref (it n0), .ref q5, (lkP n0 na)]))) s _ _ := I
  refine lv_aload_n hx hb dJ24_linkLast_38 rfl (lv_at hl 2 rfl) ?_
  refine lv_dup hx hb dJ24_linkLast_39 rfl ?_
  refine g_get S hK I k_J24 (v := .int (nI (n0 + 1))) (g_at.of ((g_oj hj).trans (gput_self _ _ _ _ _))) 1 (by decide) q623 rfl rfl dJ24_linkLast_40 ?_
  refine lv_iconst (v := 1) hx hb dJ24_linkLast_43 (by decide) ?_
  refine lv_iadd hx hb dJ24_linkLast_44 ?_
  refine g_put S hK I k_J24 (v := .int ((nI (n0 + 1)) + 1)) ((g_oj hj).trans (gput_self _ _ _ _ _)) 1 (by decide) q623 rfl rfl rfl rfl (Nat.le_of_ble_eq_true rfl) dJ24_linkLast_45 (fun H locs I => ?_)
  have I : g_I Γ (gput (gput (gput (gput (gput (gput (gput ph jn i q5 (.inr (27, [.null, .null, .null]))) jn i q5 (.inr (27, [.ref v, .null, .null]))) jn i q5 (.inr (27, [.ref v, .null, .null]))) jn i q5 (.inr (27, [.ref v, .null, .ref t]))) j i q (.inr (24, [.int mc, .int (nI (n0 + 1)), .ref (na 0), .ref q5]))) jn i t (.inr (27, [.ref (it n0), .ref q5, (lkP n0 na)]))) j i q (.inr (24, [.int mc, .int ((nI (n0 + 1)) + 1), .ref (na 0), .ref q5]))) s _ _ := I
  refine lv_aload_n hx hb dJ24_linkLast_48 rfl (lv_at hl 2 rfl) ?_
  refine lv_dup hx hb dJ24_linkLast_49 rfl ?_
  refine g_getU S hK I k_J24 (v := .int mc) (g_at.of (gput_self _ _ _ _ _)) 0 (by decide) q605 q601 rfl dJ24_linkLast_50 ?_
  refine lv_iconst (v := 1) hx hb dJ24_linkLast_53 (by decide) ?_
  refine lv_iadd hx hb dJ24_linkLast_54 ?_
  refine g_putU S hK I k_J24 (v := .int (mc + 1)) (gput_self _ _ _ _ _) 0 (by decide) q605 q601 rfl rfl rfl (Nat.le_of_ble_eq_true rfl) dJ24_linkLast_55 (fun H locs I => ?_)
  have I : g_I Γ (gput (gput (gput (gput (gput (gput (gput (gput ph jn i q5 (.inr (27, [.null, .null, .null]))) jn i q5 (.inr (27, [.ref v, .null, .null]))) jn i q5 (.inr (27, [.ref v, .null, .null]))) jn i q5 (.inr (27, [.ref v, .null, .ref t]))) j i q (.inr (24, [.int mc, .int (nI (n0 + 1)), .ref (na 0), .ref q5]))) jn i t (.inr (27, [.ref (it n0), .ref q5, (lkP n0 na)]))) j i q (.inr (24, [.int mc, .int ((nI (n0 + 1)) + 1), .ref (na 0), .ref q5]))) j i q (.inr (24, [.int (mc + 1), .int ((nI (n0 + 1)) + 1), .ref (na 0), .ref q5]))) s _ _ := I
  exact g_vret S hr hlk I dJ24_linkLast_58 (Nat.le_of_ble_eq_true rfl) (Nat.le_of_ble_eq_true rfl) hQ ⟨rfl, ⟨q5, hf, ll_add hL ((gput_self _ _ _ _ _)) (by rw [show lkL (n0 + 1) na = .ref t from by rw [← htt]; rfl]; exact ((g_oj (Ne.symm hj)).trans ((g_oj (Ne.symm hj)).trans ((g_oa (fun z => by rw [z] at hf; exact absurd (ht.symm.trans (hf _ _)) (by simp))).trans ((g_oj (Ne.symm hj)).trans (gput_self _ _ _ _ _)))))) (fun _ => by rw [Nat.add_sub_cancel, htt]; exact ((g_oj (Ne.symm hj)).trans ((g_oj (Ne.symm hj)).trans (gput_self _ _ _ _ _)))) (fun a9 h9 g9 => by simp [gput, gset, pput, h9, show a9 ≠ t from by have := g9 (Nat.succ_pos _); rw [Nat.add_sub_cancel, htt] at this; exact this, hj, Ne.symm hj]) (fun k hk z => by have := hL.2.1 k hk; rw [z, hf] at this; exact absurd this (by simp)), (g_fr.put (g_fr.put (g_fr.put (g_fr.put (g_fr.put (g_fr.put (g_fr.put (g_fr.put (g_fr.refl _ _) (by simp)) (by simp)) (by simp)) (by simp)) (by simp)) (by simp)) (by simp)) (by simp))⟩⟩

theorem met_J24_linkLast (l : Launch) (Γ : g_C) (ph : g_H) (j i q jn v n : Nat) (na it : Nat → Nat) (mc : Int32) (hj : j ≠ jn) (hL : g_LL ph j i q jn n na it mc) : g_Met l yJ24_linkLast (ws_ yJ24_linkLast cJ24_linkLast 4 none) (g_rm 2 1 3) Γ [.ref q, .ref v] ph (g_ov (fun ph' => ∃ q', (∀ j i, ph j i q' = none) ∧ g_LL ph' j i q jn (n + 1) (va_up na n q') (va_up it n v) (mc + 1) ∧ g_fr [(j, i), (jn, i)] ph ph')) g_no := by
  cases n with
  | zero => exact met_J24_linkLast_0 l Γ ph j i q jn v na it mc hj hL
  | succ n0 => exact met_J24_linkLast_1 l Γ ph j i q jn v n0 na it mc hj hL
set_option maxHeartbeats 4000000 in
set_option maxRecDepth 100000 in
theorem met_J24_addLast (l : Launch) (Γ : g_C) (ph : g_H) (j i q jn v n : Nat) (na it : Nat → Nat) (mc : Int32)   (hj : j ≠ jn) (hL : g_LL ph j i q jn n na it mc) : g_Met l yJ24_addLast (ws_ yJ24_addLast cJ24_addLast 2 none) (g_rm 3 1 3) Γ [.ref q, .ref v] (ph) (g_ov (fun ph' => ∃ q', (∀ j i, ph j i q' = none) ∧ g_LL ph' j i q jn (n + 1) (va_up na n q') (va_up it n v) (mc + 1) ∧ g_fr [(j, i), (jn, i)] ph ph')) g_no := by
  refine g_start (y := yJ24_addLast) (cc := cJ24_addLast) (maxL := 2) (ret := none) (rm := g_rm 3 1 3) (by decide) (Nat.le_of_ble_eq_true rfl) ?_
  intro p e s m A below meth c ls Q hQ S hr hlk hex hnm hK I hl
  have hx := S.1
  have hb := S.2.1
  have hown := S.2.2.2.1
  have hts := S.2.2.2.2
  have S : CallFix p m c cJ24_addLast 2 s A lw_all "java/util/LinkedList" := S
  have hl : lv_has ls 2 [(0, .ref q), (1, .ref v)] := hl
  have hq := hL.1
  refine lv_aload_n hx hb dJ24_addLast_0 rfl (lv_at hl 0 rfl) ?_
  refine lv_aload_n hx hb dJ24_addLast_1 rfl (lv_at hl 1 rfl) ?_
  refine g_cv (g_runV S hK I (As := [.ref v]) (rest := []) (met_J24_linkLast l Γ ph j i q jn v n na it mc hj hL) (cwV 1 hts (lw_V q1599 q1600 q1601 q148 q1602) rfl rfl rfl (by decide +kernel) ⟨Nat.le_of_ble_eq_true rfl, Nat.le_of_ble_eq_true rfl⟩) (g_recv hK I (g_at.of hq) (ci := 24) rfl) rfl hl.1 rfl (Nat.le_of_ble_eq_true rfl) dJ24_addLast_2 ⟨Nat.le_of_ble_eq_true rfl, Nat.le_of_ble_eq_true rfl⟩) I (fun ph1 H locs hp I => ?_)
  exact g_vret S hr hlk I dJ24_addLast_5 (Nat.le_of_ble_eq_true rfl) (Nat.le_of_ble_eq_true rfl) hQ ⟨rfl, hp⟩

set_option maxHeartbeats 4000000 in
set_option maxRecDepth 100000 in
theorem met_J24_unlinkFirst_0 (l : Launch) (Γ : g_C) (ph : g_H) (j i q jn : Nat) (na it : Nat → Nat) (mc : Int32)   (hj : j ≠ jn) (hL : g_LL ph j i q jn (0 + 1) na it mc) : g_Met l yJ24_unlinkFirst (ws_ yJ24_unlinkFirst cJ24_unlinkFirst 4 (some (.object "java/lang/Object"))) (g_rm 1 0 0) Γ [.ref q, .ref (na 0)] (ph) (g_or (fun rv_ ph' => rv_ = it 0 ∧ g_LL ph' j i q jn 0 (fun k => na (k + 1)) (fun k => it (k + 1)) (mc + 1) ∧ g_fr [(j, i), (jn, i)] ph ph')) g_no := by
  refine g_start (y := yJ24_unlinkFirst) (cc := cJ24_unlinkFirst) (maxL := 4) (ret := (some (.object "java/lang/Object"))) (rm := g_rm 1 0 0) (by decide) (Nat.le_of_ble_eq_true rfl) ?_
  intro p e s m A below meth c ls Q hQ S hr hlk hex hnm hK I hl
  have hx := S.1
  have hb := S.2.1
  have hown := S.2.2.2.1
  have hts := S.2.2.2.2
  have S : CallFix p m c cJ24_unlinkFirst 4 s A lw_all "java/util/LinkedList" := S
  have hl : lv_has ls 4 [(0, .ref q), (1, .ref (na 0))] := hl
  have hq : ph j i q = some (.inr (24, [.int mc, .int (nI (0 + 1)), .ref (na 0), .ref (na 0)])) := hL.1
  have hx0 : ph jn i (na 0) = some (.inr (27, [.ref (it 0), .null, .null])) := hL.2.1 0 (Nat.succ_pos _)
  refine lv_aload_n hx hb dJ24_unlinkFirst_0 rfl (lv_at hl 1 rfl) ?_
  refine g_get S hK I k_J34 (v := .ref (it 0)) (g_at.of hx0) 0 (by decide) q1611 rfl rfl dJ24_unlinkFirst_1 ?_
  refine lv_astore_n (lv' := [(2, .ref (it 0)), (0, .ref q), (1, .ref (na 0))]) hx hb dJ24_unlinkFirst_4 rfl hl (by decide) rfl (fun ls hl => ?_)
  refine lv_aload_n hx hb dJ24_unlinkFirst_5 rfl (lv_at hl 2 rfl) ?_
  refine g_get S hK I k_J34 (v := .null) (g_at.of hx0) 1 (by decide) q1614 rfl rfl dJ24_unlinkFirst_6 ?_
  refine lv_astore_nN (lv' := [(3, .null), (2, .ref (it 0)), (0, .ref q), (1, .ref (na 0))]) hx hb dJ24_unlinkFirst_9 rfl hl (by decide) rfl (fun ls hl => ?_)
  refine lv_aload_n hx hb dJ24_unlinkFirst_10 rfl (lv_at hl 3 rfl) ?_
  refine lv_null hx hb dJ24_unlinkFirst_11 ?_
  refine g_put S hK I k_J34 (v := .null) hx0 0 (by decide) q1611 rfl rfl rfl rfl (Nat.le_of_ble_eq_true rfl) dJ24_unlinkFirst_12 (fun H locs I => ?_)
  have I : g_I Γ (gput ph jn i (na 0) (.inr (27, [.null, .null, .null]))) s _ _ := I
  refine lv_aload_n hx hb dJ24_unlinkFirst_15 rfl (lv_at hl 3 rfl) ?_
  refine lv_null hx hb dJ24_unlinkFirst_16 ?_
  refine g_put S hK I k_J34 (v := .null) (gput_self _ _ _ _ _) 1 (by decide) q1614 rfl rfl rfl rfl (Nat.le_of_ble_eq_true rfl) dJ24_unlinkFirst_17 (fun H locs I => ?_)
  have I : g_I Γ (gput (gput ph jn i (na 0) (.inr (27, [.null, .null, .null]))) jn i (na 0) (.inr (27, [.null, .null, .null]))) s _ _ := I
  refine lv_aload_n hx hb dJ24_unlinkFirst_20 rfl (lv_at hl 2 rfl) ?_
  refine lv_aload_nN hx hb dJ24_unlinkFirst_21 rfl (lv_at hl 0 rfl) ?_
  refine g_put S hK I k_J24 (v := .null) ((g_oj hj).trans ((g_oj hj).trans hq)) 2 (by decide) q625 rfl rfl rfl rfl (Nat.le_of_ble_eq_true rfl) dJ24_unlinkFirst_22 (fun H locs I => ?_)
  have I : g_I Γ (gput (gput (gput ph jn i (na 0) (.inr (27, [.null, .null, .null]))) jn i (na 0) (.inr (27, [.null, .null, .null]))) j i q (.inr (24, [.int mc, .int (nI (0 + 1)), .null, .ref (na 0)]))) s _ _ := I
  refine lv_aload_nN hx hb dJ24_unlinkFirst_25 rfl (lv_at hl 0 rfl) ?_
  refine lv_ifnonnullN hx hb dJ24_unlinkFirst_26 ?_
  refine lv_aload_n hx hb dJ24_unlinkFirst_29 rfl (lv_at hl 2 rfl) ?_
  refine lv_null hx hb dJ24_unlinkFirst_30 ?_
  refine g_put S hK I k_J24 (v := .null) (gput_self _ _ _ _ _) 3 (by decide) q626 rfl rfl rfl rfl (Nat.le_of_ble_eq_true rfl) dJ24_unlinkFirst_31 (fun H locs I => ?_)
  have I : g_I Γ (gput (gput (gput (gput ph jn i (na 0) (.inr (27, [.null, .null, .null]))) jn i (na 0) (.inr (27, [.null, .null, .null]))) j i q (.inr (24, [.int mc, .int (nI (0 + 1)), .null, .ref (na 0)]))) j i q (.inr (24, [.int mc, .int (nI (0 + 1)), .null, .null]))) s _ _ := I
  refine lv_goto (tgt := 42) hx hb dJ24_unlinkFirst_34 (by decide) ?_
  refine lv_aload_n hx hb dJ24_unlinkFirst_42 rfl (lv_at hl 2 rfl) ?_
  refine lv_dup hx hb dJ24_unlinkFirst_43 rfl ?_
  refine g_get S hK I k_J24 (v := .int (nI (0 + 1))) (g_at.of (gput_self _ _ _ _ _)) 1 (by decide) q623 rfl rfl dJ24_unlinkFirst_44 ?_
  refine lv_iconst (v := 1) hx hb dJ24_unlinkFirst_47 (by decide) ?_
  refine lv_isub hx hb dJ24_unlinkFirst_48 ?_
  refine g_put S hK I k_J24 (v := .int ((nI (0 + 1)) - 1)) (gput_self _ _ _ _ _) 1 (by decide) q623 rfl rfl rfl rfl (Nat.le_of_ble_eq_true rfl) dJ24_unlinkFirst_49 (fun H locs I => ?_)
  have I : g_I Γ (gput (gput (gput (gput (gput ph jn i (na 0) (.inr (27, [.null, .null, .null]))) jn i (na 0) (.inr (27, [.null, .null, .null]))) j i q (.inr (24, [.int mc, .int (nI (0 + 1)), .null, .ref (na 0)]))) j i q (.inr (24, [.int mc, .int (nI (0 + 1)), .null, .null]))) j i q (.inr (24, [.int mc, .int ((nI (0 + 1)) - 1), .null, .null]))) s _ _ := I
  refine lv_aload_n hx hb dJ24_unlinkFirst_52 rfl (lv_at hl 2 rfl) ?_
  refine lv_dup hx hb dJ24_unlinkFirst_53 rfl ?_
  refine g_getU S hK I k_J24 (v := .int mc) (g_at.of (gput_self _ _ _ _ _)) 0 (by decide) q605 q601 rfl dJ24_unlinkFirst_54 ?_
  refine lv_iconst (v := 1) hx hb dJ24_unlinkFirst_57 (by decide) ?_
  refine lv_iadd hx hb dJ24_unlinkFirst_58 ?_
  refine g_putU S hK I k_J24 (v := .int (mc + 1)) (gput_self _ _ _ _ _) 0 (by decide) q605 q601 rfl rfl rfl (Nat.le_of_ble_eq_true rfl) dJ24_unlinkFirst_59 (fun H locs I => ?_)
  have I : g_I Γ (gput (gput (gput (gput (gput (gput ph jn i (na 0) (.inr (27, [.null, .null, .null]))) jn i (na 0) (.inr (27, [.null, .null, .null]))) j i q (.inr (24, [.int mc, .int (nI (0 + 1)), .null, .ref (na 0)]))) j i q (.inr (24, [.int mc, .int (nI (0 + 1)), .null, .null]))) j i q (.inr (24, [.int mc, .int ((nI (0 + 1)) - 1), .null, .null]))) j i q (.inr (24, [.int (mc + 1), .int ((nI (0 + 1)) - 1), .null, .null]))) s _ _ := I
  refine lv_aload_n hx hb dJ24_unlinkFirst_62 rfl (lv_at hl 1 rfl) ?_
  exact g_aret S hr (Or.inl ⟨_, rfl⟩) hlk I dJ24_unlinkFirst_63 (Nat.le_of_ble_eq_true rfl) (Nat.le_of_ble_eq_true rfl) hQ ⟨_, rfl, ⟨rfl, ll_del0 hL ((gput_self _ _ _ _ _)) (fun z => absurd z (Nat.lt_irrefl _)) (fun a9 h9 g9 => by simp [gput, gset, pput, h9, hj, Ne.symm hj]), (g_fr.put (g_fr.put (g_fr.put (g_fr.put (g_fr.put (g_fr.put (g_fr.refl _ _) (by simp)) (by simp)) (by simp)) (by simp)) (by simp)) (by simp))⟩⟩

set_option maxHeartbeats 4000000 in
set_option maxRecDepth 100000 in
theorem met_J24_unlinkFirst_1 (l : Launch) (Γ : g_C) (ph : g_H) (j i q jn n0 : Nat) (na it : Nat → Nat) (mc : Int32)   (hj : j ≠ jn) (hL : g_LL ph j i q jn ((n0 + 1) + 1) na it mc) : g_Met l yJ24_unlinkFirst (ws_ yJ24_unlinkFirst cJ24_unlinkFirst 4 (some (.object "java/lang/Object"))) (g_rm 1 0 0) Γ [.ref q, .ref (na 0)] (ph) (g_or (fun rv_ ph' => rv_ = it 0 ∧ g_LL ph' j i q jn (n0 + 1) (fun k => na (k + 1)) (fun k => it (k + 1)) (mc + 1) ∧ g_fr [(j, i), (jn, i)] ph ph')) g_no := by
  refine g_start (y := yJ24_unlinkFirst) (cc := cJ24_unlinkFirst) (maxL := 4) (ret := (some (.object "java/lang/Object"))) (rm := g_rm 1 0 0) (by decide) (Nat.le_of_ble_eq_true rfl) ?_
  intro p e s m A below meth c ls Q hQ S hr hlk hex hnm hK I hl
  have hx := S.1
  have hb := S.2.1
  have hown := S.2.2.2.1
  have hts := S.2.2.2.2
  have S : CallFix p m c cJ24_unlinkFirst 4 s A lw_all "java/util/LinkedList" := S
  have hl : lv_has ls 4 [(0, .ref q), (1, .ref (na 0))] := hl
  have hq : ph j i q = some (.inr (24, [.int mc, .int (nI (n0 + 1 + 1)), .ref (na 0), .ref (na (n0 + 1))])) := hL.1
  have hx0 : ph jn i (na 0) = some (.inr (27, [.ref (it 0), .ref (na 1), .null])) := hL.2.1 0 (Nat.succ_pos _)
  have hx1 : ph jn i (na 1) = some (.inr (27, [.ref (it 1), lkN 1 (n0 + 1 + 1) na, .ref (na 0)])) := hL.2.1 1 (by omega)
  have h01 : na 1 ≠ na 0 := fun z => absurd (hL.2.2 _ _ (by omega) (by omega) z) (by decide)
  refine lv_aload_n hx hb dJ24_unlinkFirst_0 rfl (lv_at hl 1 rfl) ?_
  refine g_get S hK I k_J34 (v := .ref (it 0)) (g_at.of hx0) 0 (by decide) q1611 rfl rfl dJ24_unlinkFirst_1 ?_
  refine lv_astore_n (lv' := [(2, .ref (it 0)), (0, .ref q), (1, .ref (na 0))]) hx hb dJ24_unlinkFirst_4 rfl hl (by decide) rfl (fun ls hl => ?_)
  refine lv_aload_n hx hb dJ24_unlinkFirst_5 rfl (lv_at hl 2 rfl) ?_
  refine g_get S hK I k_J34 (v := .ref (na 1)) (g_at.of hx0) 1 (by decide) q1614 rfl rfl dJ24_unlinkFirst_6 ?_
  refine lv_astore_n (lv' := [(3, .ref (na 1)), (2, .ref (it 0)), (0, .ref q), (1, .ref (na 0))]) hx hb dJ24_unlinkFirst_9 rfl hl (by decide) rfl (fun ls hl => ?_)
  refine lv_aload_n hx hb dJ24_unlinkFirst_10 rfl (lv_at hl 3 rfl) ?_
  refine lv_null hx hb dJ24_unlinkFirst_11 ?_
  refine g_put S hK I k_J34 (v := .null) hx0 0 (by decide) q1611 rfl rfl rfl rfl (Nat.le_of_ble_eq_true rfl) dJ24_unlinkFirst_12 (fun H locs I => ?_)
  have I : g_I Γ (gput ph jn i (na 0) (.inr (27, [.null, .ref (na 1), .null]))) s _ _ := I
  refine lv_aload_n hx hb dJ24_unlinkFirst_15 rfl (lv_at hl 3 rfl) ?_
  refine lv_null hx hb dJ24_unlinkFirst_16 ?_
  refine g_put S hK I k_J34 (v := .null) (gput_self _ _ _ _ _) 1 (by decide) q1614 rfl rfl rfl rfl (Nat.le_of_ble_eq_true rfl) dJ24_unlinkFirst_17 (fun H locs I => ?_)
  have I : g_I Γ (gput (gput ph jn i (na 0) (.inr (27, [.null, .ref (na 1), .null]))) jn i (na 0) (.inr (27, [.null, .null, .null]))) s _ _ := I
  refine lv_aload_n hx hb dJ24_unlinkFirst_20 rfl (lv_at hl 2 rfl) ?_
  refine lv_aload_n hx hb dJ24_unlinkFirst_21 rfl (lv_at hl 0 rfl) ?_
  refine g_put S hK I k_J24 (v := .ref (na 1)) ((g_oj hj).trans ((g_oj hj).trans hq)) 2 (by decide) q625 rfl rfl rfl rfl (Nat.le_of_ble_eq_true rfl) dJ24_unlinkFirst_22 (fun H locs I => ?_)
  have I : g_I Γ (gput (gput (gput ph jn i (na 0) (.inr (27, [.null, .ref (na 1), .null]))) jn i (na 0) (.inr (27, [.null, .null, .null]))) j i q (.inr (24, [.int mc, .int (nI (n0 + 1 + 1)), .ref (na 1), .ref (na (n0 + 1))]))) s _ _ := I
  refine lv_aload_n hx hb dJ24_unlinkFirst_25 rfl (lv_at hl 0 rfl) ?_
  refine lv_ifnonnull (tgt := 37) hx hb dJ24_unlinkFirst_26 (by decide) ?_
  refine lv_aload_n hx hb dJ24_unlinkFirst_37 rfl (lv_at hl 0 rfl) ?_
  refine lv_null hx hb dJ24_unlinkFirst_38 ?_
  refine g_put S hK I k_J34 (v := .null) ((g_oj (Ne.symm hj)).trans ((g_oa h01).trans ((g_oa h01).trans hx1))) 2 (by decide) q1617 rfl rfl rfl rfl (Nat.le_of_ble_eq_true rfl) dJ24_unlinkFirst_39 (fun H locs I => ?_)
  have I : g_I Γ (gput (gput (gput (gput ph jn i (na 0) (.inr (27, [.null, .ref (na 1), .null]))) jn i (na 0) (.inr (27, [.null, .null, .null]))) j i q (.inr (24, [.int mc, .int (nI (n0 + 1 + 1)), .ref (na 1), .ref (na (n0 + 1))]))) jn i (na 1) (.inr (27, [.ref (it 1), (lkN 1 (n0 + 1 + 1) na), .null]))) s _ _ := I
  refine lv_aload_n hx hb dJ24_unlinkFirst_42 rfl (lv_at hl 2 rfl) ?_
  refine lv_dup hx hb dJ24_unlinkFirst_43 rfl ?_
  refine g_get S hK I k_J24 (v := .int (nI (n0 + 1 + 1))) (g_at.of ((g_oj hj).trans (gput_self _ _ _ _ _))) 1 (by decide) q623 rfl rfl dJ24_unlinkFirst_44 ?_
  refine lv_iconst (v := 1) hx hb dJ24_unlinkFirst_47 (by decide) ?_
  refine lv_isub hx hb dJ24_unlinkFirst_48 ?_
  refine g_put S hK I k_J24 (v := .int ((nI (n0 + 1 + 1)) - 1)) ((g_oj hj).trans (gput_self _ _ _ _ _)) 1 (by decide) q623 rfl rfl rfl rfl (Nat.le_of_ble_eq_true rfl) dJ24_unlinkFirst_49 (fun H locs I => ?_)
  have I : g_I Γ (gput (gput (gput (gput (gput ph jn i (na 0) (.inr (27, [.null, .ref (na 1), .null]))) jn i (na 0) (.inr (27, [.null, .null, .null]))) j i q (.inr (24, [.int mc, .int (nI (n0 + 1 + 1)), .ref (na 1), .ref (na (n0 + 1))]))) jn i (na 1) (.inr (27, [.ref (it 1), (lkN 1 (n0 + 1 + 1) na), .null]))) j i q (.inr (24, [.int mc, .int ((nI (n0 + 1 + 1)) - 1), .ref (na 1), .ref (na (n0 + 1))]))) s _ _ := I
  refine lv_aload_n hx hb dJ24_unlinkFirst_52 rfl (lv_at hl 2 rfl) ?_
  refine lv_dup hx hb dJ24_unlinkFirst_53 rfl ?_
  refine g_getU S hK I k_J24 (v := .int mc) (g_at.of (gput_self _ _ _ _ _)) 0 (by decide) q605 q601 rfl dJ24_unlinkFirst_54 ?_
  refine lv_iconst (v := 1) hx hb dJ24_unlinkFirst_57 (by decide) ?_
  refine lv_iadd hx hb dJ24_unlinkFirst_58 ?_
  refine g_putU S hK I k_J24 (v := .int (mc + 1)) (gput_self _ _ _ _ _) 0 (by decide) q605 q601 rfl rfl rfl (Nat.le_of_ble_eq_true rfl) dJ24_unlinkFirst_59 (fun H locs I => ?_)
  have I : g_I Γ (gput (gput (gput (gput (gput (gput ph jn i (na 0) (.inr (27, [.null, .ref (na 1), .null]))) jn i (na 0) (.inr (27, [.null, .null, .null]))) j i q (.inr (24, [.int mc, .int (nI (n0 + 1 + 1)), .ref (na 1), .ref (na (n0 + 1))]))) jn i (na 1) (.inr (27, [.ref (it 1), (lkN 1 (n0 + 1 + 1) na), .null]))) j i q (.inr (24, [.int mc, .int ((nI (n0 + 1 + 1)) - 1), .ref (na 1), .ref (na (n0 + 1))]))) j i q (.inr (24, [.int (mc + 1), .int ((nI (n0 + 1 + 1)) - 1), .ref (na 1), .ref (na (n0 + 1))]))) s _ _ := I
  refine lv_aload_n hx hb dJ24_unlinkFirst_62 rfl (lv_at hl 1 rfl) ?_
  exact g_aret S hr (Or.inl ⟨_, rfl⟩) hlk I dJ24_unlinkFirst_63 (Nat.le_of_ble_eq_true rfl) (Nat.le_of_ble_eq_true rfl) hQ ⟨_, rfl, ⟨rfl, ll_del0 hL ((gput_self _ _ _ _ _)) (fun _ => ((g_oj (Ne.symm hj)).trans ((g_oj (Ne.symm hj)).trans (gput_self _ _ _ _ _)))) (fun a9 h9 g9 => by simp [gput, gset, pput, h9, show a9 ≠ na 1 from g9 (Nat.succ_pos _), hj, Ne.symm hj]), (g_fr.put (g_fr.put (g_fr.put (g_fr.put (g_fr.put (g_fr.put (g_fr.refl _ _) (by simp)) (by simp)) (by simp)) (by simp)) (by simp)) (by simp))⟩⟩

theorem met_J24_unlinkFirst (l : Launch) (Γ : g_C) (ph : g_H) (j i q jn n : Nat) (na it : Nat → Nat) (mc : Int32) (hj : j ≠ jn) (hL : g_LL ph j i q jn (n + 1) na it mc) : g_Met l yJ24_unlinkFirst (ws_ yJ24_unlinkFirst cJ24_unlinkFirst 4 (some (.object "java/lang/Object"))) (g_rm 1 0 0) Γ [.ref q, .ref (na 0)] ph (g_or (fun rv_ ph' => rv_ = it 0 ∧ g_LL ph' j i q jn n (fun k => na (k + 1)) (fun k => it (k + 1)) (mc + 1) ∧ g_fr [(j, i), (jn, i)] ph ph')) g_no := by
  cases n with
  | zero => exact met_J24_unlinkFirst_0 l Γ ph j i q jn na it mc hj hL
  | succ n0 => exact met_J24_unlinkFirst_1 l Γ ph j i q jn n0 na it mc hj hL
set_option maxHeartbeats 4000000 in
set_option maxRecDepth 100000 in
theorem met_J24_removeFirst (l : Launch) (Γ : g_C) (ph : g_H) (j i q jn n : Nat) (na it : Nat → Nat) (mc : Int32)   (hj : j ≠ jn) (hL : g_LL ph j i q jn (n + 1) na it mc) : g_Met l yJ24_removeFirst (ws_ yJ24_removeFirst cJ24_removeFirst 2 (some (.object "java/lang/Object"))) (g_rm 2 0 0) Γ [.ref q] (ph) (g_or (fun rv_ ph' => rv_ = it 0 ∧ g_LL ph' j i q jn n (fun k => na (k + 1)) (fun k => it (k + 1)) (mc + 1) ∧ g_fr [(j, i), (jn, i)] ph ph')) g_no := by
  refine g_start (y := yJ24_removeFirst) (cc := cJ24_removeFirst) (maxL := 2) (ret := (some (.object "java/lang/Object"))) (rm := g_rm 2 0 0) (by decide) (Nat.le_of_ble_eq_true rfl) ?_
  intro p e s m A below meth c ls Q hQ S hr hlk hex hnm hK I hl
  have hx := S.1
  have hb := S.2.1
  have hown := S.2.2.2.1
  have hts := S.2.2.2.2
  have S : CallFix p m c cJ24_removeFirst 2 s A lw_all "java/util/LinkedList" := S
  have hl : lv_has ls 2 [(0, .ref q)] := hl
  have hq : ph j i q = some (.inr (24, [.int mc, .int (nI (n + 1)), .ref (na 0), .ref (na n)])) := hL.1
  refine lv_aload_n hx hb dJ24_removeFirst_0 rfl (lv_at hl 0 rfl) ?_
  refine g_get S hK I k_J24 (v := .ref (na 0)) (g_at.of hq) 2 (by decide) q625 rfl rfl dJ24_removeFirst_1 ?_
  refine lv_astore_n (lv' := [(1, .ref (na 0)), (0, .ref q)]) hx hb dJ24_removeFirst_4 rfl hl (by decide) rfl (fun ls hl => ?_)
  refine lv_aload_n hx hb dJ24_removeFirst_5 rfl (lv_at hl 0 rfl) ?_
  refine lv_ifnonnull (tgt := 17) hx hb dJ24_removeFirst_6 (by decide) ?_
  refine lv_aload_n hx hb dJ24_removeFirst_17 rfl (lv_at hl 1 rfl) ?_
  refine lv_aload_n hx hb dJ24_removeFirst_18 rfl (lv_at hl 0 rfl) ?_
  refine g_cr (g_runV S hK I (As := [.ref (na 0)]) (rest := []) (met_J24_unlinkFirst l Γ ph j i q jn n na it mc hj hL) (cwV 1 hts (lw_V q2388 q2390 qs37 q148 q2391) rfl rfl rfl (by decide +kernel) ⟨Nat.le_of_ble_eq_true rfl, Nat.le_of_ble_eq_true rfl⟩) (g_recv hK I (g_at.of hq) (ci := 24) rfl) rfl hl.1 rfl (Nat.le_of_ble_eq_true rfl) dJ24_removeFirst_19 ⟨Nat.le_of_ble_eq_true rfl, Nat.le_of_ble_eq_true rfl⟩) I (fun r_19 ph1 H locs hp I => ?_)
  exact g_aret S hr (Or.inl ⟨_, rfl⟩) hlk I dJ24_removeFirst_22 (Nat.le_of_ble_eq_true rfl) (Nat.le_of_ble_eq_true rfl) hQ ⟨_, rfl, hp⟩

set_option maxHeartbeats 4000000 in
set_option maxRecDepth 100000 in
theorem met_J24_unlink_A (l : Launch) (Γ : g_C) (ph : g_H) (j i q jn : Nat) (na it : Nat → Nat) (mc : Int32)   (hj : j ≠ jn) (hL : g_LL ph j i q jn (0 + 1) na it mc) : g_Met l yJ24_unlink (ws_ yJ24_unlink cJ24_unlink 5 (some (.object "java/lang/Object"))) (g_rm 1 0 0) Γ [.ref q, .ref (na 0)] (ph) (g_or (fun rv_ ph' => rv_ = it 0 ∧ g_LL ph' j i q jn 0 (delN na 0) (delN it 0) (mc + 1) ∧ g_fr [(j, i), (jn, i)] ph ph')) g_no := by
  refine g_start (y := yJ24_unlink) (cc := cJ24_unlink) (maxL := 5) (ret := (some (.object "java/lang/Object"))) (rm := g_rm 1 0 0) (by decide) (Nat.le_of_ble_eq_true rfl) ?_
  intro p e s m A below meth c ls Q hQ S hr hlk hex hnm hK I hl
  have hx := S.1
  have hb := S.2.1
  have hown := S.2.2.2.1
  have hts := S.2.2.2.2
  have S : CallFix p m c cJ24_unlink 5 s A lw_all "java/util/LinkedList" := S
  have hl : lv_has ls 5 [(0, .ref q), (1, .ref (na 0))] := hl
  have hq : ph j i q = some (.inr (24, [.int mc, .int (nI (0 + 1)), .ref (na 0), .ref (na 0)])) := hL.1
  have hx0 : ph jn i (na 0) = some (.inr (27, [.ref (it 0), .null, .null])) := by have z := hL.2.1 0 (by omega); rw [show lkN 0 (0 + 1) na = .null from if_neg (by omega)] at z; exact z
  refine lv_aload_n hx hb dJ24_unlink_0 rfl (lv_at hl 1 rfl) ?_
  refine g_get S hK I k_J34 (v := .ref (it 0)) (g_at.of hx0) 0 (by decide) q1611 rfl rfl dJ24_unlink_1 ?_
  refine lv_astore_n (lv' := [(2, .ref (it 0)), (0, .ref q), (1, .ref (na 0))]) hx hb dJ24_unlink_4 rfl hl (by decide) rfl (fun ls hl => ?_)
  refine lv_aload_n hx hb dJ24_unlink_5 rfl (lv_at hl 2 rfl) ?_
  refine g_get S hK I k_J34 (v := .null) (g_at.of hx0) 1 (by decide) q1614 rfl rfl dJ24_unlink_6 ?_
  refine lv_astore_nN (lv' := [(3, .null), (2, .ref (it 0)), (0, .ref q), (1, .ref (na 0))]) hx hb dJ24_unlink_9 rfl hl (by decide) rfl (fun ls hl => ?_)
  refine lv_aload_n hx hb dJ24_unlink_10 rfl (lv_at hl 3 rfl) ?_
  refine g_get S hK I k_J34 (v := .null) (g_at.of hx0) 2 (by decide) q1617 rfl rfl dJ24_unlink_11 ?_
  refine lv_astoreN (lv' := [(4, .null), (3, .null), (2, .ref (it 0)), (0, .ref q), (1, .ref (na 0))]) hx hb dJ24_unlink_14 hl (by decide) rfl (fun ls hl => ?_)
  refine lv_aloadN hx hb dJ24_unlink_16 (lv_at hl 0 rfl) ?_
  refine lv_ifnonnullN hx hb dJ24_unlink_18 ?_
  refine lv_aload_n hx hb dJ24_unlink_21 rfl (lv_at hl 3 rfl) ?_
  refine lv_aload_nN hx hb dJ24_unlink_22 rfl (lv_at hl 1 rfl) ?_
  refine g_put S hK I k_J24 (v := .null) hq 2 (by decide) q625 rfl rfl rfl rfl (Nat.le_of_ble_eq_true rfl) dJ24_unlink_23 (fun H locs I => ?_)
  have I : g_I Γ (gput ph j i q (.inr (24, [.int mc, .int (nI (0 + 1)), .null, .ref (na 0)]))) s _ _ := I
  refine lv_goto (tgt := 40) hx hb dJ24_unlink_26 (by decide) ?_
  refine lv_aload_nN hx hb dJ24_unlink_40 rfl (lv_at hl 1 rfl) ?_
  refine lv_ifnonnullN hx hb dJ24_unlink_41 ?_
  refine lv_aload_n hx hb dJ24_unlink_44 rfl (lv_at hl 3 rfl) ?_
  refine lv_aloadN hx hb dJ24_unlink_45 (lv_at hl 0 rfl) ?_
  refine g_put S hK I k_J24 (v := .null) (gput_self _ _ _ _ _) 3 (by decide) q626 rfl rfl rfl rfl (Nat.le_of_ble_eq_true rfl) dJ24_unlink_47 (fun H locs I => ?_)
  have I : g_I Γ (gput (gput ph j i q (.inr (24, [.int mc, .int (nI (0 + 1)), .null, .ref (na 0)]))) j i q (.inr (24, [.int mc, .int (nI (0 + 1)), .null, .null]))) s _ _ := I
  refine lv_goto (tgt := 64) hx hb dJ24_unlink_50 (by decide) ?_
  refine lv_aload_n hx hb dJ24_unlink_64 rfl (lv_at hl 4 rfl) ?_
  refine lv_null hx hb dJ24_unlink_65 ?_
  refine g_put S hK I k_J34 (v := .null) ((g_oj (Ne.symm hj)).trans ((g_oj (Ne.symm hj)).trans hx0)) 0 (by decide) q1611 rfl rfl rfl rfl (Nat.le_of_ble_eq_true rfl) dJ24_unlink_66 (fun H locs I => ?_)
  have I : g_I Γ (gput (gput (gput ph j i q (.inr (24, [.int mc, .int (nI (0 + 1)), .null, .ref (na 0)]))) j i q (.inr (24, [.int mc, .int (nI (0 + 1)), .null, .null]))) jn i (na 0) (.inr (27, [.null, .null, .null]))) s _ _ := I
  refine lv_aload_n hx hb dJ24_unlink_69 rfl (lv_at hl 3 rfl) ?_
  refine lv_dup hx hb dJ24_unlink_70 rfl ?_
  refine g_get S hK I k_J24 (v := .int (nI (0 + 1))) (g_at.of ((g_oj hj).trans (gput_self _ _ _ _ _))) 1 (by decide) q623 rfl rfl dJ24_unlink_71 ?_
  refine lv_iconst (v := 1) hx hb dJ24_unlink_74 (by decide) ?_
  refine lv_isub hx hb dJ24_unlink_75 ?_
  refine g_put S hK I k_J24 (v := .int ((nI (0 + 1)) - 1)) ((g_oj hj).trans (gput_self _ _ _ _ _)) 1 (by decide) q623 rfl rfl rfl rfl (Nat.le_of_ble_eq_true rfl) dJ24_unlink_76 (fun H locs I => ?_)
  have I : g_I Γ (gput (gput (gput (gput ph j i q (.inr (24, [.int mc, .int (nI (0 + 1)), .null, .ref (na 0)]))) j i q (.inr (24, [.int mc, .int (nI (0 + 1)), .null, .null]))) jn i (na 0) (.inr (27, [.null, .null, .null]))) j i q (.inr (24, [.int mc, .int ((nI (0 + 1)) - 1), .null, .null]))) s _ _ := I
  refine lv_aload_n hx hb dJ24_unlink_79 rfl (lv_at hl 3 rfl) ?_
  refine lv_dup hx hb dJ24_unlink_80 rfl ?_
  refine g_getU S hK I k_J24 (v := .int mc) (g_at.of (gput_self _ _ _ _ _)) 0 (by decide) q605 q601 rfl dJ24_unlink_81 ?_
  refine lv_iconst (v := 1) hx hb dJ24_unlink_84 (by decide) ?_
  refine lv_iadd hx hb dJ24_unlink_85 ?_
  refine g_putU S hK I k_J24 (v := .int (mc + 1)) (gput_self _ _ _ _ _) 0 (by decide) q605 q601 rfl rfl rfl (Nat.le_of_ble_eq_true rfl) dJ24_unlink_86 (fun H locs I => ?_)
  have I : g_I Γ (gput (gput (gput (gput (gput ph j i q (.inr (24, [.int mc, .int (nI (0 + 1)), .null, .ref (na 0)]))) j i q (.inr (24, [.int mc, .int (nI (0 + 1)), .null, .null]))) jn i (na 0) (.inr (27, [.null, .null, .null]))) j i q (.inr (24, [.int mc, .int ((nI (0 + 1)) - 1), .null, .null]))) j i q (.inr (24, [.int (mc + 1), .int ((nI (0 + 1)) - 1), .null, .null]))) s _ _ := I
  refine lv_aload_n hx hb dJ24_unlink_89 rfl (lv_at hl 2 rfl) ?_
  exact g_aret S hr (Or.inl ⟨_, rfl⟩) hlk I dJ24_unlink_90 (Nat.le_of_ble_eq_true rfl) (Nat.le_of_ble_eq_true rfl) hQ ⟨_, rfl, ⟨rfl, ll_del (k := 0) hL (by omega) (by rw [show lkF 0 (delN na 0) = .null from by simp [lkF, delN], show lkL 0 (delN na 0) = .null from rfl]; exact (gput_self _ _ _ _ _)) (fun z => absurd z (Nat.lt_irrefl _)) (fun z => absurd z (Nat.lt_irrefl _)) (fun a9 h9 p9 n9 => by simp [gput, gset, pput, h9, hj, Ne.symm hj]), (g_fr.put (g_fr.put (g_fr.put (g_fr.put (g_fr.put (g_fr.refl _ _) (by simp)) (by simp)) (by simp)) (by simp)) (by simp))⟩⟩

set_option maxHeartbeats 4000000 in
set_option maxRecDepth 100000 in
theorem met_J24_unlink_B (l : Launch) (Γ : g_C) (ph : g_H) (j i q jn n0 : Nat) (na it : Nat → Nat) (mc : Int32)   (hj : j ≠ jn) (hL : g_LL ph j i q jn ((n0 + 1) + 1) na it mc) : g_Met l yJ24_unlink (ws_ yJ24_unlink cJ24_unlink 5 (some (.object "java/lang/Object"))) (g_rm 1 0 0) Γ [.ref q, .ref (na 0)] (ph) (g_or (fun rv_ ph' => rv_ = it 0 ∧ g_LL ph' j i q jn (n0 + 1) (delN na 0) (delN it 0) (mc + 1) ∧ g_fr [(j, i), (jn, i)] ph ph')) g_no := by
  refine g_start (y := yJ24_unlink) (cc := cJ24_unlink) (maxL := 5) (ret := (some (.object "java/lang/Object"))) (rm := g_rm 1 0 0) (by decide) (Nat.le_of_ble_eq_true rfl) ?_
  intro p e s m A below meth c ls Q hQ S hr hlk hex hnm hK I hl
  have hx := S.1
  have hb := S.2.1
  have hown := S.2.2.2.1
  have hts := S.2.2.2.2
  have S : CallFix p m c cJ24_unlink 5 s A lw_all "java/util/LinkedList" := S
  have hl : lv_has ls 5 [(0, .ref q), (1, .ref (na 0))] := hl
  have hq : ph j i q = some (.inr (24, [.int mc, .int (nI ((n0 + 1) + 1)), .ref (na 0), .ref (na (n0 + 1))])) := hL.1
  have hx0 : ph jn i (na 0) = some (.inr (27, [.ref (it 0), .ref (na (0 + 1)), .null])) := by have z := hL.2.1 0 (by omega); rw [show lkN 0 ((n0 + 1) + 1) na = .ref (na (0 + 1)) from if_pos (by omega)] at z; exact z
  have hxn : ph jn i (na (0 + 1)) = some (.inr (27, [.ref (it (0 + 1)), (lkN (0 + 1) ((n0 + 1) + 1) na), .ref (na 0)])) := hL.2.1 (0 + 1) (by omega)
  have dxn : (na 0) ≠ (na (0 + 1)) := fun z => by have := hL.2.2 _ _ (show 0 < (n0 + 1) + 1 by omega) (show 0 + 1 < (n0 + 1) + 1 by omega) z; omega
  refine lv_aload_n hx hb dJ24_unlink_0 rfl (lv_at hl 1 rfl) ?_
  refine g_get S hK I k_J34 (v := .ref (it 0)) (g_at.of hx0) 0 (by decide) q1611 rfl rfl dJ24_unlink_1 ?_
  refine lv_astore_n (lv' := [(2, .ref (it 0)), (0, .ref q), (1, .ref (na 0))]) hx hb dJ24_unlink_4 rfl hl (by decide) rfl (fun ls hl => ?_)
  refine lv_aload_n hx hb dJ24_unlink_5 rfl (lv_at hl 2 rfl) ?_
  refine g_get S hK I k_J34 (v := .ref (na (0 + 1))) (g_at.of hx0) 1 (by decide) q1614 rfl rfl dJ24_unlink_6 ?_
  refine lv_astore_n (lv' := [(3, .ref (na (0 + 1))), (2, .ref (it 0)), (0, .ref q), (1, .ref (na 0))]) hx hb dJ24_unlink_9 rfl hl (by decide) rfl (fun ls hl => ?_)
  refine lv_aload_n hx hb dJ24_unlink_10 rfl (lv_at hl 3 rfl) ?_
  refine g_get S hK I k_J34 (v := .null) (g_at.of hx0) 2 (by decide) q1617 rfl rfl dJ24_unlink_11 ?_
  refine lv_astoreN (lv' := [(4, .null), (3, .ref (na (0 + 1))), (2, .ref (it 0)), (0, .ref q), (1, .ref (na 0))]) hx hb dJ24_unlink_14 hl (by decide) rfl (fun ls hl => ?_)
  refine lv_aloadN hx hb dJ24_unlink_16 (lv_at hl 0 rfl) ?_
  refine lv_ifnonnullN hx hb dJ24_unlink_18 ?_
  refine lv_aload_n hx hb dJ24_unlink_21 rfl (lv_at hl 3 rfl) ?_
  refine lv_aload_n hx hb dJ24_unlink_22 rfl (lv_at hl 1 rfl) ?_
  refine g_put S hK I k_J24 (v := .ref (na (0 + 1))) hq 2 (by decide) q625 rfl rfl rfl rfl (Nat.le_of_ble_eq_true rfl) dJ24_unlink_23 (fun H locs I => ?_)
  have I : g_I Γ (gput ph j i q (.inr (24, [.int mc, .int (nI ((n0 + 1) + 1)), .ref (na (0 + 1)), .ref (na (n0 + 1))]))) s _ _ := I
  refine lv_goto (tgt := 40) hx hb dJ24_unlink_26 (by decide) ?_
  refine lv_aload_n hx hb dJ24_unlink_40 rfl (lv_at hl 1 rfl) ?_
  refine lv_ifnonnull (tgt := 53) hx hb dJ24_unlink_41 (by decide) ?_
  refine lv_aload_n hx hb dJ24_unlink_53 rfl (lv_at hl 1 rfl) ?_
  refine lv_aloadN hx hb dJ24_unlink_54 (lv_at hl 0 rfl) ?_
  refine g_put S hK I k_J34 (v := .null) ((g_oj (Ne.symm hj)).trans hxn) 2 (by decide) q1617 rfl rfl rfl rfl (Nat.le_of_ble_eq_true rfl) dJ24_unlink_56 (fun H locs I => ?_)
  have I : g_I Γ (gput (gput ph j i q (.inr (24, [.int mc, .int (nI ((n0 + 1) + 1)), .ref (na (0 + 1)), .ref (na (n0 + 1))]))) jn i (na (0 + 1)) (.inr (27, [.ref (it (0 + 1)), (lkN (0 + 1) ((n0 + 1) + 1) na), .null]))) s _ _ := I
  refine lv_aload_n hx hb dJ24_unlink_59 rfl (lv_at hl 4 rfl) ?_
  refine lv_null hx hb dJ24_unlink_60 ?_
  refine g_put S hK I k_J34 (v := .null) ((g_oa dxn).trans ((g_oj (Ne.symm hj)).trans hx0)) 1 (by decide) q1614 rfl rfl rfl rfl (Nat.le_of_ble_eq_true rfl) dJ24_unlink_61 (fun H locs I => ?_)
  have I : g_I Γ (gput (gput (gput ph j i q (.inr (24, [.int mc, .int (nI ((n0 + 1) + 1)), .ref (na (0 + 1)), .ref (na (n0 + 1))]))) jn i (na (0 + 1)) (.inr (27, [.ref (it (0 + 1)), (lkN (0 + 1) ((n0 + 1) + 1) na), .null]))) jn i (na 0) (.inr (27, [.ref (it 0), .null, .null]))) s _ _ := I
  refine lv_aload_n hx hb dJ24_unlink_64 rfl (lv_at hl 4 rfl) ?_
  refine lv_null hx hb dJ24_unlink_65 ?_
  refine g_put S hK I k_J34 (v := .null) (gput_self _ _ _ _ _) 0 (by decide) q1611 rfl rfl rfl rfl (Nat.le_of_ble_eq_true rfl) dJ24_unlink_66 (fun H locs I => ?_)
  have I : g_I Γ (gput (gput (gput (gput ph j i q (.inr (24, [.int mc, .int (nI ((n0 + 1) + 1)), .ref (na (0 + 1)), .ref (na (n0 + 1))]))) jn i (na (0 + 1)) (.inr (27, [.ref (it (0 + 1)), (lkN (0 + 1) ((n0 + 1) + 1) na), .null]))) jn i (na 0) (.inr (27, [.ref (it 0), .null, .null]))) jn i (na 0) (.inr (27, [.null, .null, .null]))) s _ _ := I
  refine lv_aload_n hx hb dJ24_unlink_69 rfl (lv_at hl 3 rfl) ?_
  refine lv_dup hx hb dJ24_unlink_70 rfl ?_
  refine g_get S hK I k_J24 (v := .int (nI ((n0 + 1) + 1))) (g_at.of ((g_oj hj).trans ((g_oj hj).trans ((g_oj hj).trans (gput_self _ _ _ _ _))))) 1 (by decide) q623 rfl rfl dJ24_unlink_71 ?_
  refine lv_iconst (v := 1) hx hb dJ24_unlink_74 (by decide) ?_
  refine lv_isub hx hb dJ24_unlink_75 ?_
  refine g_put S hK I k_J24 (v := .int ((nI ((n0 + 1) + 1)) - 1)) ((g_oj hj).trans ((g_oj hj).trans ((g_oj hj).trans (gput_self _ _ _ _ _)))) 1 (by decide) q623 rfl rfl rfl rfl (Nat.le_of_ble_eq_true rfl) dJ24_unlink_76 (fun H locs I => ?_)
  have I : g_I Γ (gput (gput (gput (gput (gput ph j i q (.inr (24, [.int mc, .int (nI ((n0 + 1) + 1)), .ref (na (0 + 1)), .ref (na (n0 + 1))]))) jn i (na (0 + 1)) (.inr (27, [.ref (it (0 + 1)), (lkN (0 + 1) ((n0 + 1) + 1) na), .null]))) jn i (na 0) (.inr (27, [.ref (it 0), .null, .null]))) jn i (na 0) (.inr (27, [.null, .null, .null]))) j i q (.inr (24, [.int mc, .int ((nI ((n0 + 1) + 1)) - 1), .ref (na (0 + 1)), .ref (na (n0 + 1))]))) s _ _ := I
  refine lv_aload_n hx hb dJ24_unlink_79 rfl (lv_at hl 3 rfl) ?_
  refine lv_dup hx hb dJ24_unlink_80 rfl ?_
  refine g_getU S hK I k_J24 (v := .int mc) (g_at.of (gput_self _ _ _ _ _)) 0 (by decide) q605 q601 rfl dJ24_unlink_81 ?_
  refine lv_iconst (v := 1) hx hb dJ24_unlink_84 (by decide) ?_
  refine lv_iadd hx hb dJ24_unlink_85 ?_
  refine g_putU S hK I k_J24 (v := .int (mc + 1)) (gput_self _ _ _ _ _) 0 (by decide) q605 q601 rfl rfl rfl (Nat.le_of_ble_eq_true rfl) dJ24_unlink_86 (fun H locs I => ?_)
  have I : g_I Γ (gput (gput (gput (gput (gput (gput ph j i q (.inr (24, [.int mc, .int (nI ((n0 + 1) + 1)), .ref (na (0 + 1)), .ref (na (n0 + 1))]))) jn i (na (0 + 1)) (.inr (27, [.ref (it (0 + 1)), (lkN (0 + 1) ((n0 + 1) + 1) na), .null]))) jn i (na 0) (.inr (27, [.ref (it 0), .null, .null]))) jn i (na 0) (.inr (27, [.null, .null, .null]))) j i q (.inr (24, [.int mc, .int ((nI ((n0 + 1) + 1)) - 1), .ref (na (0 + 1)), .ref (na (n0 + 1))]))) j i q (.inr (24, [.int (mc + 1), .int ((nI ((n0 + 1) + 1)) - 1), .ref (na (0 + 1)), .ref (na (n0 + 1))]))) s _ _ := I
  refine lv_aload_n hx hb dJ24_unlink_89 rfl (lv_at hl 2 rfl) ?_
  exact g_aret S hr (Or.inl ⟨_, rfl⟩) hlk I dJ24_unlink_90 (Nat.le_of_ble_eq_true rfl) (Nat.le_of_ble_eq_true rfl) hQ ⟨_, rfl, ⟨rfl, ll_del (k := 0) hL (by omega) (by rw [show lkF (n0 + 1) (delN na 0) = .ref (na (0 + 1)) from by simp [lkF, delN], show lkL (n0 + 1) (delN na 0) = .ref (na (n0 + 1)) from by simp [lkL, delN]]; exact (gput_self _ _ _ _ _)) (fun z => absurd z (Nat.lt_irrefl _)) (fun _ => ((g_oj (Ne.symm hj)).trans ((g_oj (Ne.symm hj)).trans ((g_oa (Ne.symm dxn)).trans ((g_oa (Ne.symm dxn)).trans (gput_self _ _ _ _ _)))))) (fun a9 h9 p9 n9 => by simp [gput, gset, pput, h9, hj, Ne.symm hj, show a9 ≠ (na (0 + 1)) from n9 (by omega)]), (g_fr.put (g_fr.put (g_fr.put (g_fr.put (g_fr.put (g_fr.put (g_fr.refl _ _) (by simp)) (by simp)) (by simp)) (by simp)) (by simp)) (by simp))⟩⟩

set_option maxHeartbeats 4000000 in
set_option maxRecDepth 100000 in
theorem met_J24_unlink_C (l : Launch) (Γ : g_C) (ph : g_H) (j i q jn k0 : Nat) (na it : Nat → Nat) (mc : Int32)   (hj : j ≠ jn) (hL : g_LL ph j i q jn ((k0 + 1) + 1) na it mc) : g_Met l yJ24_unlink (ws_ yJ24_unlink cJ24_unlink 5 (some (.object "java/lang/Object"))) (g_rm 1 0 0) Γ [.ref q, .ref (na (k0 + 1))] (ph) (g_or (fun rv_ ph' => rv_ = it (k0 + 1) ∧ g_LL ph' j i q jn (k0 + 1) (delN na (k0 + 1)) (delN it (k0 + 1)) (mc + 1) ∧ g_fr [(j, i), (jn, i)] ph ph')) g_no := by
  refine g_start (y := yJ24_unlink) (cc := cJ24_unlink) (maxL := 5) (ret := (some (.object "java/lang/Object"))) (rm := g_rm 1 0 0) (by decide) (Nat.le_of_ble_eq_true rfl) ?_
  intro p e s m A below meth c ls Q hQ S hr hlk hex hnm hK I hl
  have hx := S.1
  have hb := S.2.1
  have hown := S.2.2.2.1
  have hts := S.2.2.2.2
  have S : CallFix p m c cJ24_unlink 5 s A lw_all "java/util/LinkedList" := S
  have hl : lv_has ls 5 [(0, .ref q), (1, .ref (na (k0 + 1)))] := hl
  have hq : ph j i q = some (.inr (24, [.int mc, .int (nI ((k0 + 1) + 1)), .ref (na 0), .ref (na (k0 + 1))])) := hL.1
  have hx0 : ph jn i (na (k0 + 1)) = some (.inr (27, [.ref (it (k0 + 1)), .null, .ref (na k0)])) := by have z := hL.2.1 (k0 + 1) (by omega); rw [show lkN (k0 + 1) ((k0 + 1) + 1) na = .null from if_neg (by omega)] at z; exact z
  have hxp : ph jn i (na k0) = some (.inr (27, [.ref (it k0), .ref (na (k0 + 1)), (lkP k0 na)])) := by have z := hL.2.1 k0 (by omega); rw [show lkN k0 ((k0 + 1) + 1) na = .ref (na (k0 + 1)) from if_pos (by omega)] at z; exact z
  have dxp : (na (k0 + 1)) ≠ (na k0) := fun z => by have := hL.2.2 _ _ (show (k0 + 1) < (k0 + 1) + 1 by omega) (show k0 < (k0 + 1) + 1 by omega) z; omega
  refine lv_aload_n hx hb dJ24_unlink_0 rfl (lv_at hl 1 rfl) ?_
  refine g_get S hK I k_J34 (v := .ref (it (k0 + 1))) (g_at.of hx0) 0 (by decide) q1611 rfl rfl dJ24_unlink_1 ?_
  refine lv_astore_n (lv' := [(2, .ref (it (k0 + 1))), (0, .ref q), (1, .ref (na (k0 + 1)))]) hx hb dJ24_unlink_4 rfl hl (by decide) rfl (fun ls hl => ?_)
  refine lv_aload_n hx hb dJ24_unlink_5 rfl (lv_at hl 2 rfl) ?_
  refine g_get S hK I k_J34 (v := .null) (g_at.of hx0) 1 (by decide) q1614 rfl rfl dJ24_unlink_6 ?_
  refine lv_astore_nN (lv' := [(3, .null), (2, .ref (it (k0 + 1))), (0, .ref q), (1, .ref (na (k0 + 1)))]) hx hb dJ24_unlink_9 rfl hl (by decide) rfl (fun ls hl => ?_)
  refine lv_aload_n hx hb dJ24_unlink_10 rfl (lv_at hl 3 rfl) ?_
  refine g_get S hK I k_J34 (v := .ref (na k0)) (g_at.of hx0) 2 (by decide) q1617 rfl rfl dJ24_unlink_11 ?_
  refine lv_astore (lv' := [(4, .ref (na k0)), (3, .null), (2, .ref (it (k0 + 1))), (0, .ref q), (1, .ref (na (k0 + 1)))]) hx hb dJ24_unlink_14 hl (by decide) rfl (fun ls hl => ?_)
  refine lv_aload hx hb dJ24_unlink_16 (lv_at hl 0 rfl) ?_
  refine lv_ifnonnull (tgt := 29) hx hb dJ24_unlink_18 (by decide) ?_
  refine lv_aload hx hb dJ24_unlink_29 (lv_at hl 0 rfl) ?_
  refine lv_aload_nN hx hb dJ24_unlink_31 rfl (lv_at hl 1 rfl) ?_
  refine g_put S hK I k_J34 (v := .null) hxp 1 (by decide) q1614 rfl rfl rfl rfl (Nat.le_of_ble_eq_true rfl) dJ24_unlink_32 (fun H locs I => ?_)
  have I : g_I Γ (gput ph jn i (na k0) (.inr (27, [.ref (it k0), .null, (lkP k0 na)]))) s _ _ := I
  refine lv_aload_n hx hb dJ24_unlink_35 rfl (lv_at hl 4 rfl) ?_
  refine lv_null hx hb dJ24_unlink_36 ?_
  refine g_put S hK I k_J34 (v := .null) ((g_oa dxp).trans hx0) 2 (by decide) q1617 rfl rfl rfl rfl (Nat.le_of_ble_eq_true rfl) dJ24_unlink_37 (fun H locs I => ?_)
  have I : g_I Γ (gput (gput ph jn i (na k0) (.inr (27, [.ref (it k0), .null, (lkP k0 na)]))) jn i (na (k0 + 1)) (.inr (27, [.ref (it (k0 + 1)), .null, .null]))) s _ _ := I
  refine lv_aload_nN hx hb dJ24_unlink_40 rfl (lv_at hl 1 rfl) ?_
  refine lv_ifnonnullN hx hb dJ24_unlink_41 ?_
  refine lv_aload_n hx hb dJ24_unlink_44 rfl (lv_at hl 3 rfl) ?_
  refine lv_aload hx hb dJ24_unlink_45 (lv_at hl 0 rfl) ?_
  refine g_put S hK I k_J24 (v := .ref (na k0)) ((g_oj hj).trans ((g_oj hj).trans hq)) 3 (by decide) q626 rfl rfl rfl rfl (Nat.le_of_ble_eq_true rfl) dJ24_unlink_47 (fun H locs I => ?_)
  have I : g_I Γ (gput (gput (gput ph jn i (na k0) (.inr (27, [.ref (it k0), .null, (lkP k0 na)]))) jn i (na (k0 + 1)) (.inr (27, [.ref (it (k0 + 1)), .null, .null]))) j i q (.inr (24, [.int mc, .int (nI ((k0 + 1) + 1)), .ref (na 0), .ref (na k0)]))) s _ _ := I
  refine lv_goto (tgt := 64) hx hb dJ24_unlink_50 (by decide) ?_
  refine lv_aload_n hx hb dJ24_unlink_64 rfl (lv_at hl 4 rfl) ?_
  refine lv_null hx hb dJ24_unlink_65 ?_
  refine g_put S hK I k_J34 (v := .null) ((g_oj (Ne.symm hj)).trans (gput_self _ _ _ _ _)) 0 (by decide) q1611 rfl rfl rfl rfl (Nat.le_of_ble_eq_true rfl) dJ24_unlink_66 (fun H locs I => ?_)
  have I : g_I Γ (gput (gput (gput (gput ph jn i (na k0) (.inr (27, [.ref (it k0), .null, (lkP k0 na)]))) jn i (na (k0 + 1)) (.inr (27, [.ref (it (k0 + 1)), .null, .null]))) j i q (.inr (24, [.int mc, .int (nI ((k0 + 1) + 1)), .ref (na 0), .ref (na k0)]))) jn i (na (k0 + 1)) (.inr (27, [.null, .null, .null]))) s _ _ := I
  refine lv_aload_n hx hb dJ24_unlink_69 rfl (lv_at hl 3 rfl) ?_
  refine lv_dup hx hb dJ24_unlink_70 rfl ?_
  refine g_get S hK I k_J24 (v := .int (nI ((k0 + 1) + 1))) (g_at.of ((g_oj hj).trans (gput_self _ _ _ _ _))) 1 (by decide) q623 rfl rfl dJ24_unlink_71 ?_
  refine lv_iconst (v := 1) hx hb dJ24_unlink_74 (by decide) ?_
  refine lv_isub hx hb dJ24_unlink_75 ?_
  refine g_put S hK I k_J24 (v := .int ((nI ((k0 + 1) + 1)) - 1)) ((g_oj hj).trans (gput_self _ _ _ _ _)) 1 (by decide) q623 rfl rfl rfl rfl (Nat.le_of_ble_eq_true rfl) dJ24_unlink_76 (fun H locs I => ?_)
  have I : g_I Γ (gput (gput (gput (gput (gput ph jn i (na k0) (.inr (27, [.ref (it k0), .null, (lkP k0 na)]))) jn i (na (k0 + 1)) (.inr (27, [.ref (it (k0 + 1)), .null, .null]))) j i q (.inr (24, [.int mc, .int (nI ((k0 + 1) + 1)), .ref (na 0), .ref (na k0)]))) jn i (na (k0 + 1)) (.inr (27, [.null, .null, .null]))) j i q (.inr (24, [.int mc, .int ((nI ((k0 + 1) + 1)) - 1), .ref (na 0), .ref (na k0)]))) s _ _ := I
  refine lv_aload_n hx hb dJ24_unlink_79 rfl (lv_at hl 3 rfl) ?_
  refine lv_dup hx hb dJ24_unlink_80 rfl ?_
  refine g_getU S hK I k_J24 (v := .int mc) (g_at.of (gput_self _ _ _ _ _)) 0 (by decide) q605 q601 rfl dJ24_unlink_81 ?_
  refine lv_iconst (v := 1) hx hb dJ24_unlink_84 (by decide) ?_
  refine lv_iadd hx hb dJ24_unlink_85 ?_
  refine g_putU S hK I k_J24 (v := .int (mc + 1)) (gput_self _ _ _ _ _) 0 (by decide) q605 q601 rfl rfl rfl (Nat.le_of_ble_eq_true rfl) dJ24_unlink_86 (fun H locs I => ?_)
  have I : g_I Γ (gput (gput (gput (gput (gput (gput ph jn i (na k0) (.inr (27, [.ref (it k0), .null, (lkP k0 na)]))) jn i (na (k0 + 1)) (.inr (27, [.ref (it (k0 + 1)), .null, .null]))) j i q (.inr (24, [.int mc, .int (nI ((k0 + 1) + 1)), .ref (na 0), .ref (na k0)]))) jn i (na (k0 + 1)) (.inr (27, [.null, .null, .null]))) j i q (.inr (24, [.int mc, .int ((nI ((k0 + 1) + 1)) - 1), .ref (na 0), .ref (na k0)]))) j i q (.inr (24, [.int (mc + 1), .int ((nI ((k0 + 1) + 1)) - 1), .ref (na 0), .ref (na k0)]))) s _ _ := I
  refine lv_aload_n hx hb dJ24_unlink_89 rfl (lv_at hl 2 rfl) ?_
  exact g_aret S hr (Or.inl ⟨_, rfl⟩) hlk I dJ24_unlink_90 (Nat.le_of_ble_eq_true rfl) (Nat.le_of_ble_eq_true rfl) hQ ⟨_, rfl, ⟨rfl, ll_del (k := (k0 + 1)) hL (by omega) (by rw [show lkF (k0 + 1) (delN na (k0 + 1)) = .ref (na 0) from by simp [lkF, delN], show lkL (k0 + 1) (delN na (k0 + 1)) = .ref (na k0) from by simp [lkL, delN]]; exact (gput_self _ _ _ _ _)) (fun _ => by rw [show lkN (k0 + 1) ((k0 + 1) + 1) na = .null from if_neg (by omega)]; exact ((g_oj (Ne.symm hj)).trans ((g_oj (Ne.symm hj)).trans ((g_oa (Ne.symm dxp)).trans ((g_oj (Ne.symm hj)).trans ((g_oa (Ne.symm dxp)).trans (gput_self _ _ _ _ _))))))) (fun z => absurd z (Nat.lt_irrefl _)) (fun a9 h9 p9 n9 => by simp [gput, gset, pput, h9, hj, Ne.symm hj, show a9 ≠ na k0 from p9 (Nat.succ_pos _)]), (g_fr.put (g_fr.put (g_fr.put (g_fr.put (g_fr.put (g_fr.put (g_fr.refl _ _) (by simp)) (by simp)) (by simp)) (by simp)) (by simp)) (by simp))⟩⟩

set_option maxHeartbeats 4000000 in
set_option maxRecDepth 100000 in
theorem met_J24_unlink_D (l : Launch) (Γ : g_C) (ph : g_H) (j i q jn k0 n0 : Nat) (na it : Nat → Nat) (mc : Int32)   (hj : j ≠ jn) (hL : g_LL ph j i q jn ((k0 + n0 + 2) + 1) na it mc) : g_Met l yJ24_unlink (ws_ yJ24_unlink cJ24_unlink 5 (some (.object "java/lang/Object"))) (g_rm 1 0 0) Γ [.ref q, .ref (na (k0 + 1))] (ph) (g_or (fun rv_ ph' => rv_ = it (k0 + 1) ∧ g_LL ph' j i q jn (k0 + n0 + 2) (delN na (k0 + 1)) (delN it (k0 + 1)) (mc + 1) ∧ g_fr [(j, i), (jn, i)] ph ph')) g_no := by
  refine g_start (y := yJ24_unlink) (cc := cJ24_unlink) (maxL := 5) (ret := (some (.object "java/lang/Object"))) (rm := g_rm 1 0 0) (by decide) (Nat.le_of_ble_eq_true rfl) ?_
  intro p e s m A below meth c ls Q hQ S hr hlk hex hnm hK I hl
  have hx := S.1
  have hb := S.2.1
  have hown := S.2.2.2.1
  have hts := S.2.2.2.2
  have S : CallFix p m c cJ24_unlink 5 s A lw_all "java/util/LinkedList" := S
  have hl : lv_has ls 5 [(0, .ref q), (1, .ref (na (k0 + 1)))] := hl
  have hq : ph j i q = some (.inr (24, [.int mc, .int (nI ((k0 + n0 + 2) + 1)), .ref (na 0), .ref (na (k0 + n0 + 2))])) := hL.1
  have hx0 : ph jn i (na (k0 + 1)) = some (.inr (27, [.ref (it (k0 + 1)), .ref (na ((k0 + 1) + 1)), .ref (na k0)])) := by have z := hL.2.1 (k0 + 1) (by omega); rw [show lkN (k0 + 1) ((k0 + n0 + 2) + 1) na = .ref (na ((k0 + 1) + 1)) from if_pos (by omega)] at z; exact z
  have hxp : ph jn i (na k0) = some (.inr (27, [.ref (it k0), .ref (na (k0 + 1)), (lkP k0 na)])) := by have z := hL.2.1 k0 (by omega); rw [show lkN k0 ((k0 + n0 + 2) + 1) na = .ref (na (k0 + 1)) from if_pos (by omega)] at z; exact z
  have dxp : (na (k0 + 1)) ≠ (na k0) := fun z => by have := hL.2.2 _ _ (show (k0 + 1) < (k0 + n0 + 2) + 1 by omega) (show k0 < (k0 + n0 + 2) + 1 by omega) z; omega
  have hxn : ph jn i (na ((k0 + 1) + 1)) = some (.inr (27, [.ref (it ((k0 + 1) + 1)), (lkN ((k0 + 1) + 1) ((k0 + n0 + 2) + 1) na), .ref (na (k0 + 1))])) := hL.2.1 ((k0 + 1) + 1) (by omega)
  have dxn : (na (k0 + 1)) ≠ (na ((k0 + 1) + 1)) := fun z => by have := hL.2.2 _ _ (show (k0 + 1) < (k0 + n0 + 2) + 1 by omega) (show (k0 + 1) + 1 < (k0 + n0 + 2) + 1 by omega) z; omega
  have dpn : (na k0) ≠ (na ((k0 + 1) + 1)) := fun z => by have := hL.2.2 _ _ (show k0 < (k0 + n0 + 2) + 1 by omega) (show (k0 + 1) + 1 < (k0 + n0 + 2) + 1 by omega) z; omega
  refine lv_aload_n hx hb dJ24_unlink_0 rfl (lv_at hl 1 rfl) ?_
  refine g_get S hK I k_J34 (v := .ref (it (k0 + 1))) (g_at.of hx0) 0 (by decide) q1611 rfl rfl dJ24_unlink_1 ?_
  refine lv_astore_n (lv' := [(2, .ref (it (k0 + 1))), (0, .ref q), (1, .ref (na (k0 + 1)))]) hx hb dJ24_unlink_4 rfl hl (by decide) rfl (fun ls hl => ?_)
  refine lv_aload_n hx hb dJ24_unlink_5 rfl (lv_at hl 2 rfl) ?_
  refine g_get S hK I k_J34 (v := .ref (na ((k0 + 1) + 1))) (g_at.of hx0) 1 (by decide) q1614 rfl rfl dJ24_unlink_6 ?_
  refine lv_astore_n (lv' := [(3, .ref (na ((k0 + 1) + 1))), (2, .ref (it (k0 + 1))), (0, .ref q), (1, .ref (na (k0 + 1)))]) hx hb dJ24_unlink_9 rfl hl (by decide) rfl (fun ls hl => ?_)
  refine lv_aload_n hx hb dJ24_unlink_10 rfl (lv_at hl 3 rfl) ?_
  refine g_get S hK I k_J34 (v := .ref (na k0)) (g_at.of hx0) 2 (by decide) q1617 rfl rfl dJ24_unlink_11 ?_
  refine lv_astore (lv' := [(4, .ref (na k0)), (3, .ref (na ((k0 + 1) + 1))), (2, .ref (it (k0 + 1))), (0, .ref q), (1, .ref (na (k0 + 1)))]) hx hb dJ24_unlink_14 hl (by decide) rfl (fun ls hl => ?_)
  refine lv_aload hx hb dJ24_unlink_16 (lv_at hl 0 rfl) ?_
  refine lv_ifnonnull (tgt := 29) hx hb dJ24_unlink_18 (by decide) ?_
  refine lv_aload hx hb dJ24_unlink_29 (lv_at hl 0 rfl) ?_
  refine lv_aload_n hx hb dJ24_unlink_31 rfl (lv_at hl 1 rfl) ?_
  refine g_put S hK I k_J34 (v := .ref (na ((k0 + 1) + 1))) hxp 1 (by decide) q1614 rfl rfl rfl rfl (Nat.le_of_ble_eq_true rfl) dJ24_unlink_32 (fun H locs I => ?_)
  have I : g_I Γ (gput ph jn i (na k0) (.inr (27, [.ref (it k0), .ref (na ((k0 + 1) + 1)), (lkP k0 na)]))) s _ _ := I
  refine lv_aload_n hx hb dJ24_unlink_35 rfl (lv_at hl 4 rfl) ?_
  refine lv_null hx hb dJ24_unlink_36 ?_
  refine g_put S hK I k_J34 (v := .null) ((g_oa dxp).trans hx0) 2 (by decide) q1617 rfl rfl rfl rfl (Nat.le_of_ble_eq_true rfl) dJ24_unlink_37 (fun H locs I => ?_)
  have I : g_I Γ (gput (gput ph jn i (na k0) (.inr (27, [.ref (it k0), .ref (na ((k0 + 1) + 1)), (lkP k0 na)]))) jn i (na (k0 + 1)) (.inr (27, [.ref (it (k0 + 1)), .ref (na ((k0 + 1) + 1)), .null]))) s _ _ := I
  refine lv_aload_n hx hb dJ24_unlink_40 rfl (lv_at hl 1 rfl) ?_
  refine lv_ifnonnull (tgt := 53) hx hb dJ24_unlink_41 (by decide) ?_
  refine lv_aload_n hx hb dJ24_unlink_53 rfl (lv_at hl 1 rfl) ?_
  refine lv_aload hx hb dJ24_unlink_54 (lv_at hl 0 rfl) ?_
  refine g_put S hK I k_J34 (v := .ref (na k0)) ((g_oa (Ne.symm dxn)).trans ((g_oa (Ne.symm dpn)).trans hxn)) 2 (by decide) q1617 rfl rfl rfl rfl (Nat.le_of_ble_eq_true rfl) dJ24_unlink_56 (fun H locs I => ?_)
  have I : g_I Γ (gput (gput (gput ph jn i (na k0) (.inr (27, [.ref (it k0), .ref (na ((k0 + 1) + 1)), (lkP k0 na)]))) jn i (na (k0 + 1)) (.inr (27, [.ref (it (k0 + 1)), .ref (na ((k0 + 1) + 1)), .null]))) jn i (na ((k0 + 1) + 1)) (.inr (27, [.ref (it ((k0 + 1) + 1)), (lkN ((k0 + 1) + 1) ((k0 + n0 + 2) + 1) na), .ref (na k0)]))) s _ _ := I
  refine lv_aload_n hx hb dJ24_unlink_59 rfl (lv_at hl 4 rfl) ?_
  refine lv_null hx hb dJ24_unlink_60 ?_
  refine g_put S hK I k_J34 (v := .null) ((g_oa dxn).trans (gput_self _ _ _ _ _)) 1 (by decide) q1614 rfl rfl rfl rfl (Nat.le_of_ble_eq_true rfl) dJ24_unlink_61 (fun H locs I => ?_)
  have I : g_I Γ (gput (gput (gput (gput ph jn i (na k0) (.inr (27, [.ref (it k0), .ref (na ((k0 + 1) + 1)), (lkP k0 na)]))) jn i (na (k0 + 1)) (.inr (27, [.ref (it (k0 + 1)), .ref (na ((k0 + 1) + 1)), .null]))) jn i (na ((k0 + 1) + 1)) (.inr (27, [.ref (it ((k0 + 1) + 1)), (lkN ((k0 + 1) + 1) ((k0 + n0 + 2) + 1) na), .ref (na k0)]))) jn i (na (k0 + 1)) (.inr (27, [.ref (it (k0 + 1)), .null, .null]))) s _ _ := I
  refine lv_aload_n hx hb dJ24_unlink_64 rfl (lv_at hl 4 rfl) ?_
  refine lv_null hx hb dJ24_unlink_65 ?_
  refine g_put S hK I k_J34 (v := .null) (gput_self _ _ _ _ _) 0 (by decide) q1611 rfl rfl rfl rfl (Nat.le_of_ble_eq_true rfl) dJ24_unlink_66 (fun H locs I => ?_)
  have I : g_I Γ (gput (gput (gput (gput (gput ph jn i (na k0) (.inr (27, [.ref (it k0), .ref (na ((k0 + 1) + 1)), (lkP k0 na)]))) jn i (na (k0 + 1)) (.inr (27, [.ref (it (k0 + 1)), .ref (na ((k0 + 1) + 1)), .null]))) jn i (na ((k0 + 1) + 1)) (.inr (27, [.ref (it ((k0 + 1) + 1)), (lkN ((k0 + 1) + 1) ((k0 + n0 + 2) + 1) na), .ref (na k0)]))) jn i (na (k0 + 1)) (.inr (27, [.ref (it (k0 + 1)), .null, .null]))) jn i (na (k0 + 1)) (.inr (27, [.null, .null, .null]))) s _ _ := I
  refine lv_aload_n hx hb dJ24_unlink_69 rfl (lv_at hl 3 rfl) ?_
  refine lv_dup hx hb dJ24_unlink_70 rfl ?_
  refine g_get S hK I k_J24 (v := .int (nI ((k0 + n0 + 2) + 1))) (g_at.of ((g_oj hj).trans ((g_oj hj).trans ((g_oj hj).trans ((g_oj hj).trans ((g_oj hj).trans hq)))))) 1 (by decide) q623 rfl rfl dJ24_unlink_71 ?_
  refine lv_iconst (v := 1) hx hb dJ24_unlink_74 (by decide) ?_
  refine lv_isub hx hb dJ24_unlink_75 ?_
  refine g_put S hK I k_J24 (v := .int ((nI ((k0 + n0 + 2) + 1)) - 1)) ((g_oj hj).trans ((g_oj hj).trans ((g_oj hj).trans ((g_oj hj).trans ((g_oj hj).trans hq))))) 1 (by decide) q623 rfl rfl rfl rfl (Nat.le_of_ble_eq_true rfl) dJ24_unlink_76 (fun H locs I => ?_)
  have I : g_I Γ (gput (gput (gput (gput (gput (gput ph jn i (na k0) (.inr (27, [.ref (it k0), .ref (na ((k0 + 1) + 1)), (lkP k0 na)]))) jn i (na (k0 + 1)) (.inr (27, [.ref (it (k0 + 1)), .ref (na ((k0 + 1) + 1)), .null]))) jn i (na ((k0 + 1) + 1)) (.inr (27, [.ref (it ((k0 + 1) + 1)), (lkN ((k0 + 1) + 1) ((k0 + n0 + 2) + 1) na), .ref (na k0)]))) jn i (na (k0 + 1)) (.inr (27, [.ref (it (k0 + 1)), .null, .null]))) jn i (na (k0 + 1)) (.inr (27, [.null, .null, .null]))) j i q (.inr (24, [.int mc, .int ((nI ((k0 + n0 + 2) + 1)) - 1), .ref (na 0), .ref (na (k0 + n0 + 2))]))) s _ _ := I
  refine lv_aload_n hx hb dJ24_unlink_79 rfl (lv_at hl 3 rfl) ?_
  refine lv_dup hx hb dJ24_unlink_80 rfl ?_
  refine g_getU S hK I k_J24 (v := .int mc) (g_at.of (gput_self _ _ _ _ _)) 0 (by decide) q605 q601 rfl dJ24_unlink_81 ?_
  refine lv_iconst (v := 1) hx hb dJ24_unlink_84 (by decide) ?_
  refine lv_iadd hx hb dJ24_unlink_85 ?_
  refine g_putU S hK I k_J24 (v := .int (mc + 1)) (gput_self _ _ _ _ _) 0 (by decide) q605 q601 rfl rfl rfl (Nat.le_of_ble_eq_true rfl) dJ24_unlink_86 (fun H locs I => ?_)
  have I : g_I Γ (gput (gput (gput (gput (gput (gput (gput ph jn i (na k0) (.inr (27, [.ref (it k0), .ref (na ((k0 + 1) + 1)), (lkP k0 na)]))) jn i (na (k0 + 1)) (.inr (27, [.ref (it (k0 + 1)), .ref (na ((k0 + 1) + 1)), .null]))) jn i (na ((k0 + 1) + 1)) (.inr (27, [.ref (it ((k0 + 1) + 1)), (lkN ((k0 + 1) + 1) ((k0 + n0 + 2) + 1) na), .ref (na k0)]))) jn i (na (k0 + 1)) (.inr (27, [.ref (it (k0 + 1)), .null, .null]))) jn i (na (k0 + 1)) (.inr (27, [.null, .null, .null]))) j i q (.inr (24, [.int mc, .int ((nI ((k0 + n0 + 2) + 1)) - 1), .ref (na 0), .ref (na (k0 + n0 + 2))]))) j i q (.inr (24, [.int (mc + 1), .int ((nI ((k0 + n0 + 2) + 1)) - 1), .ref (na 0), .ref (na (k0 + n0 + 2))]))) s _ _ := I
  refine lv_aload_n hx hb dJ24_unlink_89 rfl (lv_at hl 2 rfl) ?_
  exact g_aret S hr (Or.inl ⟨_, rfl⟩) hlk I dJ24_unlink_90 (Nat.le_of_ble_eq_true rfl) (Nat.le_of_ble_eq_true rfl) hQ ⟨_, rfl, ⟨rfl, ll_del (k := (k0 + 1)) hL (by omega) (by rw [show lkF (k0 + n0 + 2) (delN na (k0 + 1)) = .ref (na 0) from by simp [lkF, delN], show lkL (k0 + n0 + 2) (delN na (k0 + 1)) = .ref (na (k0 + n0 + 2)) from by unfold lkL; rw [if_neg (by omega), delN_ge (by omega), show k0 + n0 + 2 - 1 + 1 = k0 + n0 + 2 by omega]]; exact (gput_self _ _ _ _ _)) (fun _ => by rw [show lkN (k0 + 1) ((k0 + n0 + 2) + 1) na = .ref (na ((k0 + 1) + 1)) from if_pos (by omega)]; exact ((g_oj (Ne.symm hj)).trans ((g_oj (Ne.symm hj)).trans ((g_oa (Ne.symm dxp)).trans ((g_oa (Ne.symm dxp)).trans ((g_oa dpn).trans ((g_oa (Ne.symm dxp)).trans (gput_self _ _ _ _ _)))))))) (fun _ => ((g_oj (Ne.symm hj)).trans ((g_oj (Ne.symm hj)).trans ((g_oa (Ne.symm dxn)).trans ((g_oa (Ne.symm dxn)).trans (gput_self _ _ _ _ _)))))) (fun a9 h9 p9 n9 => by simp [gput, gset, pput, h9, hj, Ne.symm hj, show a9 ≠ na k0 from p9 (Nat.succ_pos _), show a9 ≠ (na ((k0 + 1) + 1)) from n9 (by omega)]), (g_fr.put (g_fr.put (g_fr.put (g_fr.put (g_fr.put (g_fr.put (g_fr.put (g_fr.refl _ _) (by simp)) (by simp)) (by simp)) (by simp)) (by simp)) (by simp)) (by simp))⟩⟩

theorem met_J24_unlink (l : Launch) (Γ : g_C) (ph : g_H) (j i q jn n k : Nat) (na it : Nat → Nat) (mc : Int32) (hj : j ≠ jn) (hk : k ≤ n) (hL : g_LL ph j i q jn (n + 1) na it mc) : g_Met l yJ24_unlink (ws_ yJ24_unlink cJ24_unlink 5 (some (.object "java/lang/Object"))) (g_rm 1 0 0) Γ [.ref q, .ref (na k)] ph (g_or (fun rv_ ph' => rv_ = it k ∧ g_LL ph' j i q jn n (delN na k) (delN it k) (mc + 1) ∧ g_fr [(j, i), (jn, i)] ph ph')) g_no := by
  cases k with
  | zero =>
    cases n with
    | zero => exact met_J24_unlink_A l Γ ph j i q jn na it mc hj hL
    | succ n0 => exact met_J24_unlink_B l Γ ph j i q jn n0 na it mc hj hL
  | succ k0 =>
    by_cases e : n = k0 + 1
    · subst e
      exact met_J24_unlink_C l Γ ph j i q jn k0 na it mc hj hL
    · obtain ⟨n0, rfl⟩ : ∃ n0, n = k0 + n0 + 2 := ⟨n - k0 - 2, by omega⟩
      exact met_J24_unlink_D l Γ ph j i q jn k0 n0 na it mc hj hL

/-! MADE ANEW: climbers, lamps, holds, lists of two; copies -/
set_option maxRecDepth 100000
theorem g_Wl.putI {Γ : g_C} {ph : g_H} {i : Nat} {ad na : Nat → Nat} {mc : Nat → Int32} {w : m_w} (h : g_Wl Γ ph i ad na mc w) {J i' a : Nat} {e : va_E} (hi : i' ≠ i) : g_Wl Γ (gput ph J i' a e) i ad na mc w := h.same (fun j _ => by unfold gput; exact gset_ne ph _ (fun z => hi z.2.symm))
section HR2
variable {p : Program} {l : Launch} {e : Env} {R : Room} {s : State} {m : MethodId} {args : Array Value} {below : List Frame} {meth : Method} {c : Code} {H : Heap} {locs : List Loc} {cells slots : Nat} {Q : State → Prop}
variable {cc : ByteArray} {pc : Nat} {ls : Array Slot} {rest : List Value} {Γ : g_C} {ph : g_H} {a nL : Nat} {own : String}
theorem h_putF (S : CallFix p m c cc nL s args lw_all own) (hK : g_K Γ s) (I : g_I Γ ph s H locs) {kd : Int32} {j i : Nat} {fs : List Value} {v : Value} {x : Int32} (hvx : v = .int x) (ha : ph j i a = some (.inr (hCl kd, fs))) (k : Nat) (hk : k < 4) {index : Nat} (hl : Cond.fieldLink own index own (TX9 k).2.1 (TX9 k).2.2.1 ∈ lw_all) (hr : (TX9 k).1 = own) (hin2 : meth.name = "<init>") (hlen : k < fs.length) (hdg : decode cc pc = .ok (.putfield index, 3))
    (kk : ∀ (H1 : Heap) (locs1 : List Loc), g_I Γ (gput ph j i a (.inr (hCl kd, fs.set k v))) s H1 locs1 → W p l e R s m args below meth c H1 locs1 cells slots Q (F0 m (pc + 3) ls rest)) : W p l e R s m args below meth c H locs cells slots Q (F0 m pc ls (v :: .ref a :: rest)) := by
  subst hvx
  have hfin : (TX9 k).2.2.2 = true ∧ narrow (tyX9 k) (.int x) = .int x ∧ fits (tyX9 k) (.int x) = true := by
    rcases (show k = 0 ∨ k = 1 ∨ k = 2 ∨ k = 3 by omega) with rfl | rfl | rfl | rfl <;> exact ⟨rfl, rfl, rfl⟩
  rcases hCl_or kd with e | e | e | e <;> rw [e] at ha kk
  · exact g_putF S hK I k_X9 ha k (by omega) hl hr hfin.1 hin2 hfin.2.1 hfin.2.2 hlen hdg kk
  · exact g_putF S hK I k_X11 ha k (by omega) (by rw [TX_11]; exact hl) (by rw [TX_11]; exact hr) (by rw [TX_11]; exact hfin.1) hin2 hfin.2.1 hfin.2.2 hlen hdg kk
  · exact g_putF S hK I k_X10 ha k (by omega) (by rw [TX_10]; exact hl) (by rw [TX_10]; exact hr) (by rw [TX_10]; exact hfin.1) hin2 hfin.2.1 hfin.2.2 hlen hdg kk
  · exact g_putF S hK I k_X8 ha k (by omega) (by rw [TX_8]; exact hl) (by rw [TX_8]; exact hr) (by rw [TX_8]; exact hfin.1) hin2 hfin.2.1 hfin.2.2 hlen hdg kk
end HR2
set_option maxHeartbeats 4000000 in
set_option maxRecDepth 100000 in
theorem met_X3_init (l : Launch) (Γ : g_C) (ph : g_H) (j i q : Nat) (x1 : Int32)   (hq : ph j i q = some (.inr (2, [.int 0, .int 0, .int 0, .int 0]))) : g_Met l yX3_init (ws_ yX3_init cX3_init 2 none) (g_rm 2 0 0) Γ [.ref q, .int x1] (ph) (g_ov (fun ph' => ph' j i q = some (.inr (2, [.int x1, .int (-1), .int 0, .int 20])) ∧ g_fr [(j, i)] ph ph')) g_no := by
  refine g_start (y := yX3_init) (cc := cX3_init) (maxL := 2) (ret := none) (rm := g_rm 2 0 0) (by decide) (Nat.le_of_ble_eq_true rfl) ?_
  intro p e s m A below meth c ls Q hQ S hr hlk hex hnm hK I hl
  have hx := S.1
  have hb := S.2.1
  have hown := S.2.2.2.1
  have hts := S.2.2.2.2
  have S : CallFix p m c cX3_init 2 s A lw_all "CrumblingWall$Climber" := S
  have hl : lv_has ls 2 [(0, .ref q), (1, .int x1)] := hl
  refine lv_aload_n hx hb dX3_init_0 rfl (lv_at hl 0 rfl) ?_
  refine g_obj S hl.1 q209 dX3_init_1 (Nat.le_of_ble_eq_true rfl) (Nat.le_of_ble_eq_true rfl) ?_
  refine lv_aload_n hx hb dX3_init_4 rfl (lv_at hl 0 rfl) ?_
  refine lv_iconst (v := (-1)) hx hb dX3_init_5 (by decide) ?_
  refine g_put S hK I k_X3 (v := .int (-1)) hq 1 (by decide) q211 rfl rfl rfl rfl (Nat.le_of_ble_eq_true rfl) dX3_init_6 (fun H locs I => ?_)
  have I : g_I Γ (gput ph j i q (.inr (2, [.int 0, .int (-1), .int 0, .int 0]))) s _ _ := I
  refine lv_aload_n hx hb dX3_init_9 rfl (lv_at hl 0 rfl) ?_
  refine lv_bipush (v := 20) hx hb dX3_init_10 (by decide) ?_
  refine g_put S hK I k_X3 (v := .int 20) (gput_self _ _ _ _ _) 3 (by decide) q217 rfl rfl rfl rfl (Nat.le_of_ble_eq_true rfl) dX3_init_12 (fun H locs I => ?_)
  have I : g_I Γ (gput (gput ph j i q (.inr (2, [.int 0, .int (-1), .int 0, .int 0]))) j i q (.inr (2, [.int 0, .int (-1), .int 0, .int 20]))) s _ _ := I
  refine lv_aload_n hx hb dX3_init_15 rfl (lv_at hl 0 rfl) ?_
  refine lv_iload_n hx hb dX3_init_16 rfl (lv_at hl 1 rfl) ?_
  refine g_putF S hK I k_X3 (v := .int x1) (gput_self _ _ _ _ _) 0 (by decide) q210 rfl rfl hnm rfl rfl (Nat.le_of_ble_eq_true rfl) dX3_init_17 (fun H locs I => ?_)
  have I : g_I Γ (gput (gput (gput ph j i q (.inr (2, [.int 0, .int (-1), .int 0, .int 0]))) j i q (.inr (2, [.int 0, .int (-1), .int 0, .int 20]))) j i q (.inr (2, [.int x1, .int (-1), .int 0, .int 20]))) s _ _ := I
  exact g_vret S hr hlk I dX3_init_20 (Nat.le_of_ble_eq_true rfl) (Nat.le_of_ble_eq_true rfl) hQ ⟨rfl, ⟨(gput_self _ _ _ _ _), ((((g_fr.refl _ _).put (by simp)).put (by simp)).put (by simp))⟩⟩

set_option maxHeartbeats 4000000 in
set_option maxRecDepth 100000 in
theorem met_X12_init (l : Launch) (Γ : g_C) (ph : g_H) (j i q : Nat) (x y z : Int32)   (hq : ph j i q = some (.inr (10, [.int 0, .int 0, .int 0, .int 0, .int 0]))) : g_Met l yX12_init (ws_ yX12_init cX12_init 4 none) (g_rm 2 0 0) Γ [.ref q, .int x, .int y, .int z] (ph) (g_ov (fun ph' => ph' j i q = some (.inr (10, [.int y, .int x, .int (-1), .int z, .int 0])) ∧ g_fr [(j, i)] ph ph')) g_no := by
  refine g_start (y := yX12_init) (cc := cX12_init) (maxL := 4) (ret := none) (rm := g_rm 2 0 0) (by decide) (Nat.le_of_ble_eq_true rfl) ?_
  intro p e s m A below meth c ls Q hQ S hr hlk hex hnm hK I hl
  have hx := S.1
  have hb := S.2.1
  have hown := S.2.2.2.1
  have hts := S.2.2.2.2
  have S : CallFix p m c cX12_init 4 s A lw_all "CrumblingWall$Lamp" := S
  have hl : lv_has ls 4 [(0, .ref q), (1, .int x), (2, .int y), (3, .int z)] := hl
  refine lv_aload_n hx hb dX12_init_0 rfl (lv_at hl 0 rfl) ?_
  refine g_obj S hl.1 q1569 dX12_init_1 (Nat.le_of_ble_eq_true rfl) (Nat.le_of_ble_eq_true rfl) ?_
  refine lv_aload_n hx hb dX12_init_4 rfl (lv_at hl 0 rfl) ?_
  refine lv_iconst (v := (-1)) hx hb dX12_init_5 (by decide) ?_
  refine g_put S hK I k_X12 (v := .int (-1)) hq 2 (by decide) q1575 rfl rfl rfl rfl (Nat.le_of_ble_eq_true rfl) dX12_init_6 (fun H locs I => ?_)
  have I : g_I Γ (gput ph j i q (.inr (10, [.int 0, .int 0, .int (-1), .int 0, .int 0]))) s _ _ := I
  refine lv_aload_n hx hb dX12_init_9 rfl (lv_at hl 0 rfl) ?_
  refine lv_iload_n hx hb dX12_init_10 rfl (lv_at hl 1 rfl) ?_
  refine g_put S hK I k_X12 (v := .int x) (gput_self _ _ _ _ _) 1 (by decide) q1573 rfl rfl rfl rfl (Nat.le_of_ble_eq_true rfl) dX12_init_11 (fun H locs I => ?_)
  have I : g_I Γ (gput (gput ph j i q (.inr (10, [.int 0, .int 0, .int (-1), .int 0, .int 0]))) j i q (.inr (10, [.int 0, .int x, .int (-1), .int 0, .int 0]))) s _ _ := I
  refine lv_aload_n hx hb dX12_init_14 rfl (lv_at hl 0 rfl) ?_
  refine lv_iload_n hx hb dX12_init_15 rfl (lv_at hl 2 rfl) ?_
  refine g_putF S hK I k_X12 (v := .int y) (gput_self _ _ _ _ _) 0 (by decide) q1570 rfl rfl hnm rfl rfl (Nat.le_of_ble_eq_true rfl) dX12_init_16 (fun H locs I => ?_)
  have I : g_I Γ (gput (gput (gput ph j i q (.inr (10, [.int 0, .int 0, .int (-1), .int 0, .int 0]))) j i q (.inr (10, [.int 0, .int x, .int (-1), .int 0, .int 0]))) j i q (.inr (10, [.int y, .int x, .int (-1), .int 0, .int 0]))) s _ _ := I
  refine lv_aload_n hx hb dX12_init_19 rfl (lv_at hl 0 rfl) ?_
  refine lv_iload_n hx hb dX12_init_20 rfl (lv_at hl 3 rfl) ?_
  refine g_put S hK I k_X12 (v := .int z) (gput_self _ _ _ _ _) 3 (by decide) q1578 rfl rfl rfl rfl (Nat.le_of_ble_eq_true rfl) dX12_init_21 (fun H locs I => ?_)
  have I : g_I Γ (gput (gput (gput (gput ph j i q (.inr (10, [.int 0, .int 0, .int (-1), .int 0, .int 0]))) j i q (.inr (10, [.int 0, .int x, .int (-1), .int 0, .int 0]))) j i q (.inr (10, [.int y, .int x, .int (-1), .int 0, .int 0]))) j i q (.inr (10, [.int y, .int x, .int (-1), .int z, .int 0]))) s _ _ := I
  exact g_vret S hr hlk I dX12_init_24 (Nat.le_of_ble_eq_true rfl) (Nat.le_of_ble_eq_true rfl) hQ ⟨rfl, ⟨(gput_self _ _ _ _ _), (((((g_fr.refl _ _).put (by simp)).put (by simp)).put (by simp)).put (by simp))⟩⟩

set_option maxHeartbeats 4000000 in
set_option maxRecDepth 100000 in
theorem met_X4_init (l : Launch) (Γ : g_C) (ph : g_H) (j i q : Nat)   (hq : ph j i q = some (.inr (3, []))) : g_Met l yX4_init (ws_ yX4_init cX4_init 1 none) (g_rm 2 0 0) Γ [.ref q] (ph) (g_ov (fun ph' => ph' j i q = some (.inr (3, [])) ∧ g_fr [(j, i)] ph ph')) g_no := by
  refine g_start (y := yX4_init) (cc := cX4_init) (maxL := 1) (ret := none) (rm := g_rm 2 0 0) (by decide) (Nat.le_of_ble_eq_true rfl) ?_
  intro p e s m A below meth c ls Q hQ S hr hlk hex hnm hK I hl
  have hx := S.1
  have hb := S.2.1
  have hown := S.2.2.2.1
  have hts := S.2.2.2.2
  have S : CallFix p m c cX4_init 1 s A lw_all "CrumblingWall$Ground" := S
  have hl : lv_has ls 1 [(0, .ref q)] := hl
  refine lv_aload_n hx hb dX4_init_0 rfl (lv_at hl 0 rfl) ?_
  refine g_obj S hl.1 q641 dX4_init_1 (Nat.le_of_ble_eq_true rfl) (Nat.le_of_ble_eq_true rfl) ?_
  exact g_vret S hr hlk I dX4_init_4 (Nat.le_of_ble_eq_true rfl) (Nat.le_of_ble_eq_true rfl) hQ ⟨rfl, ⟨hq, (g_fr.refl _ _)⟩⟩

set_option maxHeartbeats 4000000 in
set_option maxRecDepth 100000 in
theorem met_X7_init (l : Launch) (Γ : g_C) (ph : g_H) (j i q : Nat) (kd x1 x2 x3 x4 : Int32)   (hq : ph j i q = some (.inr (hCl kd, [.int 0, .int 0, .int 0, .int 0, .int 0]))) : g_Met l yX7_init (ws_ yX7_init cX7_init 5 none) (g_rm 2 0 0) Γ [.ref q, .int x1, .int x2, .int x3, .int x4] (ph) (g_ov (fun ph' => ph' j i q = some (.inr (hCl kd, [.int x1, .int x2, .int x3, .int x4, .int 0])) ∧ g_fr [(j, i)] ph ph')) g_no := by
  refine g_start (y := yX7_init) (cc := cX7_init) (maxL := 5) (ret := none) (rm := g_rm 2 0 0) (by decide) (Nat.le_of_ble_eq_true rfl) ?_
  intro p e s m A below meth c ls Q hQ S hr hlk hex hnm hK I hl
  have hx := S.1
  have hb := S.2.1
  have hown := S.2.2.2.1
  have hts := S.2.2.2.2
  have S : CallFix p m c cX7_init 5 s A lw_all "CrumblingWall$Hold" := S
  have hl : lv_has ls 5 [(0, .ref q), (1, .int x1), (2, .int x2), (3, .int x3), (4, .int x4)] := hl
  refine lv_aload_n hx hb dX7_init_0 rfl (lv_at hl 0 rfl) ?_
  refine g_obj S hl.1 q1432 dX7_init_1 (Nat.le_of_ble_eq_true rfl) (Nat.le_of_ble_eq_true rfl) ?_
  refine lv_aload_n hx hb dX7_init_4 rfl (lv_at hl 0 rfl) ?_
  refine lv_iload_n hx hb dX7_init_5 rfl (lv_at hl 1 rfl) ?_
  refine h_putF S hK I (kd := kd) (v := .int x1) rfl hq 0 (by decide) q1433 rfl hnm (Nat.le_of_ble_eq_true rfl) dX7_init_6 (fun H locs I => ?_)
  have I : g_I Γ (gput ph j i q (.inr (hCl kd, [.int x1, .int 0, .int 0, .int 0, .int 0]))) s _ _ := I
  refine lv_aload_n hx hb dX7_init_9 rfl (lv_at hl 0 rfl) ?_
  refine lv_iload_n hx hb dX7_init_10 rfl (lv_at hl 2 rfl) ?_
  refine h_putF S hK I (kd := kd) (v := .int x2) rfl (gput_self _ _ _ _ _) 1 (by decide) q1434 rfl hnm (Nat.le_of_ble_eq_true rfl) dX7_init_11 (fun H locs I => ?_)
  have I : g_I Γ (gput (gput ph j i q (.inr (hCl kd, [.int x1, .int 0, .int 0, .int 0, .int 0]))) j i q (.inr (hCl kd, [.int x1, .int x2, .int 0, .int 0, .int 0]))) s _ _ := I
  refine lv_aload_n hx hb dX7_init_14 rfl (lv_at hl 0 rfl) ?_
  refine lv_iload_n hx hb dX7_init_15 rfl (lv_at hl 3 rfl) ?_
  refine h_putF S hK I (kd := kd) (v := .int x3) rfl (gput_self _ _ _ _ _) 2 (by decide) q1435 rfl hnm (Nat.le_of_ble_eq_true rfl) dX7_init_16 (fun H locs I => ?_)
  have I : g_I Γ (gput (gput (gput ph j i q (.inr (hCl kd, [.int x1, .int 0, .int 0, .int 0, .int 0]))) j i q (.inr (hCl kd, [.int x1, .int x2, .int 0, .int 0, .int 0]))) j i q (.inr (hCl kd, [.int x1, .int x2, .int x3, .int 0, .int 0]))) s _ _ := I
  refine lv_aload_n hx hb dX7_init_19 rfl (lv_at hl 0 rfl) ?_
  refine lv_iload hx hb dX7_init_20 (lv_at hl 4 rfl) ?_
  refine h_putF S hK I (kd := kd) (v := .int x4) rfl (gput_self _ _ _ _ _) 3 (by decide) q1436 rfl hnm (Nat.le_of_ble_eq_true rfl) dX7_init_22 (fun H locs I => ?_)
  have I : g_I Γ (gput (gput (gput (gput ph j i q (.inr (hCl kd, [.int x1, .int 0, .int 0, .int 0, .int 0]))) j i q (.inr (hCl kd, [.int x1, .int x2, .int 0, .int 0, .int 0]))) j i q (.inr (hCl kd, [.int x1, .int x2, .int x3, .int 0, .int 0]))) j i q (.inr (hCl kd, [.int x1, .int x2, .int x3, .int x4, .int 0]))) s _ _ := I
  exact g_vret S hr hlk I dX7_init_25 (Nat.le_of_ble_eq_true rfl) (Nat.le_of_ble_eq_true rfl) hQ ⟨rfl, ⟨(gput_self _ _ _ _ _), (((((g_fr.refl _ _).put (by simp)).put (by simp)).put (by simp)).put (by simp))⟩⟩

set_option maxHeartbeats 4000000 in
set_option maxRecDepth 100000 in
theorem met_X9_init (l : Launch) (Γ : g_C) (ph : g_H) (j i q : Nat) (x1 x2 x3 x4 : Int32)   (hq : ph j i q = some (.inr (7, [.int 0, .int 0, .int 0, .int 0, .int 0]))) : g_Met l yX9_init (ws_ yX9_init cX9_init 5 none) (g_rm 3 0 0) Γ [.ref q, .int x1, .int x2, .int x3, .int x4] (ph) (g_ov (fun ph' => ph' j i q = some (.inr (7, [.int x1, .int x2, .int x3, .int x4, .int 0])) ∧ g_fr [(j, i)] ph ph')) g_no := by
  refine g_start (y := yX9_init) (cc := cX9_init) (maxL := 5) (ret := none) (rm := g_rm 3 0 0) (by decide) (Nat.le_of_ble_eq_true rfl) ?_
  intro p e s m A below meth c ls Q hQ S hr hlk hex hnm hK I hl
  have hx := S.1
  have hb := S.2.1
  have hown := S.2.2.2.1
  have hts := S.2.2.2.2
  have S : CallFix p m c cX9_init 5 s A lw_all "CrumblingWall$Edge" := S
  have hl : lv_has ls 5 [(0, .ref q), (1, .int x1), (2, .int x2), (3, .int x3), (4, .int x4)] := hl
  refine lv_aload_n hx hb dX9_init_0 rfl (lv_at hl 0 rfl) ?_
  refine lv_iload_n hx hb dX9_init_1 rfl (lv_at hl 1 rfl) ?_
  refine lv_iload_n hx hb dX9_init_2 rfl (lv_at hl 2 rfl) ?_
  refine lv_iload_n hx hb dX9_init_3 rfl (lv_at hl 3 rfl) ?_
  refine lv_iload hx hb dX9_init_4 (lv_at hl 4 rfl) ?_
  refine g_cv (g_runI S hK I (As := [.int x1, .int x2, .int x3, .int x4]) (rest := []) (met_X7_init l Γ ph j i q 0 x1 x2 x3 x4 (by rw [show hCl 0 = 7 from rfl]; exact hq)) (cwI 4 hts (lw_meth q1431) rfl rfl rfl (hts _ q157) (hts _ q1469) (hts _ q1430) rfl (by decide +kernel) ⟨Nat.le_of_ble_eq_true rfl, Nat.le_of_ble_eq_true rfl⟩) rfl hl.1 rfl (Nat.le_of_ble_eq_true rfl) dX9_init_6 ⟨Nat.le_of_ble_eq_true rfl, Nat.le_of_ble_eq_true rfl⟩) I (fun ph1 H locs hp I => ?_)
  exact g_vret S hr hlk I dX9_init_9 (Nat.le_of_ble_eq_true rfl) (Nat.le_of_ble_eq_true rfl) hQ ⟨rfl, (by rw [show hCl 0 = 7 from rfl] at hp; exact hp)⟩

set_option maxHeartbeats 4000000 in
set_option maxRecDepth 100000 in
theorem met_X11_init (l : Launch) (Γ : g_C) (ph : g_H) (j i q : Nat) (x1 x2 x3 x4 : Int32)   (hq : ph j i q = some (.inr (9, [.int 0, .int 0, .int 0, .int 0, .int 0]))) : g_Met l yX11_init (ws_ yX11_init cX11_init 5 none) (g_rm 3 0 0) Γ [.ref q, .int x1, .int x2, .int x3, .int x4] (ph) (g_ov (fun ph' => ph' j i q = some (.inr (9, [.int x1, .int x2, .int x3, .int x4, .int 0])) ∧ g_fr [(j, i)] ph ph')) g_no := by
  refine g_start (y := yX11_init) (cc := cX11_init) (maxL := 5) (ret := none) (rm := g_rm 3 0 0) (by decide) (Nat.le_of_ble_eq_true rfl) ?_
  intro p e s m A below meth c ls Q hQ S hr hlk hex hnm hK I hl
  have hx := S.1
  have hb := S.2.1
  have hown := S.2.2.2.1
  have hts := S.2.2.2.2
  have S : CallFix p m c cX11_init 5 s A lw_all "CrumblingWall$Pocket" := S
  have hl : lv_has ls 5 [(0, .ref q), (1, .int x1), (2, .int x2), (3, .int x3), (4, .int x4)] := hl
  refine lv_aload_n hx hb dX11_init_0 rfl (lv_at hl 0 rfl) ?_
  refine lv_iload_n hx hb dX11_init_1 rfl (lv_at hl 1 rfl) ?_
  refine lv_iload_n hx hb dX11_init_2 rfl (lv_at hl 2 rfl) ?_
  refine lv_iload_n hx hb dX11_init_3 rfl (lv_at hl 3 rfl) ?_
  refine lv_iload hx hb dX11_init_4 (lv_at hl 4 rfl) ?_
  refine g_cv (g_runI S hK I (As := [.int x1, .int x2, .int x3, .int x4]) (rest := []) (met_X7_init l Γ ph j i q 1 x1 x2 x3 x4 (by rw [show hCl 1 = 9 from rfl]; exact hq)) (cwI 4 hts (lw_meth q1431) rfl rfl rfl (hts _ q157) (hts _ q1523) (hts _ q1430) rfl (by decide +kernel) ⟨Nat.le_of_ble_eq_true rfl, Nat.le_of_ble_eq_true rfl⟩) rfl hl.1 rfl (Nat.le_of_ble_eq_true rfl) dX11_init_6 ⟨Nat.le_of_ble_eq_true rfl, Nat.le_of_ble_eq_true rfl⟩) I (fun ph1 H locs hp I => ?_)
  exact g_vret S hr hlk I dX11_init_9 (Nat.le_of_ble_eq_true rfl) (Nat.le_of_ble_eq_true rfl) hQ ⟨rfl, (by rw [show hCl 1 = 9 from rfl] at hp; exact hp)⟩

set_option maxHeartbeats 4000000 in
set_option maxRecDepth 100000 in
theorem met_X10_init (l : Launch) (Γ : g_C) (ph : g_H) (j i q : Nat) (x1 x2 x3 x4 : Int32)   (hq : ph j i q = some (.inr (8, [.int 0, .int 0, .int 0, .int 0, .int 0]))) : g_Met l yX10_init (ws_ yX10_init cX10_init 5 none) (g_rm 3 0 0) Γ [.ref q, .int x1, .int x2, .int x3, .int x4] (ph) (g_ov (fun ph' => ph' j i q = some (.inr (8, [.int x1, .int x2, .int x3, .int x4, .int 0])) ∧ g_fr [(j, i)] ph ph')) g_no := by
  refine g_start (y := yX10_init) (cc := cX10_init) (maxL := 5) (ret := none) (rm := g_rm 3 0 0) (by decide) (Nat.le_of_ble_eq_true rfl) ?_
  intro p e s m A below meth c ls Q hQ S hr hlk hex hnm hK I hl
  have hx := S.1
  have hb := S.2.1
  have hown := S.2.2.2.1
  have hts := S.2.2.2.2
  have S : CallFix p m c cX10_init 5 s A lw_all "CrumblingWall$Flake" := S
  have hl : lv_has ls 5 [(0, .ref q), (1, .int x1), (2, .int x2), (3, .int x3), (4, .int x4)] := hl
  refine lv_aload_n hx hb dX10_init_0 rfl (lv_at hl 0 rfl) ?_
  refine lv_iload_n hx hb dX10_init_1 rfl (lv_at hl 1 rfl) ?_
  refine lv_iload_n hx hb dX10_init_2 rfl (lv_at hl 2 rfl) ?_
  refine lv_iload_n hx hb dX10_init_3 rfl (lv_at hl 3 rfl) ?_
  refine lv_iload hx hb dX10_init_4 (lv_at hl 4 rfl) ?_
  refine g_cv (g_runI S hK I (As := [.int x1, .int x2, .int x3, .int x4]) (rest := []) (met_X7_init l Γ ph j i q 2 x1 x2 x3 x4 (by rw [show hCl 2 = 8 from rfl]; exact hq)) (cwI 4 hts (lw_meth q1431) rfl rfl rfl (hts _ q157) (hts _ q1496) (hts _ q1430) rfl (by decide +kernel) ⟨Nat.le_of_ble_eq_true rfl, Nat.le_of_ble_eq_true rfl⟩) rfl hl.1 rfl (Nat.le_of_ble_eq_true rfl) dX10_init_6 ⟨Nat.le_of_ble_eq_true rfl, Nat.le_of_ble_eq_true rfl⟩) I (fun ph1 H locs hp I => ?_)
  exact g_vret S hr hlk I dX10_init_9 (Nat.le_of_ble_eq_true rfl) (Nat.le_of_ble_eq_true rfl) hQ ⟨rfl, (by rw [show hCl 2 = 8 from rfl] at hp; exact hp)⟩

set_option maxHeartbeats 4000000 in
set_option maxRecDepth 100000 in
theorem met_X8_init (l : Launch) (Γ : g_C) (ph : g_H) (j i q : Nat) (x1 x2 x3 x4 : Int32)   (hq : ph j i q = some (.inr (6, [.int 0, .int 0, .int 0, .int 0, .int 0]))) : g_Met l yX8_init (ws_ yX8_init cX8_init 5 none) (g_rm 3 0 0) Γ [.ref q, .int x1, .int x2, .int x3, .int x4] (ph) (g_ov (fun ph' => ph' j i q = some (.inr (6, [.int x1, .int x2, .int x3, .int x4, .int 0])) ∧ g_fr [(j, i)] ph ph')) g_no := by
  refine g_start (y := yX8_init) (cc := cX8_init) (maxL := 5) (ret := none) (rm := g_rm 3 0 0) (by decide) (Nat.le_of_ble_eq_true rfl) ?_
  intro p e s m A below meth c ls Q hQ S hr hlk hex hnm hK I hl
  have hx := S.1
  have hb := S.2.1
  have hown := S.2.2.2.1
  have hts := S.2.2.2.2
  have S : CallFix p m c cX8_init 5 s A lw_all "CrumblingWall$Bolt" := S
  have hl : lv_has ls 5 [(0, .ref q), (1, .int x1), (2, .int x2), (3, .int x3), (4, .int x4)] := hl
  refine lv_aload_n hx hb dX8_init_0 rfl (lv_at hl 0 rfl) ?_
  refine lv_iload_n hx hb dX8_init_1 rfl (lv_at hl 1 rfl) ?_
  refine lv_iload_n hx hb dX8_init_2 rfl (lv_at hl 2 rfl) ?_
  refine lv_iload_n hx hb dX8_init_3 rfl (lv_at hl 3 rfl) ?_
  refine lv_iload hx hb dX8_init_4 (lv_at hl 4 rfl) ?_
  refine g_cv (g_runI S hK I (As := [.int x1, .int x2, .int x3, .int x4]) (rest := []) (met_X7_init l Γ ph j i q 3 x1 x2 x3 x4 (by rw [show hCl 3 = 6 from rfl]; exact hq)) (cwI 4 hts (lw_meth q1431) rfl rfl rfl (hts _ q157) (hts _ q1429) (hts _ q1430) rfl (by decide +kernel) ⟨Nat.le_of_ble_eq_true rfl, Nat.le_of_ble_eq_true rfl⟩) rfl hl.1 rfl (Nat.le_of_ble_eq_true rfl) dX8_init_6 ⟨Nat.le_of_ble_eq_true rfl, Nat.le_of_ble_eq_true rfl⟩) I (fun ph1 H locs hp I => ?_)
  exact g_vret S hr hlk I dX8_init_9 (Nat.le_of_ble_eq_true rfl) (Nat.le_of_ble_eq_true rfl) hQ ⟨rfl, (by rw [show hCl 3 = 6 from rfl] at hp; exact hp)⟩

set_option maxHeartbeats 4000000 in
set_option maxRecDepth 100000 in
theorem met_X3_copy (l : Launch) (Γ : g_C) (htr : l.stackTraces = false) (ph : g_H) (i : Nat) (ad na : Nat → Nat) (mc : Nat → Int32) (w : m_w) (k : Nat) (jn im : Nat)  (hW : g_Wl Γ ph i ad na mc w) (hw : WF w) (hk : k < 2) (him : im ≠ i) : g_Met l yX3_copy (ws_ yX3_copy cX3_copy 2 (some (.object "CrumblingWall$Climber"))) (g_rm 3 1 4) Γ [.ref (ad (10 + k))] ph (g_or (fun rv_ ph' => ph' jn im rv_ = some (clE k (w (125 + 3 * k)) (w (125 + 3 * k + 1)) (w (125 + 3 * k + 2))) ∧ g_fr [(jn, im)] ph ph')) g_no := by
  refine g_start (y := yX3_copy) (cc := cX3_copy) (maxL := 2) (ret := (some (.object "CrumblingWall$Climber"))) (rm := g_rm 3 1 4) (by decide) (Nat.le_of_ble_eq_true rfl) ?_
  intro pg e s m A below meth cd ls Q hQ S hr hlk hex hnm hK I hl
  have hx := S.1
  have hb := S.2.1
  have hown := S.2.2.2.1
  have hts := S.2.2.2.2
  have S : CallFix pg m cd cX3_copy 2 s A lw_all "CrumblingWall$Climber" := S
  have hl : lv_has ls 2 [(0, .ref (ad (10 + k)))] := hl
  have hwc := hw.1; have hwl := hw.2.1; have hwa := hw.2.2.1
  refine g_new S hK I jn im k_X3 q1387 q205 q122 (fs := [.int 0, .int 0, .int 0, .int 0]) (by decide) (Nat.le_of_ble_eq_true rfl) (Nat.le_of_ble_eq_true rfl) dX3_copy_0 (fun q9 H hfq9 I => ?_)
  have hW : g_Wl Γ (gput ph jn im q9 (.inr (2, [.int 0, .int 0, .int 0, .int 0]))) i ad na mc w := hW.putI him
  have hq_q9 : (gput ph jn im q9 (.inr (2, [.int 0, .int 0, .int 0, .int 0]))) jn im q9 = some (.inr (2, [.int 0, .int 0, .int 0, .int 0])) := gput_self _ _ _ _ _
  have hF_q9 : g_fr [(jn, im)] ph (gput ph jn im q9 (.inr (2, [.int 0, .int 0, .int 0, .int 0]))) := (g_fr.refl _ _).put (by simp)
  generalize gput ph jn im q9 (.inr (2, [.int 0, .int 0, .int 0, .int 0])) = P_q9 at I hW hq_q9 hF_q9
  refine lv_dup hx hb dX3_copy_3 rfl ?_
  refine lv_aload_n hx hb dX3_copy_4 rfl (lv_at hl 0 rfl) ?_
  refine g_get S hK I k_X3 (v := .int (nI k)) (g_at.of (hW.cl (c := k) (by omega))) 0 (by decide) q210 rfl rfl dX3_copy_5 ?_
  refine g_cv (g_runI S hK I (As := [.int (nI k)]) (rest := [.ref q9]) (met_X3_init l Γ P_q9 jn im q9 (nI k) hq_q9) (cwI 1 hts (lw_meth q208) rfl rfl rfl (hts _ q122) (hts _ q1388) (hts _ q207) rfl (by decide +kernel) ⟨Nat.le_of_ble_eq_true rfl, Nat.le_of_ble_eq_true rfl⟩) rfl hl.1 rfl (Nat.le_of_ble_eq_true rfl) dX3_copy_8 ⟨Nat.le_of_ble_eq_true rfl, Nat.le_of_ble_eq_true rfl⟩) I (fun ph1 H locs hp I => ?_)
  obtain ⟨hq_q9, hg9⟩ := hp
  have hq_q9 : ph1 jn im q9 = some (.inr (2, [.int (nI k), .int (-1), .int 0, .int 20])) := hq_q9
  generalize ph1 = P_1 at I hq_q9 hg9
  have hW := hW.frL hg9 (fun x hx => by rw [List.mem_singleton.mp hx]; exact Or.inr him)
  have hF_q9 := hF_q9.trans hg9
  refine lv_astore_n (lv' := [(1, .ref q9), (0, .ref (ad (10 + k)))]) hx hb dX3_copy_11 rfl hl (by decide) rfl (fun ls hl => ?_)
  refine lv_aload_n hx hb dX3_copy_12 rfl (lv_at hl 0 rfl) ?_
  refine lv_aload_n hx hb dX3_copy_13 rfl (lv_at hl 1 rfl) ?_
  refine g_get S hK I k_X3 (v := .int (w (125 + 3 * k))) (g_at.of (hW.cl (c := k) (by omega))) 1 (by decide) q211 rfl rfl dX3_copy_14 ?_
  refine g_put S hK I k_X3 (v := .int (w (125 + 3 * k))) hq_q9 1 (by decide) q211 rfl rfl rfl rfl (Nat.le_of_ble_eq_true rfl) dX3_copy_17 (fun H locs I => ?_)
  obtain ⟨P_2, I, hW, hq_q9, hF_q9⟩ : ∃ zz, g_I Γ zz s H locs ∧ g_Wl Γ zz i ad na mc w ∧ zz jn im q9 = some (.inr (2, [.int (nI k), .int (w (125 + 3 * k)), .int 0, .int 20])) ∧ g_fr [(jn, im)] ph zz := ⟨_, I, hW.putI him, gput_self _ _ _ _ _, hF_q9.put (by simp)⟩
  refine lv_aload_n hx hb dX3_copy_20 rfl (lv_at hl 0 rfl) ?_
  refine lv_aload_n hx hb dX3_copy_21 rfl (lv_at hl 1 rfl) ?_
  refine g_get S hK I k_X3 (v := .int (w (125 + 3 * k + 1))) (g_at.of (hW.cl (c := k) (by omega))) 2 (by decide) q214 rfl rfl dX3_copy_22 ?_
  refine g_put S hK I k_X3 (v := .int (w (125 + 3 * k + 1))) hq_q9 2 (by decide) q214 rfl rfl rfl rfl (Nat.le_of_ble_eq_true rfl) dX3_copy_25 (fun H locs I => ?_)
  obtain ⟨P_3, I, hW, hq_q9, hF_q9⟩ : ∃ zz, g_I Γ zz s H locs ∧ g_Wl Γ zz i ad na mc w ∧ zz jn im q9 = some (.inr (2, [.int (nI k), .int (w (125 + 3 * k)), .int (w (125 + 3 * k + 1)), .int 20])) ∧ g_fr [(jn, im)] ph zz := ⟨_, I, hW.putI him, gput_self _ _ _ _ _, hF_q9.put (by simp)⟩
  refine lv_aload_n hx hb dX3_copy_28 rfl (lv_at hl 0 rfl) ?_
  refine lv_aload_n hx hb dX3_copy_29 rfl (lv_at hl 1 rfl) ?_
  refine g_get S hK I k_X3 (v := .int (w (125 + 3 * k + 2))) (g_at.of (hW.cl (c := k) (by omega))) 3 (by decide) q217 rfl rfl dX3_copy_30 ?_
  refine g_put S hK I k_X3 (v := .int (w (125 + 3 * k + 2))) hq_q9 3 (by decide) q217 rfl rfl rfl rfl (Nat.le_of_ble_eq_true rfl) dX3_copy_33 (fun H locs I => ?_)
  obtain ⟨P_4, I, hW, hq_q9, hF_q9⟩ : ∃ zz, g_I Γ zz s H locs ∧ g_Wl Γ zz i ad na mc w ∧ zz jn im q9 = some (.inr (2, [.int (nI k), .int (w (125 + 3 * k)), .int (w (125 + 3 * k + 1)), .int (w (125 + 3 * k + 2))])) ∧ g_fr [(jn, im)] ph zz := ⟨_, I, hW.putI him, gput_self _ _ _ _ _, hF_q9.put (by simp)⟩
  refine lv_aload_n hx hb dX3_copy_36 rfl (lv_at hl 0 rfl) ?_
  exact g_aret S hr (Or.inl ⟨_, rfl⟩) hlk I dX3_copy_37 (Nat.le_of_ble_eq_true rfl) (Nat.le_of_ble_eq_true rfl) hQ ⟨_, rfl, hq_q9, hF_q9⟩

set_option maxHeartbeats 4000000 in
set_option maxRecDepth 100000 in
theorem met_X12_copy (l : Launch) (Γ : g_C) (htr : l.stackTraces = false) (ph : g_H) (i : Nat) (ad na : Nat → Nat) (mc : Nat → Int32) (w : m_w) (k : Nat) (jn im : Nat)  (hW : g_Wl Γ ph i ad na mc w) (hw : WF w) (hk : k < nLa w) (him : im ≠ i) : g_Met l yX12_copy (ws_ yX12_copy cX12_copy 2 (some (.object "CrumblingWall$Lamp"))) (g_rm 3 1 5) Γ [.ref (ad (20 + k))] ph (g_or (fun rv_ ph' => ph' jn im rv_ = some (laE (w (105 + 5 * k)) (w (105 + 5 * k + 1)) (w (105 + 5 * k + 2)) (w (105 + 5 * k + 3)) (w (105 + 5 * k + 4))) ∧ g_fr [(jn, im)] ph ph')) g_no := by
  refine g_start (y := yX12_copy) (cc := cX12_copy) (maxL := 2) (ret := (some (.object "CrumblingWall$Lamp"))) (rm := g_rm 3 1 5) (by decide) (Nat.le_of_ble_eq_true rfl) ?_
  intro pg e s m A below meth cd ls Q hQ S hr hlk hex hnm hK I hl
  have hx := S.1
  have hb := S.2.1
  have hown := S.2.2.2.1
  have hts := S.2.2.2.2
  have S : CallFix pg m cd cX12_copy 2 s A lw_all "CrumblingWall$Lamp" := S
  have hl : lv_has ls 2 [(0, .ref (ad (20 + k)))] := hl
  have hwc := hw.1; have hwl := hw.2.1; have hwa := hw.2.2.1
  have hlit : narrow .boolean (.int (w (105 + 5 * k + 4))) = .int (w (105 + 5 * k + 4)) := by rcases laLit hw hk with e | e <;> rw [e] <;> rfl
  have hfit : fits .boolean (.int (w (105 + 5 * k + 4))) = true := by rcases laLit hw hk with e | e <;> rw [e] <;> rfl
  refine g_new S hK I jn im k_X12 q1564 q1565 q162 (fs := [.int 0, .int 0, .int 0, .int 0, .int 0]) (by decide) (Nat.le_of_ble_eq_true rfl) (Nat.le_of_ble_eq_true rfl) dX12_copy_0 (fun q9 H hfq9 I => ?_)
  have hW : g_Wl Γ (gput ph jn im q9 (.inr (10, [.int 0, .int 0, .int 0, .int 0, .int 0]))) i ad na mc w := hW.putI him
  have hq_q9 : (gput ph jn im q9 (.inr (10, [.int 0, .int 0, .int 0, .int 0, .int 0]))) jn im q9 = some (.inr (10, [.int 0, .int 0, .int 0, .int 0, .int 0])) := gput_self _ _ _ _ _
  have hF_q9 : g_fr [(jn, im)] ph (gput ph jn im q9 (.inr (10, [.int 0, .int 0, .int 0, .int 0, .int 0]))) := (g_fr.refl _ _).put (by simp)
  generalize gput ph jn im q9 (.inr (10, [.int 0, .int 0, .int 0, .int 0, .int 0])) = P_q9 at I hW hq_q9 hF_q9
  refine lv_dup hx hb dX12_copy_3 rfl ?_
  refine lv_aload_n hx hb dX12_copy_4 rfl (lv_at hl 0 rfl) ?_
  refine g_get S hK I k_X12 (v := .int (w (105 + 5 * k))) (g_at.of (hW.la (k := k) (by omega))) 1 (by decide) q1573 rfl rfl dX12_copy_5 ?_
  refine lv_aload_n hx hb dX12_copy_8 rfl (lv_at hl 0 rfl) ?_
  refine g_get S hK I k_X12 (v := .int (w (105 + 5 * k + 2))) (g_at.of (hW.la (k := k) (by omega))) 0 (by decide) q1570 rfl rfl dX12_copy_9 ?_
  refine lv_aload_n hx hb dX12_copy_12 rfl (lv_at hl 0 rfl) ?_
  refine g_get S hK I k_X12 (v := .int (w (105 + 5 * k + 3))) (g_at.of (hW.la (k := k) (by omega))) 3 (by decide) q1578 rfl rfl dX12_copy_13 ?_
  refine g_cv (g_runI S hK I (As := [.int (w (105 + 5 * k)), .int (w (105 + 5 * k + 2)), .int (w (105 + 5 * k + 3))]) (rest := [.ref q9]) (met_X12_init l Γ P_q9 jn im q9 (w (105 + 5 * k)) (w (105 + 5 * k + 2)) (w (105 + 5 * k + 3)) hq_q9) (cwI 3 hts (lw_meth q1568) rfl rfl rfl (hts _ q162) (hts _ q1566) (hts _ q1567) rfl (by decide +kernel) ⟨Nat.le_of_ble_eq_true rfl, Nat.le_of_ble_eq_true rfl⟩) rfl hl.1 rfl (Nat.le_of_ble_eq_true rfl) dX12_copy_16 ⟨Nat.le_of_ble_eq_true rfl, Nat.le_of_ble_eq_true rfl⟩) I (fun ph1 H locs hp I => ?_)
  obtain ⟨hq_q9, hg9⟩ := hp
  have hq_q9 : ph1 jn im q9 = some (.inr (10, [.int (w (105 + 5 * k + 2)), .int (w (105 + 5 * k)), .int (-1), .int (w (105 + 5 * k + 3)), .int 0])) := hq_q9
  generalize ph1 = P_1 at I hq_q9 hg9
  have hW := hW.frL hg9 (fun x hx => by rw [List.mem_singleton.mp hx]; exact Or.inr him)
  have hF_q9 := hF_q9.trans hg9
  refine lv_astore_n (lv' := [(1, .ref q9), (0, .ref (ad (20 + k)))]) hx hb dX12_copy_19 rfl hl (by decide) rfl (fun ls hl => ?_)
  refine lv_aload_n hx hb dX12_copy_20 rfl (lv_at hl 0 rfl) ?_
  refine lv_aload_n hx hb dX12_copy_21 rfl (lv_at hl 1 rfl) ?_
  refine g_get S hK I k_X12 (v := .int (w (105 + 5 * k + 1))) (g_at.of (hW.la (k := k) (by omega))) 2 (by decide) q1575 rfl rfl dX12_copy_22 ?_
  refine g_put S hK I k_X12 (v := .int (w (105 + 5 * k + 1))) hq_q9 2 (by decide) q1575 rfl rfl rfl rfl (Nat.le_of_ble_eq_true rfl) dX12_copy_25 (fun H locs I => ?_)
  obtain ⟨P_2, I, hW, hq_q9, hF_q9⟩ : ∃ zz, g_I Γ zz s H locs ∧ g_Wl Γ zz i ad na mc w ∧ zz jn im q9 = some (.inr (10, [.int (w (105 + 5 * k + 2)), .int (w (105 + 5 * k)), .int (w (105 + 5 * k + 1)), .int (w (105 + 5 * k + 3)), .int 0])) ∧ g_fr [(jn, im)] ph zz := ⟨_, I, hW.putI him, gput_self _ _ _ _ _, hF_q9.put (by simp)⟩
  refine lv_aload_n hx hb dX12_copy_28 rfl (lv_at hl 0 rfl) ?_
  refine lv_aload_n hx hb dX12_copy_29 rfl (lv_at hl 1 rfl) ?_
  refine g_get S hK I k_X12 (v := .int (w (105 + 5 * k + 4))) (g_at.of (hW.la (k := k) (by omega))) 4 (by decide) q1581 rfl rfl dX12_copy_30 ?_
  refine g_put S hK I k_X12 (v := .int (w (105 + 5 * k + 4))) hq_q9 4 (by decide) q1581 rfl rfl hlit hfit (Nat.le_of_ble_eq_true rfl) dX12_copy_33 (fun H locs I => ?_)
  obtain ⟨P_3, I, hW, hq_q9, hF_q9⟩ : ∃ zz, g_I Γ zz s H locs ∧ g_Wl Γ zz i ad na mc w ∧ zz jn im q9 = some (.inr (10, [.int (w (105 + 5 * k + 2)), .int (w (105 + 5 * k)), .int (w (105 + 5 * k + 1)), .int (w (105 + 5 * k + 3)), .int (w (105 + 5 * k + 4))])) ∧ g_fr [(jn, im)] ph zz := ⟨_, I, hW.putI him, gput_self _ _ _ _ _, hF_q9.put (by simp)⟩
  refine lv_aload_n hx hb dX12_copy_36 rfl (lv_at hl 0 rfl) ?_
  exact g_aret S hr (Or.inl ⟨_, rfl⟩) hlk I dX12_copy_37 (Nat.le_of_ble_eq_true rfl) (Nat.le_of_ble_eq_true rfl) hQ ⟨_, rfl, hq_q9, hF_q9⟩

set_option maxHeartbeats 4000000 in
set_option maxRecDepth 100000 in
theorem met_X9_anew (l : Launch) (Γ : g_C) (htr : l.stackTraces = false) (ph : g_H) (i : Nat) (ad na : Nat → Nat) (mc : Nat → Int32) (w : m_w) (k : Nat) (jn im : Nat)  (hW : g_Wl Γ ph i ad na mc w) (hw : WF w) (hk : k < nN w) (e9 : w (1 + 5 * k + 2) = 0) (him : im ≠ i) : g_Met l yX9_anew (ws_ yX9_anew cX9_anew 1 (some (.object "CrumblingWall$Hold"))) (g_rm 4 1 5) Γ [.ref (ad (30 + k))] ph (g_or (fun rv_ ph' => ph' jn im rv_ = some (hoE k (w (1 + 5 * k + 2)) (w (1 + 5 * k)) (w (1 + 5 * k + 1)) (w (1 + 5 * k + 3)) 0) ∧ g_fr [(jn, im)] ph ph')) g_no := by
  refine g_start (y := yX9_anew) (cc := cX9_anew) (maxL := 1) (ret := (some (.object "CrumblingWall$Hold"))) (rm := g_rm 4 1 5) (by decide) (Nat.le_of_ble_eq_true rfl) ?_
  intro pg e s m A below meth cd ls Q hQ S hr hlk hex hnm hK I hl
  have hx := S.1
  have hb := S.2.1
  have hown := S.2.2.2.1
  have hts := S.2.2.2.2
  have S : CallFix pg m cd cX9_anew 1 s A lw_all "CrumblingWall$Edge" := S
  have hl : lv_has ls 1 [(0, .ref (ad (30 + k)))] := hl
  have hwc := hw.1; have hwl := hw.2.1; have hwa := hw.2.2.1
  have r9 : ∀ {x : g_H}, g_Wl Γ x i ad na mc w → x (130 + k) i (ad (30 + k)) = some (.inr (7, [.int (nI k), .int (w (1 + 5 * k)), .int (w (1 + 5 * k + 1)), .int (w (1 + 5 * k + 3)), .int (w (1 + 5 * k + 4))])) := fun z => by have z := z.ho hk; unfold hoE at z; rw [e9] at z; exact z
  refine g_new S hK I jn im k_X9 q1452 q1453 q159 (fs := [.int 0, .int 0, .int 0, .int 0, .int 0]) (by decide) (Nat.le_of_ble_eq_true rfl) (Nat.le_of_ble_eq_true rfl) dX9_anew_0 (fun q9 H hfq9 I => ?_)
  have hW : g_Wl Γ (gput ph jn im q9 (.inr (7, [.int 0, .int 0, .int 0, .int 0, .int 0]))) i ad na mc w := hW.putI him
  have hq_q9 : (gput ph jn im q9 (.inr (7, [.int 0, .int 0, .int 0, .int 0, .int 0]))) jn im q9 = some (.inr (7, [.int 0, .int 0, .int 0, .int 0, .int 0])) := gput_self _ _ _ _ _
  have hF_q9 : g_fr [(jn, im)] ph (gput ph jn im q9 (.inr (7, [.int 0, .int 0, .int 0, .int 0, .int 0]))) := (g_fr.refl _ _).put (by simp)
  generalize gput ph jn im q9 (.inr (7, [.int 0, .int 0, .int 0, .int 0, .int 0])) = P_q9 at I hW hq_q9 hF_q9
  refine lv_dup hx hb dX9_anew_3 rfl ?_
  refine lv_aload_n hx hb dX9_anew_4 rfl (lv_at hl 0 rfl) ?_
  refine g_ci (g_runU S hK I (As := []) (rest := [.ref q9, .ref q9]) (met_X7_number l Γ htr P_q9 i ad na mc w k hW hw  (by omega)) (g_cwD (n := 0) hts q1223 q157 (by decide) (by decide +kernel) q1454 q1455 (g_declN (hK.N q1408 rfl)) q1456 q1221 ⟨Nat.le_of_ble_eq_true rfl, Nat.le_of_ble_eq_true rfl⟩) (g_recv hK I (g_at.of (r9 hW)) (ci := 7) rfl) rfl hl.1 rfl (Nat.le_of_ble_eq_true rfl) dX9_anew_5 ⟨Nat.le_of_ble_eq_true rfl, Nat.le_of_ble_eq_true rfl⟩) I (fun r_5 ph1 H locs hp I => ?_)
  obtain ⟨hp, hph⟩ := hp
  rw [hph] at I
  have hp : r_5 = (nI k) := hp
  rw [hp]
  refine lv_aload_n hx hb dX9_anew_8 rfl (lv_at hl 0 rfl) ?_
  refine g_ci (g_runU S hK I (As := []) (rest := [.int (nI k), .ref q9, .ref q9]) (met_X7_column l Γ htr P_q9 i ad na mc w k hW hw  (by omega)) (g_cwD (n := 0) hts q1415 q157 (by decide) (by decide +kernel) q1457 q1458 (g_declN (hK.N q1412 rfl)) q1459 q1414 ⟨Nat.le_of_ble_eq_true rfl, Nat.le_of_ble_eq_true rfl⟩) (g_recv hK I (g_at.of (r9 hW)) (ci := 7) rfl) rfl hl.1 rfl (Nat.le_of_ble_eq_true rfl) dX9_anew_9 ⟨Nat.le_of_ble_eq_true rfl, Nat.le_of_ble_eq_true rfl⟩) I (fun r_9 ph1 H locs hp I => ?_)
  obtain ⟨hp, hph⟩ := hp
  rw [hph] at I
  have hp : r_9 = (w (1 + 5 * k)) := hp
  rw [hp]
  refine lv_aload_n hx hb dX9_anew_12 rfl (lv_at hl 0 rfl) ?_
  refine g_ci (g_runU S hK I (As := []) (rest := [.int (w (1 + 5 * k)), .int (nI k), .ref q9, .ref q9]) (met_X7_row l Γ htr P_q9 i ad na mc w k hW hw  (by omega)) (g_cwD (n := 0) hts q1268 q157 (by decide) (by decide +kernel) q1460 q1461 (g_declN (hK.N q1418 rfl)) q1462 q1266 ⟨Nat.le_of_ble_eq_true rfl, Nat.le_of_ble_eq_true rfl⟩) (g_recv hK I (g_at.of (r9 hW)) (ci := 7) rfl) rfl hl.1 rfl (Nat.le_of_ble_eq_true rfl) dX9_anew_13 ⟨Nat.le_of_ble_eq_true rfl, Nat.le_of_ble_eq_true rfl⟩) I (fun r_13 ph1 H locs hp I => ?_)
  obtain ⟨hp, hph⟩ := hp
  rw [hph] at I
  have hp : r_13 = (w (1 + 5 * k + 1)) := hp
  rw [hp]
  refine lv_aload_n hx hb dX9_anew_16 rfl (lv_at hl 0 rfl) ?_
  refine g_ci (g_runU S hK I (As := []) (rest := [.int (w (1 + 5 * k + 1)), .int (w (1 + 5 * k)), .int (nI k), .ref q9, .ref q9]) (met_X7_strength l Γ htr P_q9 i ad na mc w k hW hw  (by omega)) (g_cwD (n := 0) hts q1425 q157 (by decide) (by decide +kernel) q1463 q1464 (g_declN (hK.N q1422 rfl)) q1465 q1424 ⟨Nat.le_of_ble_eq_true rfl, Nat.le_of_ble_eq_true rfl⟩) (g_recv hK I (g_at.of (r9 hW)) (ci := 7) rfl) rfl hl.1 rfl (Nat.le_of_ble_eq_true rfl) dX9_anew_17 ⟨Nat.le_of_ble_eq_true rfl, Nat.le_of_ble_eq_true rfl⟩) I (fun r_17 ph1 H locs hp I => ?_)
  obtain ⟨hp, hph⟩ := hp
  rw [hph] at I
  have hp : r_17 = (w (1 + 5 * k + 3)) := hp
  rw [hp]
  refine g_cv (g_runI S hK I (As := [.int (nI k), .int (w (1 + 5 * k)), .int (w (1 + 5 * k + 1)), .int (w (1 + 5 * k + 3))]) (rest := [.ref q9]) (met_X9_init l Γ P_q9 jn im q9 (nI k) (w (1 + 5 * k)) (w (1 + 5 * k + 1)) (w (1 + 5 * k + 3)) hq_q9) (cwI 4 hts (lw_meth q1468) rfl rfl rfl (hts _ q159) (hts _ q1466) (hts _ q1467) rfl (by decide +kernel) ⟨Nat.le_of_ble_eq_true rfl, Nat.le_of_ble_eq_true rfl⟩) rfl hl.1 rfl (Nat.le_of_ble_eq_true rfl) dX9_anew_20 ⟨Nat.le_of_ble_eq_true rfl, Nat.le_of_ble_eq_true rfl⟩) I (fun ph1 H locs hp I => ?_)
  obtain ⟨hq_q9, hg9⟩ := hp
  have hq_q9 : ph1 jn im q9 = some (.inr (7, [.int (nI k), .int (w (1 + 5 * k)), .int (w (1 + 5 * k + 1)), .int (w (1 + 5 * k + 3)), .int 0])) := hq_q9
  generalize ph1 = P_1 at I hq_q9 hg9
  have hW := hW.frL hg9 (fun x hx => by rw [List.mem_singleton.mp hx]; exact Or.inr him)
  have hF_q9 := hF_q9.trans hg9
  exact g_aret S hr (Or.inl ⟨_, rfl⟩) hlk I dX9_anew_23 (Nat.le_of_ble_eq_true rfl) (Nat.le_of_ble_eq_true rfl) hQ ⟨_, rfl, (by unfold hoE; rw [e9]; exact hq_q9), hF_q9⟩

set_option maxHeartbeats 4000000 in
set_option maxRecDepth 100000 in
theorem met_X11_anew (l : Launch) (Γ : g_C) (htr : l.stackTraces = false) (ph : g_H) (i : Nat) (ad na : Nat → Nat) (mc : Nat → Int32) (w : m_w) (k : Nat) (jn im : Nat)  (hW : g_Wl Γ ph i ad na mc w) (hw : WF w) (hk : k < nN w) (e9 : w (1 + 5 * k + 2) = 1) (him : im ≠ i) : g_Met l yX11_anew (ws_ yX11_anew cX11_anew 1 (some (.object "CrumblingWall$Hold"))) (g_rm 4 1 5) Γ [.ref (ad (30 + k))] ph (g_or (fun rv_ ph' => ph' jn im rv_ = some (hoE k (w (1 + 5 * k + 2)) (w (1 + 5 * k)) (w (1 + 5 * k + 1)) (w (1 + 5 * k + 3)) 0) ∧ g_fr [(jn, im)] ph ph')) g_no := by
  refine g_start (y := yX11_anew) (cc := cX11_anew) (maxL := 1) (ret := (some (.object "CrumblingWall$Hold"))) (rm := g_rm 4 1 5) (by decide) (Nat.le_of_ble_eq_true rfl) ?_
  intro pg e s m A below meth cd ls Q hQ S hr hlk hex hnm hK I hl
  have hx := S.1
  have hb := S.2.1
  have hown := S.2.2.2.1
  have hts := S.2.2.2.2
  have S : CallFix pg m cd cX11_anew 1 s A lw_all "CrumblingWall$Pocket" := S
  have hl : lv_has ls 1 [(0, .ref (ad (30 + k)))] := hl
  have hwc := hw.1; have hwl := hw.2.1; have hwa := hw.2.2.1
  have r9 : ∀ {x : g_H}, g_Wl Γ x i ad na mc w → x (130 + k) i (ad (30 + k)) = some (.inr (9, [.int (nI k), .int (w (1 + 5 * k)), .int (w (1 + 5 * k + 1)), .int (w (1 + 5 * k + 3)), .int (w (1 + 5 * k + 4))])) := fun z => by have z := z.ho hk; unfold hoE at z; rw [e9] at z; exact z
  refine g_new S hK I jn im k_X11 q1506 q1507 q161 (fs := [.int 0, .int 0, .int 0, .int 0, .int 0]) (by decide) (Nat.le_of_ble_eq_true rfl) (Nat.le_of_ble_eq_true rfl) dX11_anew_0 (fun q9 H hfq9 I => ?_)
  have hW : g_Wl Γ (gput ph jn im q9 (.inr (9, [.int 0, .int 0, .int 0, .int 0, .int 0]))) i ad na mc w := hW.putI him
  have hq_q9 : (gput ph jn im q9 (.inr (9, [.int 0, .int 0, .int 0, .int 0, .int 0]))) jn im q9 = some (.inr (9, [.int 0, .int 0, .int 0, .int 0, .int 0])) := gput_self _ _ _ _ _
  have hF_q9 : g_fr [(jn, im)] ph (gput ph jn im q9 (.inr (9, [.int 0, .int 0, .int 0, .int 0, .int 0]))) := (g_fr.refl _ _).put (by simp)
  generalize gput ph jn im q9 (.inr (9, [.int 0, .int 0, .int 0, .int 0, .int 0])) = P_q9 at I hW hq_q9 hF_q9
  refine lv_dup hx hb dX11_anew_3 rfl ?_
  refine lv_aload_n hx hb dX11_anew_4 rfl (lv_at hl 0 rfl) ?_
  refine g_ci (g_runU S hK I (As := []) (rest := [.ref q9, .ref q9]) (met_X7_number l Γ htr P_q9 i ad na mc w k hW hw  (by omega)) (g_cwD (n := 0) hts q1223 q157 (by decide) (by decide +kernel) q1508 q1509 (g_declN (hK.N q1408 rfl)) q1510 q1221 ⟨Nat.le_of_ble_eq_true rfl, Nat.le_of_ble_eq_true rfl⟩) (g_recv hK I (g_at.of (r9 hW)) (ci := 9) rfl) rfl hl.1 rfl (Nat.le_of_ble_eq_true rfl) dX11_anew_5 ⟨Nat.le_of_ble_eq_true rfl, Nat.le_of_ble_eq_true rfl⟩) I (fun r_5 ph1 H locs hp I => ?_)
  obtain ⟨hp, hph⟩ := hp
  rw [hph] at I
  have hp : r_5 = (nI k) := hp
  rw [hp]
  refine lv_aload_n hx hb dX11_anew_8 rfl (lv_at hl 0 rfl) ?_
  refine g_ci (g_runU S hK I (As := []) (rest := [.int (nI k), .ref q9, .ref q9]) (met_X7_column l Γ htr P_q9 i ad na mc w k hW hw  (by omega)) (g_cwD (n := 0) hts q1415 q157 (by decide) (by decide +kernel) q1511 q1512 (g_declN (hK.N q1412 rfl)) q1513 q1414 ⟨Nat.le_of_ble_eq_true rfl, Nat.le_of_ble_eq_true rfl⟩) (g_recv hK I (g_at.of (r9 hW)) (ci := 9) rfl) rfl hl.1 rfl (Nat.le_of_ble_eq_true rfl) dX11_anew_9 ⟨Nat.le_of_ble_eq_true rfl, Nat.le_of_ble_eq_true rfl⟩) I (fun r_9 ph1 H locs hp I => ?_)
  obtain ⟨hp, hph⟩ := hp
  rw [hph] at I
  have hp : r_9 = (w (1 + 5 * k)) := hp
  rw [hp]
  refine lv_aload_n hx hb dX11_anew_12 rfl (lv_at hl 0 rfl) ?_
  refine g_ci (g_runU S hK I (As := []) (rest := [.int (w (1 + 5 * k)), .int (nI k), .ref q9, .ref q9]) (met_X7_row l Γ htr P_q9 i ad na mc w k hW hw  (by omega)) (g_cwD (n := 0) hts q1268 q157 (by decide) (by decide +kernel) q1514 q1515 (g_declN (hK.N q1418 rfl)) q1516 q1266 ⟨Nat.le_of_ble_eq_true rfl, Nat.le_of_ble_eq_true rfl⟩) (g_recv hK I (g_at.of (r9 hW)) (ci := 9) rfl) rfl hl.1 rfl (Nat.le_of_ble_eq_true rfl) dX11_anew_13 ⟨Nat.le_of_ble_eq_true rfl, Nat.le_of_ble_eq_true rfl⟩) I (fun r_13 ph1 H locs hp I => ?_)
  obtain ⟨hp, hph⟩ := hp
  rw [hph] at I
  have hp : r_13 = (w (1 + 5 * k + 1)) := hp
  rw [hp]
  refine lv_aload_n hx hb dX11_anew_16 rfl (lv_at hl 0 rfl) ?_
  refine g_ci (g_runU S hK I (As := []) (rest := [.int (w (1 + 5 * k + 1)), .int (w (1 + 5 * k)), .int (nI k), .ref q9, .ref q9]) (met_X7_strength l Γ htr P_q9 i ad na mc w k hW hw  (by omega)) (g_cwD (n := 0) hts q1425 q157 (by decide) (by decide +kernel) q1517 q1518 (g_declN (hK.N q1422 rfl)) q1519 q1424 ⟨Nat.le_of_ble_eq_true rfl, Nat.le_of_ble_eq_true rfl⟩) (g_recv hK I (g_at.of (r9 hW)) (ci := 9) rfl) rfl hl.1 rfl (Nat.le_of_ble_eq_true rfl) dX11_anew_17 ⟨Nat.le_of_ble_eq_true rfl, Nat.le_of_ble_eq_true rfl⟩) I (fun r_17 ph1 H locs hp I => ?_)
  obtain ⟨hp, hph⟩ := hp
  rw [hph] at I
  have hp : r_17 = (w (1 + 5 * k + 3)) := hp
  rw [hp]
  refine g_cv (g_runI S hK I (As := [.int (nI k), .int (w (1 + 5 * k)), .int (w (1 + 5 * k + 1)), .int (w (1 + 5 * k + 3))]) (rest := [.ref q9]) (met_X11_init l Γ P_q9 jn im q9 (nI k) (w (1 + 5 * k)) (w (1 + 5 * k + 1)) (w (1 + 5 * k + 3)) hq_q9) (cwI 4 hts (lw_meth q1522) rfl rfl rfl (hts _ q161) (hts _ q1520) (hts _ q1521) rfl (by decide +kernel) ⟨Nat.le_of_ble_eq_true rfl, Nat.le_of_ble_eq_true rfl⟩) rfl hl.1 rfl (Nat.le_of_ble_eq_true rfl) dX11_anew_20 ⟨Nat.le_of_ble_eq_true rfl, Nat.le_of_ble_eq_true rfl⟩) I (fun ph1 H locs hp I => ?_)
  obtain ⟨hq_q9, hg9⟩ := hp
  have hq_q9 : ph1 jn im q9 = some (.inr (9, [.int (nI k), .int (w (1 + 5 * k)), .int (w (1 + 5 * k + 1)), .int (w (1 + 5 * k + 3)), .int 0])) := hq_q9
  generalize ph1 = P_1 at I hq_q9 hg9
  have hW := hW.frL hg9 (fun x hx => by rw [List.mem_singleton.mp hx]; exact Or.inr him)
  have hF_q9 := hF_q9.trans hg9
  exact g_aret S hr (Or.inl ⟨_, rfl⟩) hlk I dX11_anew_23 (Nat.le_of_ble_eq_true rfl) (Nat.le_of_ble_eq_true rfl) hQ ⟨_, rfl, (by unfold hoE; rw [e9]; exact hq_q9), hF_q9⟩

set_option maxHeartbeats 4000000 in
set_option maxRecDepth 100000 in
theorem met_X10_anew (l : Launch) (Γ : g_C) (htr : l.stackTraces = false) (ph : g_H) (i : Nat) (ad na : Nat → Nat) (mc : Nat → Int32) (w : m_w) (k : Nat) (jn im : Nat)  (hW : g_Wl Γ ph i ad na mc w) (hw : WF w) (hk : k < nN w) (e9 : w (1 + 5 * k + 2) = 2) (him : im ≠ i) : g_Met l yX10_anew (ws_ yX10_anew cX10_anew 1 (some (.object "CrumblingWall$Hold"))) (g_rm 4 1 5) Γ [.ref (ad (30 + k))] ph (g_or (fun rv_ ph' => ph' jn im rv_ = some (hoE k (w (1 + 5 * k + 2)) (w (1 + 5 * k)) (w (1 + 5 * k + 1)) (w (1 + 5 * k + 3)) 0) ∧ g_fr [(jn, im)] ph ph')) g_no := by
  refine g_start (y := yX10_anew) (cc := cX10_anew) (maxL := 1) (ret := (some (.object "CrumblingWall$Hold"))) (rm := g_rm 4 1 5) (by decide) (Nat.le_of_ble_eq_true rfl) ?_
  intro pg e s m A below meth cd ls Q hQ S hr hlk hex hnm hK I hl
  have hx := S.1
  have hb := S.2.1
  have hown := S.2.2.2.1
  have hts := S.2.2.2.2
  have S : CallFix pg m cd cX10_anew 1 s A lw_all "CrumblingWall$Flake" := S
  have hl : lv_has ls 1 [(0, .ref (ad (30 + k)))] := hl
  have hwc := hw.1; have hwl := hw.2.1; have hwa := hw.2.2.1
  have r9 : ∀ {x : g_H}, g_Wl Γ x i ad na mc w → x (130 + k) i (ad (30 + k)) = some (.inr (8, [.int (nI k), .int (w (1 + 5 * k)), .int (w (1 + 5 * k + 1)), .int (w (1 + 5 * k + 3)), .int (w (1 + 5 * k + 4))])) := fun z => by have z := z.ho hk; unfold hoE at z; rw [e9] at z; exact z
  refine g_new S hK I jn im k_X10 q1479 q1480 q160 (fs := [.int 0, .int 0, .int 0, .int 0, .int 0]) (by decide) (Nat.le_of_ble_eq_true rfl) (Nat.le_of_ble_eq_true rfl) dX10_anew_0 (fun q9 H hfq9 I => ?_)
  have hW : g_Wl Γ (gput ph jn im q9 (.inr (8, [.int 0, .int 0, .int 0, .int 0, .int 0]))) i ad na mc w := hW.putI him
  have hq_q9 : (gput ph jn im q9 (.inr (8, [.int 0, .int 0, .int 0, .int 0, .int 0]))) jn im q9 = some (.inr (8, [.int 0, .int 0, .int 0, .int 0, .int 0])) := gput_self _ _ _ _ _
  have hF_q9 : g_fr [(jn, im)] ph (gput ph jn im q9 (.inr (8, [.int 0, .int 0, .int 0, .int 0, .int 0]))) := (g_fr.refl _ _).put (by simp)
  generalize gput ph jn im q9 (.inr (8, [.int 0, .int 0, .int 0, .int 0, .int 0])) = P_q9 at I hW hq_q9 hF_q9
  refine lv_dup hx hb dX10_anew_3 rfl ?_
  refine lv_aload_n hx hb dX10_anew_4 rfl (lv_at hl 0 rfl) ?_
  refine g_ci (g_runU S hK I (As := []) (rest := [.ref q9, .ref q9]) (met_X7_number l Γ htr P_q9 i ad na mc w k hW hw  (by omega)) (g_cwD (n := 0) hts q1223 q157 (by decide) (by decide +kernel) q1481 q1482 (g_declN (hK.N q1408 rfl)) q1483 q1221 ⟨Nat.le_of_ble_eq_true rfl, Nat.le_of_ble_eq_true rfl⟩) (g_recv hK I (g_at.of (r9 hW)) (ci := 8) rfl) rfl hl.1 rfl (Nat.le_of_ble_eq_true rfl) dX10_anew_5 ⟨Nat.le_of_ble_eq_true rfl, Nat.le_of_ble_eq_true rfl⟩) I (fun r_5 ph1 H locs hp I => ?_)
  obtain ⟨hp, hph⟩ := hp
  rw [hph] at I
  have hp : r_5 = (nI k) := hp
  rw [hp]
  refine lv_aload_n hx hb dX10_anew_8 rfl (lv_at hl 0 rfl) ?_
  refine g_ci (g_runU S hK I (As := []) (rest := [.int (nI k), .ref q9, .ref q9]) (met_X7_column l Γ htr P_q9 i ad na mc w k hW hw  (by omega)) (g_cwD (n := 0) hts q1415 q157 (by decide) (by decide +kernel) q1484 q1485 (g_declN (hK.N q1412 rfl)) q1486 q1414 ⟨Nat.le_of_ble_eq_true rfl, Nat.le_of_ble_eq_true rfl⟩) (g_recv hK I (g_at.of (r9 hW)) (ci := 8) rfl) rfl hl.1 rfl (Nat.le_of_ble_eq_true rfl) dX10_anew_9 ⟨Nat.le_of_ble_eq_true rfl, Nat.le_of_ble_eq_true rfl⟩) I (fun r_9 ph1 H locs hp I => ?_)
  obtain ⟨hp, hph⟩ := hp
  rw [hph] at I
  have hp : r_9 = (w (1 + 5 * k)) := hp
  rw [hp]
  refine lv_aload_n hx hb dX10_anew_12 rfl (lv_at hl 0 rfl) ?_
  refine g_ci (g_runU S hK I (As := []) (rest := [.int (w (1 + 5 * k)), .int (nI k), .ref q9, .ref q9]) (met_X7_row l Γ htr P_q9 i ad na mc w k hW hw  (by omega)) (g_cwD (n := 0) hts q1268 q157 (by decide) (by decide +kernel) q1487 q1488 (g_declN (hK.N q1418 rfl)) q1489 q1266 ⟨Nat.le_of_ble_eq_true rfl, Nat.le_of_ble_eq_true rfl⟩) (g_recv hK I (g_at.of (r9 hW)) (ci := 8) rfl) rfl hl.1 rfl (Nat.le_of_ble_eq_true rfl) dX10_anew_13 ⟨Nat.le_of_ble_eq_true rfl, Nat.le_of_ble_eq_true rfl⟩) I (fun r_13 ph1 H locs hp I => ?_)
  obtain ⟨hp, hph⟩ := hp
  rw [hph] at I
  have hp : r_13 = (w (1 + 5 * k + 1)) := hp
  rw [hp]
  refine lv_aload_n hx hb dX10_anew_16 rfl (lv_at hl 0 rfl) ?_
  refine g_ci (g_runU S hK I (As := []) (rest := [.int (w (1 + 5 * k + 1)), .int (w (1 + 5 * k)), .int (nI k), .ref q9, .ref q9]) (met_X7_strength l Γ htr P_q9 i ad na mc w k hW hw  (by omega)) (g_cwD (n := 0) hts q1425 q157 (by decide) (by decide +kernel) q1490 q1491 (g_declN (hK.N q1422 rfl)) q1492 q1424 ⟨Nat.le_of_ble_eq_true rfl, Nat.le_of_ble_eq_true rfl⟩) (g_recv hK I (g_at.of (r9 hW)) (ci := 8) rfl) rfl hl.1 rfl (Nat.le_of_ble_eq_true rfl) dX10_anew_17 ⟨Nat.le_of_ble_eq_true rfl, Nat.le_of_ble_eq_true rfl⟩) I (fun r_17 ph1 H locs hp I => ?_)
  obtain ⟨hp, hph⟩ := hp
  rw [hph] at I
  have hp : r_17 = (w (1 + 5 * k + 3)) := hp
  rw [hp]
  refine g_cv (g_runI S hK I (As := [.int (nI k), .int (w (1 + 5 * k)), .int (w (1 + 5 * k + 1)), .int (w (1 + 5 * k + 3))]) (rest := [.ref q9]) (met_X10_init l Γ P_q9 jn im q9 (nI k) (w (1 + 5 * k)) (w (1 + 5 * k + 1)) (w (1 + 5 * k + 3)) hq_q9) (cwI 4 hts (lw_meth q1495) rfl rfl rfl (hts _ q160) (hts _ q1493) (hts _ q1494) rfl (by decide +kernel) ⟨Nat.le_of_ble_eq_true rfl, Nat.le_of_ble_eq_true rfl⟩) rfl hl.1 rfl (Nat.le_of_ble_eq_true rfl) dX10_anew_20 ⟨Nat.le_of_ble_eq_true rfl, Nat.le_of_ble_eq_true rfl⟩) I (fun ph1 H locs hp I => ?_)
  obtain ⟨hq_q9, hg9⟩ := hp
  have hq_q9 : ph1 jn im q9 = some (.inr (8, [.int (nI k), .int (w (1 + 5 * k)), .int (w (1 + 5 * k + 1)), .int (w (1 + 5 * k + 3)), .int 0])) := hq_q9
  generalize ph1 = P_1 at I hq_q9 hg9
  have hW := hW.frL hg9 (fun x hx => by rw [List.mem_singleton.mp hx]; exact Or.inr him)
  have hF_q9 := hF_q9.trans hg9
  exact g_aret S hr (Or.inl ⟨_, rfl⟩) hlk I dX10_anew_23 (Nat.le_of_ble_eq_true rfl) (Nat.le_of_ble_eq_true rfl) hQ ⟨_, rfl, (by unfold hoE; rw [e9]; exact hq_q9), hF_q9⟩

set_option maxHeartbeats 4000000 in
set_option maxRecDepth 100000 in
theorem met_X8_anew (l : Launch) (Γ : g_C) (htr : l.stackTraces = false) (ph : g_H) (i : Nat) (ad na : Nat → Nat) (mc : Nat → Int32) (w : m_w) (k : Nat) (jn im : Nat)  (hW : g_Wl Γ ph i ad na mc w) (hw : WF w) (hk : k < nN w) (e9 : w (1 + 5 * k + 2) = 3) (him : im ≠ i) : g_Met l yX8_anew (ws_ yX8_anew cX8_anew 1 (some (.object "CrumblingWall$Hold"))) (g_rm 4 1 5) Γ [.ref (ad (30 + k))] ph (g_or (fun rv_ ph' => ph' jn im rv_ = some (hoE k (w (1 + 5 * k + 2)) (w (1 + 5 * k)) (w (1 + 5 * k + 1)) (w (1 + 5 * k + 3)) 0) ∧ g_fr [(jn, im)] ph ph')) g_no := by
  refine g_start (y := yX8_anew) (cc := cX8_anew) (maxL := 1) (ret := (some (.object "CrumblingWall$Hold"))) (rm := g_rm 4 1 5) (by decide) (Nat.le_of_ble_eq_true rfl) ?_
  intro pg e s m A below meth cd ls Q hQ S hr hlk hex hnm hK I hl
  have hx := S.1
  have hb := S.2.1
  have hown := S.2.2.2.1
  have hts := S.2.2.2.2
  have S : CallFix pg m cd cX8_anew 1 s A lw_all "CrumblingWall$Bolt" := S
  have hl : lv_has ls 1 [(0, .ref (ad (30 + k)))] := hl
  have hwc := hw.1; have hwl := hw.2.1; have hwa := hw.2.2.1
  have r9 : ∀ {x : g_H}, g_Wl Γ x i ad na mc w → x (130 + k) i (ad (30 + k)) = some (.inr (6, [.int (nI k), .int (w (1 + 5 * k)), .int (w (1 + 5 * k + 1)), .int (w (1 + 5 * k + 3)), .int (w (1 + 5 * k + 4))])) := fun z => by have z := z.ho hk; unfold hoE at z; rw [e9] at z; exact z
  refine g_new S hK I jn im k_X8 q1404 q1405 q158 (fs := [.int 0, .int 0, .int 0, .int 0, .int 0]) (by decide) (Nat.le_of_ble_eq_true rfl) (Nat.le_of_ble_eq_true rfl) dX8_anew_0 (fun q9 H hfq9 I => ?_)
  have hW : g_Wl Γ (gput ph jn im q9 (.inr (6, [.int 0, .int 0, .int 0, .int 0, .int 0]))) i ad na mc w := hW.putI him
  have hq_q9 : (gput ph jn im q9 (.inr (6, [.int 0, .int 0, .int 0, .int 0, .int 0]))) jn im q9 = some (.inr (6, [.int 0, .int 0, .int 0, .int 0, .int 0])) := gput_self _ _ _ _ _
  have hF_q9 : g_fr [(jn, im)] ph (gput ph jn im q9 (.inr (6, [.int 0, .int 0, .int 0, .int 0, .int 0]))) := (g_fr.refl _ _).put (by simp)
  generalize gput ph jn im q9 (.inr (6, [.int 0, .int 0, .int 0, .int 0, .int 0])) = P_q9 at I hW hq_q9 hF_q9
  refine lv_dup hx hb dX8_anew_3 rfl ?_
  refine lv_aload_n hx hb dX8_anew_4 rfl (lv_at hl 0 rfl) ?_
  refine g_ci (g_runU S hK I (As := []) (rest := [.ref q9, .ref q9]) (met_X7_number l Γ htr P_q9 i ad na mc w k hW hw  (by omega)) (g_cwD (n := 0) hts q1223 q157 (by decide) (by decide +kernel) q1406 q1407 (g_declN (hK.N q1408 rfl)) q1409 q1221 ⟨Nat.le_of_ble_eq_true rfl, Nat.le_of_ble_eq_true rfl⟩) (g_recv hK I (g_at.of (r9 hW)) (ci := 6) rfl) rfl hl.1 rfl (Nat.le_of_ble_eq_true rfl) dX8_anew_5 ⟨Nat.le_of_ble_eq_true rfl, Nat.le_of_ble_eq_true rfl⟩) I (fun r_5 ph1 H locs hp I => ?_)
  obtain ⟨hp, hph⟩ := hp
  rw [hph] at I
  have hp : r_5 = (nI k) := hp
  rw [hp]
  refine lv_aload_n hx hb dX8_anew_8 rfl (lv_at hl 0 rfl) ?_
  refine g_ci (g_runU S hK I (As := []) (rest := [.int (nI k), .ref q9, .ref q9]) (met_X7_column l Γ htr P_q9 i ad na mc w k hW hw  (by omega)) (g_cwD (n := 0) hts q1415 q157 (by decide) (by decide +kernel) q1410 q1411 (g_declN (hK.N q1412 rfl)) q1413 q1414 ⟨Nat.le_of_ble_eq_true rfl, Nat.le_of_ble_eq_true rfl⟩) (g_recv hK I (g_at.of (r9 hW)) (ci := 6) rfl) rfl hl.1 rfl (Nat.le_of_ble_eq_true rfl) dX8_anew_9 ⟨Nat.le_of_ble_eq_true rfl, Nat.le_of_ble_eq_true rfl⟩) I (fun r_9 ph1 H locs hp I => ?_)
  obtain ⟨hp, hph⟩ := hp
  rw [hph] at I
  have hp : r_9 = (w (1 + 5 * k)) := hp
  rw [hp]
  refine lv_aload_n hx hb dX8_anew_12 rfl (lv_at hl 0 rfl) ?_
  refine g_ci (g_runU S hK I (As := []) (rest := [.int (w (1 + 5 * k)), .int (nI k), .ref q9, .ref q9]) (met_X7_row l Γ htr P_q9 i ad na mc w k hW hw  (by omega)) (g_cwD (n := 0) hts q1268 q157 (by decide) (by decide +kernel) q1416 q1417 (g_declN (hK.N q1418 rfl)) q1419 q1266 ⟨Nat.le_of_ble_eq_true rfl, Nat.le_of_ble_eq_true rfl⟩) (g_recv hK I (g_at.of (r9 hW)) (ci := 6) rfl) rfl hl.1 rfl (Nat.le_of_ble_eq_true rfl) dX8_anew_13 ⟨Nat.le_of_ble_eq_true rfl, Nat.le_of_ble_eq_true rfl⟩) I (fun r_13 ph1 H locs hp I => ?_)
  obtain ⟨hp, hph⟩ := hp
  rw [hph] at I
  have hp : r_13 = (w (1 + 5 * k + 1)) := hp
  rw [hp]
  refine lv_aload_n hx hb dX8_anew_16 rfl (lv_at hl 0 rfl) ?_
  refine g_ci (g_runU S hK I (As := []) (rest := [.int (w (1 + 5 * k + 1)), .int (w (1 + 5 * k)), .int (nI k), .ref q9, .ref q9]) (met_X7_strength l Γ htr P_q9 i ad na mc w k hW hw  (by omega)) (g_cwD (n := 0) hts q1425 q157 (by decide) (by decide +kernel) q1420 q1421 (g_declN (hK.N q1422 rfl)) q1423 q1424 ⟨Nat.le_of_ble_eq_true rfl, Nat.le_of_ble_eq_true rfl⟩) (g_recv hK I (g_at.of (r9 hW)) (ci := 6) rfl) rfl hl.1 rfl (Nat.le_of_ble_eq_true rfl) dX8_anew_17 ⟨Nat.le_of_ble_eq_true rfl, Nat.le_of_ble_eq_true rfl⟩) I (fun r_17 ph1 H locs hp I => ?_)
  obtain ⟨hp, hph⟩ := hp
  rw [hph] at I
  have hp : r_17 = (w (1 + 5 * k + 3)) := hp
  rw [hp]
  refine g_cv (g_runI S hK I (As := [.int (nI k), .int (w (1 + 5 * k)), .int (w (1 + 5 * k + 1)), .int (w (1 + 5 * k + 3))]) (rest := [.ref q9]) (met_X8_init l Γ P_q9 jn im q9 (nI k) (w (1 + 5 * k)) (w (1 + 5 * k + 1)) (w (1 + 5 * k + 3)) hq_q9) (cwI 4 hts (lw_meth q1428) rfl rfl rfl (hts _ q158) (hts _ q1426) (hts _ q1427) rfl (by decide +kernel) ⟨Nat.le_of_ble_eq_true rfl, Nat.le_of_ble_eq_true rfl⟩) rfl hl.1 rfl (Nat.le_of_ble_eq_true rfl) dX8_anew_20 ⟨Nat.le_of_ble_eq_true rfl, Nat.le_of_ble_eq_true rfl⟩) I (fun ph1 H locs hp I => ?_)
  obtain ⟨hq_q9, hg9⟩ := hp
  have hq_q9 : ph1 jn im q9 = some (.inr (6, [.int (nI k), .int (w (1 + 5 * k)), .int (w (1 + 5 * k + 1)), .int (w (1 + 5 * k + 3)), .int 0])) := hq_q9
  generalize ph1 = P_1 at I hq_q9 hg9
  have hW := hW.frL hg9 (fun x hx => by rw [List.mem_singleton.mp hx]; exact Or.inr him)
  have hF_q9 := hF_q9.trans hg9
  exact g_aret S hr (Or.inl ⟨_, rfl⟩) hlk I dX8_anew_23 (Nat.le_of_ble_eq_true rfl) (Nat.le_of_ble_eq_true rfl) hQ ⟨_, rfl, (by unfold hoE; rw [e9]; exact hq_q9), hF_q9⟩

set_option maxHeartbeats 4000000 in
set_option maxRecDepth 100000 in
theorem met_X7_copy (l : Launch) (Γ : g_C) (htr : l.stackTraces = false) (ph : g_H) (i : Nat) (ad na : Nat → Nat) (mc : Nat → Int32) (w : m_w) (k : Nat) (jn im : Nat)  (hW : g_Wl Γ ph i ad na mc w) (hw : WF w) (hk : k < nN w) (him : im ≠ i) : g_Met l yX7_copy (ws_ yX7_copy cX7_copy 2 (some (.object "CrumblingWall$Hold"))) (g_rm 5 1 5) Γ [.ref (ad (30 + k))] ph (g_or (fun rv_ ph' => ph' jn im rv_ = some (hoW w k) ∧ g_fr [(jn, im)] ph ph')) g_no := by
  refine g_start (y := yX7_copy) (cc := cX7_copy) (maxL := 2) (ret := (some (.object "CrumblingWall$Hold"))) (rm := g_rm 5 1 5) (by decide) (Nat.le_of_ble_eq_true rfl) ?_
  intro pg e s m A below meth cd ls Q hQ S hr hlk hex hnm hK I hl
  have hx := S.1
  have hb := S.2.1
  have hown := S.2.2.2.1
  have hts := S.2.2.2.2
  have S : CallFix pg m cd cX7_copy 2 s A lw_all "CrumblingWall$Hold" := S
  have hl : lv_has ls 2 [(0, .ref (ad (30 + k)))] := hl
  have hwc := hw.1; have hwl := hw.2.1; have hwa := hw.2.2.1
  refine lv_aload_n hx hb dX7_copy_0 rfl (lv_at hl 0 rfl) ?_
  refine g_cr (by obtain ⟨fs9, h9⟩ := ho_or hW hw (k := k) hk; rcases h9 with ⟨e9, r9⟩ | ⟨e9, r9⟩ | ⟨e9, r9⟩ | ⟨e9, r9⟩; exact (g_runU S hK I (As := []) (rest := []) (met_X9_anew l Γ htr ph i ad na mc w k jn im hW hw hk e9 him) (g_cwD (n := 0) hts q1451 q159 (by decide) (by decide +kernel) q1398 q1400 (g_declN (hK.N q1399 rfl)) q1449 q1450 ⟨Nat.le_of_ble_eq_true rfl, Nat.le_of_ble_eq_true rfl⟩) (g_recv hK I (g_at.of r9) (ci := 7) rfl) rfl hl.1 rfl (Nat.le_of_ble_eq_true rfl) dX7_copy_1 ⟨Nat.le_of_ble_eq_true rfl, Nat.le_of_ble_eq_true rfl⟩); exact (g_runU S hK I (As := []) (rest := []) (met_X11_anew l Γ htr ph i ad na mc w k jn im hW hw hk e9 him) (g_cwD (n := 0) hts q1505 q161 (by decide) (by decide +kernel) q1398 q1400 (g_declN (hK.N q1399 rfl)) q1503 q1504 ⟨Nat.le_of_ble_eq_true rfl, Nat.le_of_ble_eq_true rfl⟩) (g_recv hK I (g_at.of r9) (ci := 9) rfl) rfl hl.1 rfl (Nat.le_of_ble_eq_true rfl) dX7_copy_1 ⟨Nat.le_of_ble_eq_true rfl, Nat.le_of_ble_eq_true rfl⟩); exact (g_runU S hK I (As := []) (rest := []) (met_X10_anew l Γ htr ph i ad na mc w k jn im hW hw hk e9 him) (g_cwD (n := 0) hts q1478 q160 (by decide) (by decide +kernel) q1398 q1400 (g_declN (hK.N q1399 rfl)) q1476 q1477 ⟨Nat.le_of_ble_eq_true rfl, Nat.le_of_ble_eq_true rfl⟩) (g_recv hK I (g_at.of r9) (ci := 8) rfl) rfl hl.1 rfl (Nat.le_of_ble_eq_true rfl) dX7_copy_1 ⟨Nat.le_of_ble_eq_true rfl, Nat.le_of_ble_eq_true rfl⟩); exact (g_runU S hK I (As := []) (rest := []) (met_X8_anew l Γ htr ph i ad na mc w k jn im hW hw hk e9 him) (g_cwD (n := 0) hts q1403 q158 (by decide) (by decide +kernel) q1398 q1400 (g_declN (hK.N q1399 rfl)) q1401 q1402 ⟨Nat.le_of_ble_eq_true rfl, Nat.le_of_ble_eq_true rfl⟩) (g_recv hK I (g_at.of r9) (ci := 6) rfl) rfl hl.1 rfl (Nat.le_of_ble_eq_true rfl) dX7_copy_1 ⟨Nat.le_of_ble_eq_true rfl, Nat.le_of_ble_eq_true rfl⟩)) I (fun q9 ph1 H locs hp I => ?_)
  obtain ⟨hq_q9, hF_q9⟩ := hp
  generalize ph1 = P1 at I hq_q9 hF_q9
  have hW := hW.frL hF_q9 (fun x hx => by rw [List.mem_singleton.mp hx]; exact Or.inr him)
  unfold hoE at hq_q9
  refine lv_astore_n (lv' := [(1, .ref q9), (0, .ref (ad (30 + k)))]) hx hb dX7_copy_4 rfl hl (by decide) rfl (fun ls hl => ?_)
  refine lv_aload_n hx hb dX7_copy_5 rfl (lv_at hl 0 rfl) ?_
  refine lv_aload_n hx hb dX7_copy_6 rfl (lv_at hl 1 rfl) ?_
  refine h_get S hK I (kd := (w (1 + 5 * k + 2))) (v := .int (w (1 + 5 * k + 4))) (g_at.of (hW.ho (k := k) (by omega))) 4 (by decide) q1437 rfl rfl dX7_copy_7 ?_
  refine h_put S hK I (kd := (w (1 + 5 * k + 2))) (v := .int (w (1 + 5 * k + 4))) rfl hq_q9 q1437 rfl dX7_copy_10 (fun H locs I => ?_)
  have hF_q9 := hF_q9.put (j := jn) (i := im) (q := q9) (e := hoW w k) (by simp)
  have I : g_I Γ (gput P1 jn im q9 (hoW w k)) s H locs := I
  refine lv_aload_n hx hb dX7_copy_13 rfl (lv_at hl 0 rfl) ?_
  exact g_aret S hr (Or.inl ⟨_, rfl⟩) hlk I dX7_copy_14 (Nat.le_of_ble_eq_true rfl) (Nat.le_of_ble_eq_true rfl) hQ ⟨_, rfl, gput_self _ _ _ _ _, hF_q9⟩

set_option maxHeartbeats 4000000 in
set_option maxRecDepth 100000 in
theorem met_J0_of (l : Launch) (Γ : g_C) (ph : g_H) (j i u v : Nat)    : g_Met l yJ0_of (ws_ yJ0_of cJ0_of 2 (some (.object "java/util/List"))) (g_rm 5 1 2) Γ [.ref u, .ref v] (ph) (g_or (fun rv_ ph' => ph' j i rv_ = some (.inr (20, [.ref u, .ref v])) ∧ g_fr [(j, i)] ph ph')) g_no := by
  refine g_start (y := yJ0_of) (cc := cJ0_of) (maxL := 2) (ret := (some (.object "java/util/List"))) (rm := g_rm 5 1 2) (by decide) (Nat.le_of_ble_eq_true rfl) ?_
  intro p e s m A below meth c ls Q hQ S hr hlk hex hnm hK I hl
  have hx := S.1
  have hb := S.2.1
  have hown := S.2.2.2.1
  have hts := S.2.2.2.2
  have S : CallFix p m c cJ0_of 2 s A lw_all "java/util/List" := S
  have hl : lv_has ls 2 [(0, .ref u), (1, .ref v)] := hl
  refine g_new S hK I j i k_J4 q232 q233 q127 (fs := [.null, .null]) (by decide) (Nat.le_of_ble_eq_true rfl) (Nat.le_of_ble_eq_true rfl) dJ0_of_0 (fun q H hfq I => ?_)
  have I : g_I Γ (gput ph j i q (.inr (20, [.null, .null]))) s _ _ := I
  refine lv_dup hx hb dJ0_of_3 rfl ?_
  refine lv_aload_n hx hb dJ0_of_4 rfl (lv_at hl 0 rfl) ?_
  refine lv_aload_n hx hb dJ0_of_5 rfl (lv_at hl 1 rfl) ?_
  refine g_cv (g_runI S hK I (As := [.ref u, .ref v]) (rest := [.ref q]) (met_J4_init l Γ (gput ph j i q (.inr (20, [.null, .null]))) j i q u v .null .null (gput_self _ _ _ _ _)) (cwI 2 hts (lw_meth q236) rfl rfl rfl (hts _ q127) (hts _ q234) (hts _ q235) rfl (by decide +kernel) ⟨Nat.le_of_ble_eq_true rfl, Nat.le_of_ble_eq_true rfl⟩) rfl hl.1 rfl (Nat.le_of_ble_eq_true rfl) dJ0_of_6 ⟨Nat.le_of_ble_eq_true rfl, Nat.le_of_ble_eq_true rfl⟩) I (fun ph1 H locs hp I => ?_)
  rw [hp] at I
  exact g_aret S hr (Or.inl ⟨_, rfl⟩) hlk I dJ0_of_9 (Nat.le_of_ble_eq_true rfl) (Nat.le_of_ble_eq_true rfl) hQ ⟨_, rfl, ⟨(gput_self _ _ _ _ _), ((((g_fr.refl _ _).put (by simp)).put (by simp)).put (by simp))⟩⟩


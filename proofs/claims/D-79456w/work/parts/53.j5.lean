/-! THE JDK: LinkedList, nodes by their places -/
set_option maxRecDepth 100000
set_option maxHeartbeats 4000000 in
set_option maxRecDepth 100000 in
theorem met_J24_node (l : Launch) (Γ : g_C) (ph : g_H) (j i q jn n k : Nat) (na it : Nat → Nat) (mc : Int32)   (hL : g_LL ph j i q jn n na it mc) (hkn : k < n) (hn : n < 2 ^ 31) : g_Met l yJ24_node (ws_ yJ24_node cJ24_node 4 (some (.object "java/util/LinkedList$Node"))) (g_rm 1 0 0) Γ [.ref q, .int (nI k)] (ph) (g_or (fun rv_ ph' => rv_ = na k ∧ ph' = ph)) g_no := by
  refine g_start (y := yJ24_node) (cc := cJ24_node) (maxL := 4) (ret := (some (.object "java/util/LinkedList$Node"))) (rm := g_rm 1 0 0) (by decide) (Nat.le_of_ble_eq_true rfl) ?_
  intro p e s m A below meth c ls Q hQ S hr hlk hex hnm hK I hl
  have hx := S.1
  have hb := S.2.1
  have hown := S.2.2.2.1
  have hts := S.2.2.2.2
  have S : CallFix p m c cJ24_node 4 s A lw_all "java/util/LinkedList" := S
  have hl : lv_has ls 4 [(0, .ref q), (1, .int (nI k))] := hl
  have hq : ph j i q = some (.inr (24, [.int mc, .int (nI n), .ref (na 0), .ref (na (n - 1))])) := by have z := hL.1; rw [show lkF n na = .ref (na 0) from if_neg (by omega), show lkL n na = .ref (na (n - 1)) from if_neg (by omega)] at z; exact z
  refine lv_iload_n hx hb dJ24_node_0 rfl (lv_at hl 1 rfl) ?_
  refine lv_aload_n hx hb dJ24_node_1 rfl (lv_at hl 0 rfl) ?_
  refine g_get S hK I k_J24 (v := .int (nI n)) (g_at.of hq) 1 (by decide) q623 rfl rfl dJ24_node_2 ?_
  refine lv_iconst (v := 1) hx hb dJ24_node_5 (by decide) ?_
  refine lv_ishr hx hb dJ24_node_6 ?_
  refine lv_icmp_ge (tgt := 35) hx hb dJ24_node_7 (by decide) (fun c_7 => ?_) (fun c_7 => ?_)
  · have n_7 := Int32.not_lt.mpr c_7
    refine lv_aload_n hx hb dJ24_node_35 rfl (lv_at hl 0 rfl) ?_
    refine g_get S hK I k_J24 (v := .ref (na (n - 1))) (g_at.of hq) 3 (by decide) q626 rfl rfl dJ24_node_36 ?_
    refine lv_astore_n (lv' := [(2, .ref (na (n - 1))), (0, .ref q), (1, .int (nI k))]) hx hb dJ24_node_39 rfl hl (by decide) rfl (fun ls hl => ?_)
    refine lv_aload_n hx hb dJ24_node_40 rfl (lv_at hl 1 rfl) ?_
    refine g_get S hK I k_J24 (v := .int (nI n)) (g_at.of hq) 1 (by decide) q623 rfl rfl dJ24_node_41 ?_
    refine lv_iconst (v := 1) hx hb dJ24_node_44 (by decide) ?_
    refine lv_isub hx hb dJ24_node_45 ?_
    rw [show nI n - 1 = nI (n - 1) from un_1 (by omega)]
    refine lv_istore_n (lv' := [(3, .int (nI (n - 1))), (2, .ref (na (n - 1))), (0, .ref q), (1, .int (nI k))]) hx hb dJ24_node_46 rfl hl (by decide) rfl (fun ls hl => ?_)
    have L_47 : ∀ (d : Nat) (x9 : Nat), (hc9 : k ≤ x9) → (hx9 : x9 < n) → x9 < d → ∀ (H : Heap) (locs : List Loc) (ls : Array Slot), g_I Γ ph s H locs → lv_has ls 4 [(0, .ref q), (1, .int (nI k)), (2, .ref (na x9)), (3, .int (nI x9))] → W p l e (g_rm 1 0 0) s m A below meth c H locs 0 0 Q (F0 m 47 ls []) := by
      intro d
      induction d with
      | zero => intro x9 hc9 hx9 hd; exact absurd hd (Nat.not_lt_zero _)
      | succ d ih =>
        intro x9 hc9 hx9 hd H locs ls I hl
        refine lv_iload_n hx hb dJ24_node_47 rfl (lv_at hl 3 rfl) ?_
        refine lv_iload_n hx hb dJ24_node_48 rfl (lv_at hl 1 rfl) ?_
        refine lv_icmp_le (tgt := 63) hx hb dJ24_node_49 (by decide) (fun c_49 => ?_) (fun c_49 => ?_)
        · have n_49 := Int32.not_lt.mpr c_49
          have hce : x9 = k := by rw [nI_leI (by omega) (by omega)] at c_49; omega
          refine lv_aload_n hx hb dJ24_node_63 rfl (lv_at hl 2 rfl) ?_
          exact g_aret S hr (Or.inl ⟨_, rfl⟩) hlk I dJ24_node_64 (Nat.le_of_ble_eq_true rfl) (Nat.le_of_ble_eq_true rfl) hQ ⟨_, rfl, (congrArg na hce), rfl⟩
        · have n_49 := Int32.not_le.mp c_49
          have hck : k < x9 := by rw [nI_leI (by omega) (by omega)] at c_49; omega
          obtain ⟨y9, rfl⟩ : ∃ y, x9 = y + 1 := ⟨x9 - 1, by omega⟩
          have hx1 : ph jn i (na (y9 + 1)) = some (.inr (27, [.ref (it (y9 + 1)), lkN (y9 + 1) n na, .ref (na y9)])) := hL.2.1 (y9 + 1) (by omega)
          refine lv_aload_n hx hb dJ24_node_52 rfl (lv_at hl 2 rfl) ?_
          refine g_get S hK I k_J34 (v := .ref (na y9)) (g_at.of hx1) 2 (by decide) q1617 rfl rfl dJ24_node_53 ?_
          refine lv_astore_n (lv' := [(2, .ref (na y9)), (0, .ref q), (1, .int (nI k)), (3, .int (nI (y9 + 1)))]) hx hb dJ24_node_56 rfl hl (by decide) rfl (fun ls hl => ?_)
          refine lv_iinc (v := nI y9) (lv' := [(3, .int (nI y9)), (2, .ref (na y9)), (0, .ref q), (1, .int (nI k))]) hx hb dJ24_node_57 hl (k := 3) rfl (by rw [show Int32.ofInt (-1) = -1 from rfl, ← Int32.sub_eq_add_neg, nI_pred]) (by decide) rfl (fun ls hl => ?_)
          refine lv_goto (tgt := 47) hx hb dJ24_node_60 (by decide) ?_
          exact ih y9 (by omega) (by omega) (by omega) _ _ _ I (lv_sub hl [2, 3, 1, 0] rfl)
    exact L_47 _ (n - 1) (by omega) (by omega) (Nat.lt_succ_self _) _ _ _ I (lv_sub hl [2, 3, 1, 0] rfl)
  · have n_7 := Int32.not_le.mp c_7
    refine lv_aload_n hx hb dJ24_node_10 rfl (lv_at hl 0 rfl) ?_
    refine g_get S hK I k_J24 (v := .ref (na 0)) (g_at.of hq) 2 (by decide) q625 rfl rfl dJ24_node_11 ?_
    refine lv_astore_n (lv' := [(2, .ref (na 0)), (0, .ref q), (1, .int (nI k))]) hx hb dJ24_node_14 rfl hl (by decide) rfl (fun ls hl => ?_)
    refine lv_iconst (v := 0) hx hb dJ24_node_15 (by decide) ?_
    refine lv_istore_n (lv' := [(3, .int 0), (2, .ref (na 0)), (0, .ref q), (1, .int (nI k))]) hx hb dJ24_node_16 rfl hl (by decide) rfl (fun ls hl => ?_)
    have L_17 : ∀ (d : Nat) (x9 : Nat), (hc9 : x9 ≤ k) → k - x9 < d → ∀ (H : Heap) (locs : List Loc) (ls : Array Slot), g_I Γ ph s H locs → lv_has ls 4 [(0, .ref q), (1, .int (nI k)), (2, .ref (na x9)), (3, .int (nI x9))] → W p l e (g_rm 1 0 0) s m A below meth c H locs 0 0 Q (F0 m 17 ls []) := by
      intro d
      induction d with
      | zero => intro x9 hc9 hd; exact absurd hd (Nat.not_lt_zero _)
      | succ d ih =>
        intro x9 hc9 hd H locs ls I hl
        refine lv_iload_n hx hb dJ24_node_17 rfl (lv_at hl 3 rfl) ?_
        refine lv_iload_n hx hb dJ24_node_18 rfl (lv_at hl 1 rfl) ?_
        refine lv_icmp_ge (tgt := 33) hx hb dJ24_node_19 (by decide) (fun c_19 => ?_) (fun c_19 => ?_)
        · have n_19 := Int32.not_lt.mpr c_19
          have hce : x9 = k := by rw [nI_leI (by omega) (by omega)] at c_19; omega
          refine lv_aload_n hx hb dJ24_node_33 rfl (lv_at hl 2 rfl) ?_
          exact g_aret S hr (Or.inl ⟨_, rfl⟩) hlk I dJ24_node_34 (Nat.le_of_ble_eq_true rfl) (Nat.le_of_ble_eq_true rfl) hQ ⟨_, rfl, (congrArg na hce), rfl⟩
        · have n_19 := Int32.not_le.mp c_19
          have hck : x9 + 1 ≤ k := by rw [nI_leI (by omega) (by omega)] at c_19; omega
          have hx1 : ph jn i (na x9) = some (.inr (27, [.ref (it x9), .ref (na (x9 + 1)), lkP x9 na])) := by have z := hL.2.1 x9 (by omega); rw [show lkN x9 n na = .ref (na (x9 + 1)) from if_pos (by omega)] at z; exact z
          refine lv_aload_n hx hb dJ24_node_22 rfl (lv_at hl 2 rfl) ?_
          refine g_get S hK I k_J34 (v := .ref (na (x9 + 1))) (g_at.of hx1) 1 (by decide) q1614 rfl rfl dJ24_node_23 ?_
          refine lv_astore_n (lv' := [(2, .ref (na (x9 + 1))), (0, .ref q), (1, .int (nI k)), (3, .int (nI x9))]) hx hb dJ24_node_26 rfl hl (by decide) rfl (fun ls hl => ?_)
          refine lv_iinc (v := nI (x9 + 1)) (lv' := [(3, .int (nI (x9 + 1))), (2, .ref (na (x9 + 1))), (0, .ref q), (1, .int (nI k))]) hx hb dJ24_node_27 hl (k := 3) rfl (nI_1 x9) (by decide) rfl (fun ls hl => ?_)
          refine lv_goto (tgt := 17) hx hb dJ24_node_30 (by decide) ?_
          exact ih (x9 + 1) hck (by omega) _ _ _ I (lv_sub hl [2, 3, 1, 0] rfl)
    exact L_17 _ 0 (Nat.zero_le _) (Nat.lt_succ_self _) _ _ _ I (lv_sub hl [2, 3, 1, 0] rfl)

theorem nI_nn {n : Nat} (h : n < 2 ^ 31) : (0 : Int32) ≤ nI n := by
  rw [show (0 : Int32) = nI 0 from rfl, nI_leI (by decide) h]
  exact Nat.zero_le _
set_option maxHeartbeats 4000000 in
set_option maxRecDepth 100000 in
theorem met_J24_get (l : Launch) (Γ : g_C) (ph : g_H) (j i q jn n k : Nat) (na it : Nat → Nat) (mc : Int32)   (hL : g_LL ph j i q jn n na it mc) (hkn : k < n) (hn : n < 2 ^ 31) : g_Met l yJ24_get (ws_ yJ24_get cJ24_get 2 (some (.object "java/lang/Object"))) (g_rm 3 0 0) Γ [.ref q, .int (nI k)] (ph) (g_or (fun rv_ ph' => rv_ = it k ∧ ph' = ph)) g_no := by
  refine g_start (y := yJ24_get) (cc := cJ24_get) (maxL := 2) (ret := (some (.object "java/lang/Object"))) (rm := g_rm 3 0 0) (by decide) (Nat.le_of_ble_eq_true rfl) ?_
  intro p e s m A below meth c ls Q hQ S hr hlk hex hnm hK I hl
  have hx := S.1
  have hb := S.2.1
  have hown := S.2.2.2.1
  have hts := S.2.2.2.2
  have S : CallFix p m c cJ24_get 2 s A lw_all "java/util/LinkedList" := S
  have hl : lv_has ls 2 [(0, .ref q), (1, .int (nI k))] := hl
  have hq := hL.1
  have hxk := hL.2.1 k hkn
  refine lv_aload_n hx hb dJ24_get_0 rfl (lv_at hl 0 rfl) ?_
  refine lv_iload_n hx hb dJ24_get_1 rfl (lv_at hl 1 rfl) ?_
  refine g_cv (g_runV S hK I (As := [.int (nI k)]) (rest := []) (met_J24_checkElementIndex l Γ ph j i q mc (nI n) (nI k) (lkF n na) (lkL n na) hq (fun z => absurd z (Int32.not_lt.mpr (nI_nn (by omega)))) ((nI_ltI (by omega) hn).mpr hkn)) (cwV 1 hts (lw_V q854 q856 qs1 q148 q857) rfl rfl rfl (by decide +kernel) ⟨Nat.le_of_ble_eq_true rfl, Nat.le_of_ble_eq_true rfl⟩) (g_recv hK I (g_at.of hq) (ci := 24) rfl) rfl hl.1 rfl (Nat.le_of_ble_eq_true rfl) dJ24_get_2 ⟨Nat.le_of_ble_eq_true rfl, Nat.le_of_ble_eq_true rfl⟩) I (fun ph1 H locs hp I => ?_)
  rw [hp] at I
  refine lv_aload_n hx hb dJ24_get_5 rfl (lv_at hl 0 rfl) ?_
  refine lv_iload_n hx hb dJ24_get_6 rfl (lv_at hl 1 rfl) ?_
  refine g_cr (g_runV S hK I (As := [.int (nI k)]) (rest := []) (met_J24_node l Γ ph j i q jn n k na it mc hL hkn hn) (cwV 1 hts (lw_V q875 q876 q877 q148 q878) rfl rfl rfl (by decide +kernel) ⟨Nat.le_of_ble_eq_true rfl, Nat.le_of_ble_eq_true rfl⟩) (g_recv hK I (g_at.of hq) (ci := 24) rfl) rfl hl.1 rfl (Nat.le_of_ble_eq_true rfl) dJ24_get_7 ⟨Nat.le_of_ble_eq_true rfl, Nat.le_of_ble_eq_true rfl⟩) I (fun r_7 ph1 H locs hp I => ?_)
  obtain ⟨hp, hph⟩ := hp
  rw [hph] at I
  rw [hp]
  refine g_get S hK I k_J34 (v := .ref (it k)) (g_at.of hxk) 0 (by decide) q1611 rfl rfl dJ24_get_10 ?_
  exact g_aret S hr (Or.inl ⟨_, rfl⟩) hlk I dJ24_get_13 (Nat.le_of_ble_eq_true rfl) (Nat.le_of_ble_eq_true rfl) hQ ⟨_, rfl, rfl, rfl⟩

set_option maxHeartbeats 4000000 in
set_option maxRecDepth 100000 in
theorem met_J32_init (l : Launch) (Γ : g_C) (ph : g_H) (j i q jn n k : Nat) (na it : Nat → Nat) (mc : Int32) (ju iu u : Nat)   (hL : g_LL ph j i q jn n na it mc) (hkn : k ≤ n) (hn : n < 2 ^ 31) (hu : ph ju iu u = some (.inr (26, [.null, .null, .int 0, .int 0, .null]))) (hj1 : ju ≠ j) (hj2 : ju ≠ jn) : g_Met l yJ32_init (ws_ yJ32_init cJ32_init 3 none) (g_rm 2 0 0) Γ [.ref u, .ref q, .int (nI k)] (ph) (g_ov (fun ph' => ph' ju iu u = some (.inr (26, [.null, lkK k n na, .int (nI k), .int mc, .ref q])) ∧ g_fr [(ju, iu)] ph ph')) g_no := by
  refine g_start (y := yJ32_init) (cc := cJ32_init) (maxL := 3) (ret := none) (rm := g_rm 2 0 0) (by decide) (Nat.le_of_ble_eq_true rfl) ?_
  intro p e s m A below meth c ls Q hQ S hr hlk hex hnm hK I hl
  have hx := S.1
  have hb := S.2.1
  have hown := S.2.2.2.1
  have hts := S.2.2.2.2
  have S : CallFix p m c cJ32_init 3 s A lw_all "java/util/LinkedList$ListItr" := S
  have hl : lv_has ls 3 [(0, .ref u), (1, .ref q), (2, .int (nI k))] := hl
  have hq := hL.1
  refine lv_aload_n hx hb dJ32_init_0 rfl (lv_at hl 0 rfl) ?_
  refine lv_aload_n hx hb dJ32_init_1 rfl (lv_at hl 1 rfl) ?_
  refine g_putF S hK I k_J32 (v := .ref q) hu 4 (by decide) q968 rfl rfl hnm rfl rfl (Nat.le_of_ble_eq_true rfl) dJ32_init_2 (fun H locs I => ?_)
  have I : g_I Γ (gput ph ju iu u (.inr (26, [.null, .null, .int 0, .int 0, .ref q]))) s _ _ := I
  refine lv_aload_n hx hb dJ32_init_5 rfl (lv_at hl 0 rfl) ?_
  refine g_obj S hl.1 q962 dJ32_init_6 (Nat.le_of_ble_eq_true rfl) (Nat.le_of_ble_eq_true rfl) ?_
  refine lv_aload_n hx hb dJ32_init_9 rfl (lv_at hl 0 rfl) ?_
  refine lv_aload_n hx hb dJ32_init_10 rfl (lv_at hl 0 rfl) ?_
  refine g_get S hK I k_J32 (v := .ref q) (g_at.of (gput_self _ _ _ _ _)) 4 (by decide) q968 rfl rfl dJ32_init_11 ?_
  refine g_getU S hK I k_J24 (v := .int mc) (g_at.of ((g_oj (Ne.symm hj1)).trans hq)) 0 (by decide) q600 q601 rfl dJ32_init_14 ?_
  refine g_put S hK I k_J32 (v := .int mc) (gput_self _ _ _ _ _) 3 (by decide) q967 rfl rfl rfl rfl (Nat.le_of_ble_eq_true rfl) dJ32_init_17 (fun H locs I => ?_)
  have I : g_I Γ (gput (gput ph ju iu u (.inr (26, [.null, .null, .int 0, .int 0, .ref q]))) ju iu u (.inr (26, [.null, .null, .int 0, .int mc, .ref q]))) s _ _ := I
  refine lv_aload_n hx hb dJ32_init_20 rfl (lv_at hl 0 rfl) ?_
  refine lv_iload_n hx hb dJ32_init_21 rfl (lv_at hl 2 rfl) ?_
  refine lv_aload_n hx hb dJ32_init_22 rfl (lv_at hl 1 rfl) ?_
  refine g_get S hK I k_J24 (v := .int (nI n)) (g_at.of ((g_oj (Ne.symm hj1)).trans ((g_oj (Ne.symm hj1)).trans hq))) 1 (by decide) q624 rfl rfl dJ32_init_23 ?_
  refine lv_icmp_ne (tgt := 33) hx hb dJ32_init_26 (by decide) (fun c_26 => ?_) (fun c_26 => ?_)
  · have hlt : k < n := by rcases Nat.lt_or_ge k n with z | z; exact z; exact absurd (by rw [show k = n by omega]) c_26
    refine lv_aload_n hx hb dJ32_init_33 rfl (lv_at hl 1 rfl) ?_
    refine lv_iload_n hx hb dJ32_init_34 rfl (lv_at hl 2 rfl) ?_
    have hL9 : g_LL (gput (gput ph ju iu u (.inr (26, [.null, .null, .int 0, .int 0, .ref q]))) ju iu u (.inr (26, [.null, .null, .int 0, .int mc, .ref q]))) j i q jn n na it mc := ⟨((g_oj (Ne.symm hj1)).trans ((g_oj (Ne.symm hj1)).trans hL.1)), fun x hx => ((g_oj (Ne.symm hj2)).trans ((g_oj (Ne.symm hj2)).trans (hL.2.1 x hx))), hL.2.2⟩
    refine g_cr (g_runV S hK I (As := [.int (nI k)]) (rest := [.ref u]) (met_J24_node l Γ (gput (gput ph ju iu u (.inr (26, [.null, .null, .int 0, .int 0, .ref q]))) ju iu u (.inr (26, [.null, .null, .int 0, .int mc, .ref q]))) j i q jn n k na it mc hL9 hlt hn) (cwV 1 hts (lw_V q963 q876 q877 q148 q878) rfl rfl rfl (by decide +kernel) ⟨Nat.le_of_ble_eq_true rfl, Nat.le_of_ble_eq_true rfl⟩) (g_recv hK I (g_at.of hL9.1) (ci := 24) rfl) rfl hl.1 rfl (Nat.le_of_ble_eq_true rfl) dJ32_init_35 ⟨Nat.le_of_ble_eq_true rfl, Nat.le_of_ble_eq_true rfl⟩) I (fun r_35 ph1 H locs hp I => ?_)
    obtain ⟨hp, hph⟩ := hp
    rw [hph] at I
    rw [hp]
    refine g_put S hK I k_J32 (v := .ref (na k)) (gput_self _ _ _ _ _) 1 (by decide) q965 rfl rfl rfl rfl (Nat.le_of_ble_eq_true rfl) dJ32_init_38 (fun H locs I => ?_)
    have I : g_I Γ (gput (gput (gput ph ju iu u (.inr (26, [.null, .null, .int 0, .int 0, .ref q]))) ju iu u (.inr (26, [.null, .null, .int 0, .int mc, .ref q]))) ju iu u (.inr (26, [.null, .ref (na k), .int 0, .int mc, .ref q]))) s _ _ := I
    refine lv_aload_n hx hb dJ32_init_41 rfl (lv_at hl 0 rfl) ?_
    refine lv_iload_n hx hb dJ32_init_42 rfl (lv_at hl 2 rfl) ?_
    refine g_put S hK I k_J32 (v := .int (nI k)) (gput_self _ _ _ _ _) 2 (by decide) q966 rfl rfl rfl rfl (Nat.le_of_ble_eq_true rfl) dJ32_init_43 (fun H locs I => ?_)
    have I : g_I Γ (gput (gput (gput (gput ph ju iu u (.inr (26, [.null, .null, .int 0, .int 0, .ref q]))) ju iu u (.inr (26, [.null, .null, .int 0, .int mc, .ref q]))) ju iu u (.inr (26, [.null, .ref (na k), .int 0, .int mc, .ref q]))) ju iu u (.inr (26, [.null, .ref (na k), .int (nI k), .int mc, .ref q]))) s _ _ := I
    exact g_vret S hr hlk I dJ32_init_46 (Nat.le_of_ble_eq_true rfl) (Nat.le_of_ble_eq_true rfl) hQ ⟨rfl, ⟨by rw [show lkK k n na = .ref (na k) from if_pos hlt]; exact (gput_self _ _ _ _ _), (g_fr.put (g_fr.put (g_fr.put (g_fr.put (g_fr.refl _ _) (by simp)) (by simp)) (by simp)) (by simp))⟩⟩
  · have hke : k = n := nI_inj (by omega) hn c_26
    refine lv_null hx hb dJ32_init_29 ?_
    refine lv_goto (tgt := 38) hx hb dJ32_init_30 (by decide) ?_
    refine g_put S hK I k_J32 (v := .null) (gput_self _ _ _ _ _) 1 (by decide) q965 rfl rfl rfl rfl (Nat.le_of_ble_eq_true rfl) dJ32_init_38 (fun H locs I => ?_)
    have I : g_I Γ (gput (gput (gput ph ju iu u (.inr (26, [.null, .null, .int 0, .int 0, .ref q]))) ju iu u (.inr (26, [.null, .null, .int 0, .int mc, .ref q]))) ju iu u (.inr (26, [.null, .null, .int 0, .int mc, .ref q]))) s _ _ := I
    refine lv_aload_n hx hb dJ32_init_41 rfl (lv_at hl 0 rfl) ?_
    refine lv_iload_n hx hb dJ32_init_42 rfl (lv_at hl 2 rfl) ?_
    refine g_put S hK I k_J32 (v := .int (nI k)) (gput_self _ _ _ _ _) 2 (by decide) q966 rfl rfl rfl rfl (Nat.le_of_ble_eq_true rfl) dJ32_init_43 (fun H locs I => ?_)
    have I : g_I Γ (gput (gput (gput (gput ph ju iu u (.inr (26, [.null, .null, .int 0, .int 0, .ref q]))) ju iu u (.inr (26, [.null, .null, .int 0, .int mc, .ref q]))) ju iu u (.inr (26, [.null, .null, .int 0, .int mc, .ref q]))) ju iu u (.inr (26, [.null, .null, .int (nI k), .int mc, .ref q]))) s _ _ := I
    exact g_vret S hr hlk I dJ32_init_46 (Nat.le_of_ble_eq_true rfl) (Nat.le_of_ble_eq_true rfl) hQ ⟨rfl, ⟨by rw [show lkK k n na = .null from if_neg (by omega)]; exact (gput_self _ _ _ _ _), (g_fr.put (g_fr.put (g_fr.put (g_fr.put (g_fr.refl _ _) (by simp)) (by simp)) (by simp)) (by simp))⟩⟩


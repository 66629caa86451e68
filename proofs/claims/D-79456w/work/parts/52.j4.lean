/-! THE JDK: iterators of LinkedList -/
set_option maxRecDepth 100000
/-- the next node: the k-th, or none -/
def lkK (k n : Nat) (na : Nat → Nat) : Value := if k < n then .ref (na k) else .null
theorem lkK_s {k n : Nat} {na : Nat → Nat} : lkK (k + 1) n na = lkN k n na := rfl
set_option maxHeartbeats 4000000 in
set_option maxRecDepth 100000 in
theorem met_J32_checkForComodification (l : Launch) (Γ : g_C) (ph : g_H) (j i q jn n : Nat) (na it : Nat → Nat) (mc : Int32) (ju iu u k : Nat) (lr : Value)   (hL : g_LL ph j i q jn n na it mc) (hu : ph ju iu u = some (.inr (26, [lr, lkK k n na, .int (nI k), .int mc, .ref q]))) : g_Met l yJ32_checkForComodification (ws_ yJ32_checkForComodification cJ32_checkForComodification 1 none) (g_rm 1 0 0) Γ [.ref u] (ph) (g_ov (fun ph' => ph' = ph)) g_no := by
  refine g_start (y := yJ32_checkForComodification) (cc := cJ32_checkForComodification) (maxL := 1) (ret := none) (rm := g_rm 1 0 0) (by decide) (Nat.le_of_ble_eq_true rfl) ?_
  intro p e s m A below meth c ls Q hQ S hr hlk hex hnm hK I hl
  have hx := S.1
  have hb := S.2.1
  have hown := S.2.2.2.1
  have hts := S.2.2.2.2
  have S : CallFix p m c cJ32_checkForComodification 1 s A lw_all "java/util/LinkedList$ListItr" := S
  have hl : lv_has ls 1 [(0, .ref u)] := hl
  have hq := hL.1
  refine lv_aload_n hx hb dJ32_checkForComodification_0 rfl (lv_at hl 0 rfl) ?_
  refine g_get S hK I k_J32 (v := .ref q) (g_at.of hu) 4 (by decide) q968 rfl rfl dJ32_checkForComodification_1 ?_
  refine g_getU S hK I k_J24 (v := .int mc) (g_at.of hq) 0 (by decide) q600 q601 rfl dJ32_checkForComodification_4 ?_
  refine lv_aload_n hx hb dJ32_checkForComodification_7 rfl (lv_at hl 0 rfl) ?_
  refine g_get S hK I k_J32 (v := .int mc) (g_at.of hu) 3 (by decide) q967 rfl rfl dJ32_checkForComodification_8 ?_
  refine lv_icmp_eq (tgt := 22) hx hb dJ32_checkForComodification_11 (by decide) (fun _ => ?_) (fun c_11 => absurd (rfl) c_11)
  exact g_vret S hr hlk I dJ32_checkForComodification_22 (Nat.le_of_ble_eq_true rfl) (Nat.le_of_ble_eq_true rfl) hQ ⟨rfl, rfl⟩

set_option maxHeartbeats 4000000 in
set_option maxRecDepth 100000 in
theorem met_J32_hasNext (l : Launch) (Γ : g_C) (ph : g_H) (j i q jn n : Nat) (na it : Nat → Nat) (mc : Int32) (ju iu u k : Nat) (lr : Value)   (hL : g_LL ph j i q jn n na it mc) (hu : ph ju iu u = some (.inr (26, [lr, lkK k n na, .int (nI k), .int mc, .ref q]))) (hn : n < 2 ^ 31) (hk : k < 2 ^ 31) : g_Met l yJ32_hasNext (ws_ yJ32_hasNext cJ32_hasNext 1 (some .boolean)) (g_rm 1 0 0) Γ [.ref u] (ph) (g_oi (fun rv_ ph' => rv_ = b2i (decide (k < n)) ∧ ph' = ph)) g_no := by
  refine g_start (y := yJ32_hasNext) (cc := cJ32_hasNext) (maxL := 1) (ret := (some .boolean)) (rm := g_rm 1 0 0) (by decide) (Nat.le_of_ble_eq_true rfl) ?_
  intro p e s m A below meth c ls Q hQ S hr hlk hex hnm hK I hl
  have hx := S.1
  have hb := S.2.1
  have hown := S.2.2.2.1
  have hts := S.2.2.2.2
  have S : CallFix p m c cJ32_hasNext 1 s A lw_all "java/util/LinkedList$ListItr" := S
  have hl : lv_has ls 1 [(0, .ref u)] := hl
  have hq := hL.1
  refine lv_aload_n hx hb dJ32_hasNext_0 rfl (lv_at hl 0 rfl) ?_
  refine g_get S hK I k_J32 (v := .int (nI k)) (g_at.of hu) 2 (by decide) q966 rfl rfl dJ32_hasNext_1 ?_
  refine lv_aload_n hx hb dJ32_hasNext_4 rfl (lv_at hl 0 rfl) ?_
  refine g_get S hK I k_J32 (v := .ref q) (g_at.of hu) 4 (by decide) q968 rfl rfl dJ32_hasNext_5 ?_
  refine g_get S hK I k_J24 (v := .int (nI n)) (g_at.of hq) 1 (by decide) q624 rfl rfl dJ32_hasNext_8 ?_
  refine lv_icmp_ge (tgt := 18) hx hb dJ32_hasNext_11 (by decide) (fun c_11 => ?_) (fun c_11 => ?_)
  · have n_11 := Int32.not_lt.mpr c_11
    refine lv_iconst (v := 0) hx hb dJ32_hasNext_18 (by decide) ?_
    exact g_zret S hr hlk I rfl dJ32_hasNext_19 (Nat.le_of_ble_eq_true rfl) (Nat.le_of_ble_eq_true rfl) hQ ⟨_, rfl, ⟨(by rw [decide_eq_false (show ¬ k < n from by have z := c_11; rw [nI_leI hn hk] at z; omega)]; rfl), rfl⟩⟩
  · have n_11 := Int32.not_le.mp c_11
    refine lv_iconst (v := 1) hx hb dJ32_hasNext_14 (by decide) ?_
    refine lv_goto (tgt := 19) hx hb dJ32_hasNext_15 (by decide) ?_
    exact g_zret S hr hlk I rfl dJ32_hasNext_19 (Nat.le_of_ble_eq_true rfl) (Nat.le_of_ble_eq_true rfl) hQ ⟨_, rfl, ⟨(by rw [decide_eq_true (show k < n from by have z := c_11; rw [nI_leI hn hk] at z; omega)]; rfl), rfl⟩⟩

theorem lkN_nar {C : String} {k n : Nat} {na : Nat → Nat} : narrow (.object C) (lkN k n na) = lkN k n na := by unfold lkN; split <;> rfl
theorem lkN_fit {C : String} {k n : Nat} {na : Nat → Nat} : fits (.object C) (lkN k n na) = true := by unfold lkN; split <;> rfl
set_option maxHeartbeats 4000000 in
set_option maxRecDepth 100000 in
theorem met_J32_next (l : Launch) (Γ : g_C) (ph : g_H) (j i q jn n : Nat) (na it : Nat → Nat) (mc : Int32) (ju iu u k : Nat) (lr : Value)   (hL : g_LL ph j i q jn n na it mc) (hu : ph ju iu u = some (.inr (26, [lr, lkK k n na, .int (nI k), .int mc, .ref q]))) (hn : n < 2 ^ 31) (hkn : k < n) (hj1 : ju ≠ j) (hj2 : ju ≠ jn) : g_Met l yJ32_next (ws_ yJ32_next cJ32_next 1 (some (.object "java/lang/Object"))) (g_rm 2 0 0) Γ [.ref u] (ph) (g_or (fun rv_ ph' => rv_ = it k ∧ ph' ju iu u = some (.inr (26, [.ref (na k), lkK (k + 1) n na, .int (nI (k + 1)), .int mc, .ref q])) ∧ g_fr [(ju, iu)] ph ph')) g_no := by
  refine g_start (y := yJ32_next) (cc := cJ32_next) (maxL := 1) (ret := (some (.object "java/lang/Object"))) (rm := g_rm 2 0 0) (by decide) (Nat.le_of_ble_eq_true rfl) ?_
  intro p e s m A below meth c ls Q hQ S hr hlk hex hnm hK I hl
  have hx := S.1
  have hb := S.2.1
  have hown := S.2.2.2.1
  have hts := S.2.2.2.2
  have S : CallFix p m c cJ32_next 1 s A lw_all "java/util/LinkedList$ListItr" := S
  have hl : lv_has ls 1 [(0, .ref u)] := hl
  have hq := hL.1
  have hu9 : ph ju iu u = some (.inr (26, [lr, .ref (na k), .int (nI k), .int mc, .ref q])) := by have z := hu; rw [show lkK k n na = .ref (na k) from if_pos hkn] at z; exact z
  have hxk := hL.2.1 k hkn
  refine lv_aload_n hx hb dJ32_next_0 rfl (lv_at hl 0 rfl) ?_
  refine g_cv (g_runV S hK I (As := []) (rest := []) (met_J32_checkForComodification l Γ ph j i q jn n na it mc ju iu u k lr hL hu) (cwV 0 hts (lw_V q1187 q1188 q1189 q167 q1190) rfl rfl rfl (by decide +kernel) ⟨Nat.le_of_ble_eq_true rfl, Nat.le_of_ble_eq_true rfl⟩) (g_recv hK I (g_at.of hu) (ci := 26) rfl) rfl hl.1 rfl (Nat.le_of_ble_eq_true rfl) dJ32_next_1 ⟨Nat.le_of_ble_eq_true rfl, Nat.le_of_ble_eq_true rfl⟩) I (fun ph1 H locs hp I => ?_)
  rw [hp] at I
  refine lv_aload_n hx hb dJ32_next_4 rfl (lv_at hl 0 rfl) ?_
  refine g_ci (g_runV S hK I (As := []) (rest := []) (met_J32_hasNext l Γ ph j i q jn n na it mc ju iu u k lr hL hu hn (Nat.lt_trans hkn hn)) (cwV 0 hts (lw_V q1199 q1016 q3510 q167 q1018) rfl rfl rfl (by decide +kernel) ⟨Nat.le_of_ble_eq_true rfl, Nat.le_of_ble_eq_true rfl⟩) (g_recv hK I (g_at.of hu) (ci := 26) rfl) rfl hl.1 rfl (Nat.le_of_ble_eq_true rfl) dJ32_next_5 ⟨Nat.le_of_ble_eq_true rfl, Nat.le_of_ble_eq_true rfl⟩) I (fun r_5 ph1 H locs hp I => ?_)
  obtain ⟨hp, hph⟩ := hp
  rw [hph] at I
  rw [hp, decide_eq_true hkn]
  refine lv_if_ne (tgt := 19) hx hb dJ32_next_8 (by decide) (fun _ => ?_) (fun q => absurd q (by decide))
  refine lv_aload_n hx hb dJ32_next_19 rfl (lv_at hl 0 rfl) ?_
  refine lv_aload_n hx hb dJ32_next_20 rfl (lv_at hl 0 rfl) ?_
  refine g_get S hK I k_J32 (v := .ref (na k)) (g_at.of hu9) 1 (by decide) q965 rfl rfl dJ32_next_21 ?_
  refine g_put S hK I k_J32 (v := .ref (na k)) hu9 0 (by decide) q964 rfl rfl rfl rfl (Nat.le_of_ble_eq_true rfl) dJ32_next_24 (fun H locs I => ?_)
  have I : g_I Γ (gput ph ju iu u (.inr (26, [.ref (na k), .ref (na k), .int (nI k), .int mc, .ref q]))) s _ _ := I
  refine lv_aload_n hx hb dJ32_next_27 rfl (lv_at hl 0 rfl) ?_
  refine lv_aload_n hx hb dJ32_next_28 rfl (lv_at hl 0 rfl) ?_
  refine g_get S hK I k_J32 (v := .ref (na k)) (g_at.of (gput_self _ _ _ _ _)) 1 (by decide) q965 rfl rfl dJ32_next_29 ?_
  refine g_get S hK I k_J34 (v := (lkN k n na)) (g_at.of ((g_oj (Ne.symm hj2)).trans hxk)) 1 (by decide) q1613 rfl rfl dJ32_next_32 ?_
  refine g_put S hK I k_J32 (v := (lkN k n na)) (gput_self _ _ _ _ _) 1 (by decide) q965 rfl rfl lkN_nar lkN_fit (Nat.le_of_ble_eq_true rfl) dJ32_next_35 (fun H locs I => ?_)
  have I : g_I Γ (gput (gput ph ju iu u (.inr (26, [.ref (na k), .ref (na k), .int (nI k), .int mc, .ref q]))) ju iu u (.inr (26, [.ref (na k), (lkN k n na), .int (nI k), .int mc, .ref q]))) s _ _ := I
  refine lv_aload_n hx hb dJ32_next_38 rfl (lv_at hl 0 rfl) ?_
  refine lv_dup hx hb dJ32_next_39 rfl ?_
  refine g_get S hK I k_J32 (v := .int (nI k)) (g_at.of (gput_self _ _ _ _ _)) 2 (by decide) q966 rfl rfl dJ32_next_40 ?_
  refine lv_iconst (v := 1) hx hb dJ32_next_43 (by decide) ?_
  refine lv_iadd hx hb dJ32_next_44 ?_
  refine g_put S hK I k_J32 (v := .int ((nI k) + 1)) (gput_self _ _ _ _ _) 2 (by decide) q966 rfl rfl rfl rfl (Nat.le_of_ble_eq_true rfl) dJ32_next_45 (fun H locs I => ?_)
  have I : g_I Γ (gput (gput (gput ph ju iu u (.inr (26, [.ref (na k), .ref (na k), .int (nI k), .int mc, .ref q]))) ju iu u (.inr (26, [.ref (na k), (lkN k n na), .int (nI k), .int mc, .ref q]))) ju iu u (.inr (26, [.ref (na k), (lkN k n na), .int ((nI k) + 1), .int mc, .ref q]))) s _ _ := I
  refine lv_aload_n hx hb dJ32_next_48 rfl (lv_at hl 0 rfl) ?_
  refine g_get S hK I k_J32 (v := .ref (na k)) (g_at.of (gput_self _ _ _ _ _)) 0 (by decide) q964 rfl rfl dJ32_next_49 ?_
  refine g_get S hK I k_J34 (v := .ref (it k)) (g_at.of ((g_oj (Ne.symm hj2)).trans ((g_oj (Ne.symm hj2)).trans ((g_oj (Ne.symm hj2)).trans hxk)))) 0 (by decide) q1610 rfl rfl dJ32_next_52 ?_
  exact g_aret S hr (Or.inl ⟨_, rfl⟩) hlk I dJ32_next_55 (Nat.le_of_ble_eq_true rfl) (Nat.le_of_ble_eq_true rfl) hQ ⟨_, rfl, ⟨rfl, by rw [lkK_s, ← nI_1]; exact (gput_self _ _ _ _ _), (g_fr.put (g_fr.put (g_fr.put (g_fr.refl _ _) (by simp)) (by simp)) (by simp))⟩⟩

set_option maxHeartbeats 4000000 in
set_option maxRecDepth 100000 in
theorem met_J32_remove_0 (l : Launch) (Γ : g_C) (ph : g_H) (j i q jn k0 : Nat) (na it : Nat → Nat) (mc : Int32) (ju iu u : Nat)   (hL : g_LL ph j i q jn (k0 + 1) na it mc) (hu : ph ju iu u = some (.inr (26, [.ref (na k0), .null, .int (nI (k0 + 1)), .int mc, .ref q]))) (hj : j ≠ jn) (hj1 : ju ≠ j) (hj2 : ju ≠ jn) : g_Met l yJ32_remove (ws_ yJ32_remove cJ32_remove 2 none) (g_rm 2 0 0) Γ [.ref u] (ph) (g_ov (fun ph' => g_LL ph' j i q jn k0 (delN na k0) (delN it k0) (mc + 1) ∧ ph' ju iu u = some (.inr (26, [.null, .null, .int (nI k0), .int (mc + 1), .ref q])) ∧ g_fr [(j, i), (jn, i), (ju, iu)] ph ph')) g_no := by
  refine g_start (y := yJ32_remove) (cc := cJ32_remove) (maxL := 2) (ret := none) (rm := g_rm 2 0 0) (by decide) (Nat.le_of_ble_eq_true rfl) ?_
  intro p e s m A below meth c ls Q hQ S hr hlk hex hnm hK I hl
  have hx := S.1
  have hb := S.2.1
  have hown := S.2.2.2.1
  have hts := S.2.2.2.2
  have S : CallFix p m c cJ32_remove 2 s A lw_all "java/util/LinkedList$ListItr" := S
  have hl : lv_has ls 2 [(0, .ref u)] := hl
  have hq := hL.1
  have hxk : ph jn i (na k0) = some (.inr (27, [.ref (it k0), .null, lkP k0 na])) := by have z := hL.2.1 k0 (by omega); rw [show lkN k0 (k0 + 1) na = .null from if_neg (by omega)] at z; exact z
  refine lv_aload_n hx hb dJ32_remove_0 rfl (lv_at hl 0 rfl) ?_
  refine g_cv (g_runV S hK I (As := []) (rest := []) (met_J32_checkForComodification l Γ ph j i q jn (k0 + 1) na it mc ju iu u (k0 + 1) (.ref (na k0)) hL (by rw [show lkK (k0 + 1) (k0 + 1) na = .null from if_neg (by omega)]; exact hu)) (cwV 0 hts (lw_V q1187 q1188 q1189 q167 q1190) rfl rfl rfl (by decide +kernel) ⟨Nat.le_of_ble_eq_true rfl, Nat.le_of_ble_eq_true rfl⟩) (g_recv hK I (g_at.of hu) (ci := 26) rfl) rfl hl.1 rfl (Nat.le_of_ble_eq_true rfl) dJ32_remove_1 ⟨Nat.le_of_ble_eq_true rfl, Nat.le_of_ble_eq_true rfl⟩) I (fun ph1 H locs hp I => ?_)
  rw [hp] at I
  refine lv_aload_n hx hb dJ32_remove_4 rfl (lv_at hl 0 rfl) ?_
  refine g_get S hK I k_J32 (v := .ref (na k0)) (g_at.of hu) 0 (by decide) q964 rfl rfl dJ32_remove_5 ?_
  refine lv_ifnonnull (tgt := 19) hx hb dJ32_remove_8 (by decide) ?_
  refine lv_aload_n hx hb dJ32_remove_19 rfl (lv_at hl 0 rfl) ?_
  refine g_get S hK I k_J32 (v := .ref (na k0)) (g_at.of hu) 0 (by decide) q964 rfl rfl dJ32_remove_20 ?_
  refine g_get S hK I k_J34 (v := .null) (g_at.of hxk) 1 (by decide) q1613 rfl rfl dJ32_remove_23 ?_
  refine lv_astore_nN (lv' := [(1, .null), (0, .ref u)]) hx hb dJ32_remove_26 rfl hl (by decide) rfl (fun ls hl => ?_)
  refine lv_aload_n hx hb dJ32_remove_27 rfl (lv_at hl 1 rfl) ?_
  refine g_get S hK I k_J32 (v := .ref q) (g_at.of hu) 4 (by decide) q968 rfl rfl dJ32_remove_28 ?_
  refine lv_aload_n hx hb dJ32_remove_31 rfl (lv_at hl 1 rfl) ?_
  refine g_get S hK I k_J32 (v := .ref (na k0)) (g_at.of hu) 0 (by decide) q964 rfl rfl dJ32_remove_32 ?_
  refine g_cr (g_runV S hK I (As := [.ref (na k0)]) (rest := []) (met_J24_unlink l Γ ph j i q jn k0 k0 na it mc hj (by omega) hL) (cwV 1 hts (lw_V q2098 q2058 q2059 q148 q2060) rfl rfl rfl (by decide +kernel) ⟨Nat.le_of_ble_eq_true rfl, Nat.le_of_ble_eq_true rfl⟩) (g_recv hK I (g_at.of hq) (ci := 24) rfl) rfl hl.1 rfl (Nat.le_of_ble_eq_true rfl) dJ32_remove_35 ⟨Nat.le_of_ble_eq_true rfl, Nat.le_of_ble_eq_true rfl⟩) I (fun r_35 ph1 H locs hp I => ?_)
  obtain ⟨hp, hL1, hfr⟩ := hp
  have hu1 := hfr.at (by simp [hj1, hj2]) hu
  refine lv_pop hx hb dJ32_remove_38 rfl ?_
  refine lv_aload_n hx hb dJ32_remove_39 rfl (lv_at hl 1 rfl) ?_
  refine g_get S hK I k_J32 (v := .null) (g_at.of hu1) 1 (by decide) q965 rfl rfl dJ32_remove_40 ?_
  refine lv_aload_n hx hb dJ32_remove_43 rfl (lv_at hl 1 rfl) ?_
  refine g_get S hK I k_J32 (v := .ref (na k0)) (g_at.of hu1) 0 (by decide) q964 rfl rfl dJ32_remove_44 ?_
  refine lv_acmp_ne (rx := none) (ry := some (na k0)) (tgt := 58) hx hb dJ32_remove_47 (by decide) (fun _ => ?_) (fun z => by cases z)
  refine lv_aload_n hx hb dJ32_remove_58 rfl (lv_at hl 1 rfl) ?_
  refine lv_dup hx hb dJ32_remove_59 rfl ?_
  refine g_get S hK I k_J32 (v := .int (nI (k0 + 1))) (g_at.of hu1) 2 (by decide) q966 rfl rfl dJ32_remove_60 ?_
  refine lv_iconst (v := 1) hx hb dJ32_remove_63 (by decide) ?_
  refine lv_isub hx hb dJ32_remove_64 ?_
  refine g_put S hK I k_J32 (v := .int ((nI (k0 + 1)) - 1)) hu1 2 (by decide) q966 rfl rfl rfl rfl (Nat.le_of_ble_eq_true rfl) dJ32_remove_65 (fun H locs I => ?_)
  have I : g_I Γ (gput ph1 ju iu u (.inr (26, [.ref (na k0), .null, .int ((nI (k0 + 1)) - 1), .int mc, .ref q]))) s _ _ := I
  refine lv_aload_n hx hb dJ32_remove_68 rfl (lv_at hl 1 rfl) ?_
  refine lv_null hx hb dJ32_remove_69 ?_
  refine g_put S hK I k_J32 (v := .null) (gput_self _ _ _ _ _) 0 (by decide) q964 rfl rfl rfl rfl (Nat.le_of_ble_eq_true rfl) dJ32_remove_70 (fun H locs I => ?_)
  have I : g_I Γ (gput (gput ph1 ju iu u (.inr (26, [.ref (na k0), .null, .int ((nI (k0 + 1)) - 1), .int mc, .ref q]))) ju iu u (.inr (26, [.null, .null, .int ((nI (k0 + 1)) - 1), .int mc, .ref q]))) s _ _ := I
  refine lv_aload_n hx hb dJ32_remove_73 rfl (lv_at hl 1 rfl) ?_
  refine lv_dup hx hb dJ32_remove_74 rfl ?_
  refine g_get S hK I k_J32 (v := .int mc) (g_at.of (gput_self _ _ _ _ _)) 3 (by decide) q967 rfl rfl dJ32_remove_75 ?_
  refine lv_iconst (v := 1) hx hb dJ32_remove_78 (by decide) ?_
  refine lv_iadd hx hb dJ32_remove_79 ?_
  refine g_put S hK I k_J32 (v := .int (mc + 1)) (gput_self _ _ _ _ _) 3 (by decide) q967 rfl rfl rfl rfl (Nat.le_of_ble_eq_true rfl) dJ32_remove_80 (fun H locs I => ?_)
  have I : g_I Γ (gput (gput (gput ph1 ju iu u (.inr (26, [.ref (na k0), .null, .int ((nI (k0 + 1)) - 1), .int mc, .ref q]))) ju iu u (.inr (26, [.null, .null, .int ((nI (k0 + 1)) - 1), .int mc, .ref q]))) ju iu u (.inr (26, [.null, .null, .int ((nI (k0 + 1)) - 1), .int (mc + 1), .ref q]))) s _ _ := I
  exact g_vret S hr hlk I dJ32_remove_83 (Nat.le_of_ble_eq_true rfl) (Nat.le_of_ble_eq_true rfl) hQ ⟨rfl, ⟨⟨((g_oj (Ne.symm hj1)).trans ((g_oj (Ne.symm hj1)).trans ((g_oj (Ne.symm hj1)).trans hL1.1))), fun x hx => ((g_oj (Ne.symm hj2)).trans ((g_oj (Ne.symm hj2)).trans ((g_oj (Ne.symm hj2)).trans (hL1.2.1 x hx)))), hL1.2.2⟩, by rw [← nI_pred k0]; exact (gput_self _ _ _ _ _), (g_fr.put (g_fr.put (g_fr.put (hfr.mono (by simp)) (by simp)) (by simp)) (by simp))⟩⟩

set_option maxHeartbeats 4000000 in
set_option maxRecDepth 100000 in
theorem met_J32_remove_1 (l : Launch) (Γ : g_C) (ph : g_H) (j i q jn k0 n0 : Nat) (na it : Nat → Nat) (mc : Int32) (ju iu u : Nat)   (hL : g_LL ph j i q jn ((k0 + n0 + 1) + 1) na it mc) (hu : ph ju iu u = some (.inr (26, [.ref (na k0), .ref (na (k0 + 1)), .int (nI (k0 + 1)), .int mc, .ref q]))) (hj : j ≠ jn) (hj1 : ju ≠ j) (hj2 : ju ≠ jn) : g_Met l yJ32_remove (ws_ yJ32_remove cJ32_remove 2 none) (g_rm 2 0 0) Γ [.ref u] (ph) (g_ov (fun ph' => g_LL ph' j i q jn (k0 + n0 + 1) (delN na k0) (delN it k0) (mc + 1) ∧ ph' ju iu u = some (.inr (26, [.null, .ref (na (k0 + 1)), .int (nI k0), .int (mc + 1), .ref q])) ∧ g_fr [(j, i), (jn, i), (ju, iu)] ph ph')) g_no := by
  refine g_start (y := yJ32_remove) (cc := cJ32_remove) (maxL := 2) (ret := none) (rm := g_rm 2 0 0) (by decide) (Nat.le_of_ble_eq_true rfl) ?_
  intro p e s m A below meth c ls Q hQ S hr hlk hex hnm hK I hl
  have hx := S.1
  have hb := S.2.1
  have hown := S.2.2.2.1
  have hts := S.2.2.2.2
  have S : CallFix p m c cJ32_remove 2 s A lw_all "java/util/LinkedList$ListItr" := S
  have hl : lv_has ls 2 [(0, .ref u)] := hl
  have hq := hL.1
  have hxk : ph jn i (na k0) = some (.inr (27, [.ref (it k0), .ref (na (k0 + 1)), lkP k0 na])) := by have z := hL.2.1 k0 (by omega); rw [show lkN k0 ((k0 + n0 + 1) + 1) na = .ref (na (k0 + 1)) from if_pos (by omega)] at z; exact z
  have hne : na (k0 + 1) ≠ na k0 := fun z => by have := hL.2.2 _ _ (by omega) (by omega) z; omega
  refine lv_aload_n hx hb dJ32_remove_0 rfl (lv_at hl 0 rfl) ?_
  refine g_cv (g_runV S hK I (As := []) (rest := []) (met_J32_checkForComodification l Γ ph j i q jn ((k0 + n0 + 1) + 1) na it mc ju iu u (k0 + 1) (.ref (na k0)) hL (by rw [show lkK (k0 + 1) ((k0 + n0 + 1) + 1) na = .ref (na (k0 + 1)) from if_pos (by omega)]; exact hu)) (cwV 0 hts (lw_V q1187 q1188 q1189 q167 q1190) rfl rfl rfl (by decide +kernel) ⟨Nat.le_of_ble_eq_true rfl, Nat.le_of_ble_eq_true rfl⟩) (g_recv hK I (g_at.of hu) (ci := 26) rfl) rfl hl.1 rfl (Nat.le_of_ble_eq_true rfl) dJ32_remove_1 ⟨Nat.le_of_ble_eq_true rfl, Nat.le_of_ble_eq_true rfl⟩) I (fun ph1 H locs hp I => ?_)
  rw [hp] at I
  refine lv_aload_n hx hb dJ32_remove_4 rfl (lv_at hl 0 rfl) ?_
  refine g_get S hK I k_J32 (v := .ref (na k0)) (g_at.of hu) 0 (by decide) q964 rfl rfl dJ32_remove_5 ?_
  refine lv_ifnonnull (tgt := 19) hx hb dJ32_remove_8 (by decide) ?_
  refine lv_aload_n hx hb dJ32_remove_19 rfl (lv_at hl 0 rfl) ?_
  refine g_get S hK I k_J32 (v := .ref (na k0)) (g_at.of hu) 0 (by decide) q964 rfl rfl dJ32_remove_20 ?_
  refine g_get S hK I k_J34 (v := .ref (na (k0 + 1))) (g_at.of hxk) 1 (by decide) q1613 rfl rfl dJ32_remove_23 ?_
  refine lv_astore_n (lv' := [(1, .ref (na (k0 + 1))), (0, .ref u)]) hx hb dJ32_remove_26 rfl hl (by decide) rfl (fun ls hl => ?_)
  refine lv_aload_n hx hb dJ32_remove_27 rfl (lv_at hl 1 rfl) ?_
  refine g_get S hK I k_J32 (v := .ref q) (g_at.of hu) 4 (by decide) q968 rfl rfl dJ32_remove_28 ?_
  refine lv_aload_n hx hb dJ32_remove_31 rfl (lv_at hl 1 rfl) ?_
  refine g_get S hK I k_J32 (v := .ref (na k0)) (g_at.of hu) 0 (by decide) q964 rfl rfl dJ32_remove_32 ?_
  refine g_cr (g_runV S hK I (As := [.ref (na k0)]) (rest := []) (met_J24_unlink l Γ ph j i q jn (k0 + n0 + 1) k0 na it mc hj (by omega) hL) (cwV 1 hts (lw_V q2098 q2058 q2059 q148 q2060) rfl rfl rfl (by decide +kernel) ⟨Nat.le_of_ble_eq_true rfl, Nat.le_of_ble_eq_true rfl⟩) (g_recv hK I (g_at.of hq) (ci := 24) rfl) rfl hl.1 rfl (Nat.le_of_ble_eq_true rfl) dJ32_remove_35 ⟨Nat.le_of_ble_eq_true rfl, Nat.le_of_ble_eq_true rfl⟩) I (fun r_35 ph1 H locs hp I => ?_)
  obtain ⟨hp, hL1, hfr⟩ := hp
  have hu1 := hfr.at (by simp [hj1, hj2]) hu
  refine lv_pop hx hb dJ32_remove_38 rfl ?_
  refine lv_aload_n hx hb dJ32_remove_39 rfl (lv_at hl 1 rfl) ?_
  refine g_get S hK I k_J32 (v := .ref (na (k0 + 1))) (g_at.of hu1) 1 (by decide) q965 rfl rfl dJ32_remove_40 ?_
  refine lv_aload_n hx hb dJ32_remove_43 rfl (lv_at hl 1 rfl) ?_
  refine g_get S hK I k_J32 (v := .ref (na k0)) (g_at.of hu1) 0 (by decide) q964 rfl rfl dJ32_remove_44 ?_
  refine lv_acmp_ne (rx := some (na (k0 + 1))) (ry := some (na k0)) (tgt := 58) hx hb dJ32_remove_47 (by decide) (fun _ => ?_) (fun z => absurd (Option.some.inj z) hne)
  refine lv_aload_n hx hb dJ32_remove_58 rfl (lv_at hl 1 rfl) ?_
  refine lv_dup hx hb dJ32_remove_59 rfl ?_
  refine g_get S hK I k_J32 (v := .int (nI (k0 + 1))) (g_at.of hu1) 2 (by decide) q966 rfl rfl dJ32_remove_60 ?_
  refine lv_iconst (v := 1) hx hb dJ32_remove_63 (by decide) ?_
  refine lv_isub hx hb dJ32_remove_64 ?_
  refine g_put S hK I k_J32 (v := .int ((nI (k0 + 1)) - 1)) hu1 2 (by decide) q966 rfl rfl rfl rfl (Nat.le_of_ble_eq_true rfl) dJ32_remove_65 (fun H locs I => ?_)
  have I : g_I Γ (gput ph1 ju iu u (.inr (26, [.ref (na k0), .ref (na (k0 + 1)), .int ((nI (k0 + 1)) - 1), .int mc, .ref q]))) s _ _ := I
  refine lv_aload_n hx hb dJ32_remove_68 rfl (lv_at hl 1 rfl) ?_
  refine lv_null hx hb dJ32_remove_69 ?_
  refine g_put S hK I k_J32 (v := .null) (gput_self _ _ _ _ _) 0 (by decide) q964 rfl rfl rfl rfl (Nat.le_of_ble_eq_true rfl) dJ32_remove_70 (fun H locs I => ?_)
  have I : g_I Γ (gput (gput ph1 ju iu u (.inr (26, [.ref (na k0), .ref (na (k0 + 1)), .int ((nI (k0 + 1)) - 1), .int mc, .ref q]))) ju iu u (.inr (26, [.null, .ref (na (k0 + 1)), .int ((nI (k0 + 1)) - 1), .int mc, .ref q]))) s _ _ := I
  refine lv_aload_n hx hb dJ32_remove_73 rfl (lv_at hl 1 rfl) ?_
  refine lv_dup hx hb dJ32_remove_74 rfl ?_
  refine g_get S hK I k_J32 (v := .int mc) (g_at.of (gput_self _ _ _ _ _)) 3 (by decide) q967 rfl rfl dJ32_remove_75 ?_
  refine lv_iconst (v := 1) hx hb dJ32_remove_78 (by decide) ?_
  refine lv_iadd hx hb dJ32_remove_79 ?_
  refine g_put S hK I k_J32 (v := .int (mc + 1)) (gput_self _ _ _ _ _) 3 (by decide) q967 rfl rfl rfl rfl (Nat.le_of_ble_eq_true rfl) dJ32_remove_80 (fun H locs I => ?_)
  have I : g_I Γ (gput (gput (gput ph1 ju iu u (.inr (26, [.ref (na k0), .ref (na (k0 + 1)), .int ((nI (k0 + 1)) - 1), .int mc, .ref q]))) ju iu u (.inr (26, [.null, .ref (na (k0 + 1)), .int ((nI (k0 + 1)) - 1), .int mc, .ref q]))) ju iu u (.inr (26, [.null, .ref (na (k0 + 1)), .int ((nI (k0 + 1)) - 1), .int (mc + 1), .ref q]))) s _ _ := I
  exact g_vret S hr hlk I dJ32_remove_83 (Nat.le_of_ble_eq_true rfl) (Nat.le_of_ble_eq_true rfl) hQ ⟨rfl, ⟨⟨((g_oj (Ne.symm hj1)).trans ((g_oj (Ne.symm hj1)).trans ((g_oj (Ne.symm hj1)).trans hL1.1))), fun x hx => ((g_oj (Ne.symm hj2)).trans ((g_oj (Ne.symm hj2)).trans ((g_oj (Ne.symm hj2)).trans (hL1.2.1 x hx)))), hL1.2.2⟩, by rw [← nI_pred k0]; exact (gput_self _ _ _ _ _), (g_fr.put (g_fr.put (g_fr.put (hfr.mono (by simp)) (by simp)) (by simp)) (by simp))⟩⟩


/-! THE JDK: Integer, List12, LinkedList, first part -/
set_option maxRecDepth 100000
set_option maxHeartbeats 4000000 in
set_option maxRecDepth 100000 in
theorem met_J22_valueOf (l : Launch) (Γ : g_C) (ph : g_H) (x : Int32) (n : Nat)   (hxn : x = nI n) (hn : n < 128) : g_Met l yJ22_valueOf (ws_ yJ22_valueOf cJ22_valueOf 1 (some (.object "java/lang/Integer"))) (g_rm 1 0 0) Γ [.int x] (ph) (g_or (fun rv_ ph' => rv_ = (g_bx Γ n) ∧ ph' = ph)) g_no := by
  refine g_start (y := yJ22_valueOf) (cc := cJ22_valueOf) (maxL := 1) (ret := (some (.object "java/lang/Integer"))) (rm := g_rm 1 0 0) (by decide) (Nat.le_of_ble_eq_true rfl) ?_
  intro p e s m A below meth c ls Q hQ S hr hlk hex hnm hK I hl
  have hx := S.1
  have hb := S.2.1
  have hown := S.2.2.2.1
  have hts := S.2.2.2.2
  have S : CallFix p m c cJ22_valueOf 1 s A lw_all "java/lang/Integer" := S
  have hl : lv_has ls 1 [(0, .int x)] := hl
  refine lv_iload_n hx hb dJ22_valueOf_0 rfl (lv_at hl 0 rfl) ?_
  refine lv_bipush (v := (-128)) hx hb dJ22_valueOf_1 (by decide) ?_
  refine lv_icmp_lt (tgt := 23) hx hb dJ22_valueOf_3 (by decide) (fun c_3 => absurd c_3 (by rw [hxn, Int32.lt_iff_toInt_lt, nI_int (by omega)]; have : (-128 : Int32).toInt = -128 := rfl; omega)) (fun _ => ?_)
  refine lv_iload_n hx hb dJ22_valueOf_6 rfl (lv_at hl 0 rfl) ?_
  refine g_gets S hK I 0 rfl q2005 dJ22_valueOf_7 ?_
  refine lv_icmp_gt (tgt := 23) hx hb dJ22_valueOf_10 (by decide) (fun c_10 => absurd c_10 (by rw [hxn, show (127 : Int32) = nI 127 from rfl]; exact fun q => absurd ((nI_ltI (by decide) (by omega)).mp q) (by omega))) (fun _ => ?_)
  refine g_gets S hK I 1 rfl q2007 dJ22_valueOf_13 ?_
  refine lv_iload_n hx hb dJ22_valueOf_16 rfl (lv_at hl 0 rfl) ?_
  refine lv_sipush (v := 128) hx hb dJ22_valueOf_17 (by decide) ?_
  refine lv_iadd hx hb dJ22_valueOf_20 ?_
  refine g_ctab S hK I hn (by rw [hxn, show (128 : Int32) = nI 128 from rfl, nI_add]) dJ22_valueOf_21 ?_
  exact g_aret S hr (Or.inl ⟨_, rfl⟩) hlk I dJ22_valueOf_22 (Nat.le_of_ble_eq_true rfl) (Nat.le_of_ble_eq_true rfl) hQ ⟨_, rfl, rfl, rfl⟩

set_option maxHeartbeats 4000000 in
set_option maxRecDepth 100000 in
theorem met_J22_intValue (l : Launch) (Γ : g_C) (ph : g_H) (n : Nat)   (hn : n < 128) : g_Met l yJ22_intValue (ws_ yJ22_intValue cJ22_intValue 1 (some .int)) (g_rm 1 0 0) Γ [.ref (g_bx Γ n)] (ph) (g_oi (fun rv_ ph' => rv_ = (nI n) ∧ ph' = ph)) g_no := by
  refine g_start (y := yJ22_intValue) (cc := cJ22_intValue) (maxL := 1) (ret := (some .int)) (rm := g_rm 1 0 0) (by decide) (Nat.le_of_ble_eq_true rfl) ?_
  intro p e s m A below meth c ls Q hQ S hr hlk hex hnm hK I hl
  have hx := S.1
  have hb := S.2.1
  have hown := S.2.2.2.1
  have hts := S.2.2.2.2
  have S : CallFix p m c cJ22_intValue 1 s A lw_all "java/lang/Integer" := S
  have hl : lv_has ls 1 [(0, .ref (g_bx Γ n))] := hl
  refine lv_aload_n hx hb dJ22_intValue_0 rfl (lv_at hl 0 rfl) ?_
  refine g_geti S hK I hn q2018 dJ22_intValue_1 ?_
  exact g_iret S hr hlk I dJ22_intValue_4 (Nat.le_of_ble_eq_true rfl) (Nat.le_of_ble_eq_true rfl) hQ ⟨_, rfl, rfl, rfl⟩

set_option maxHeartbeats 4000000 in
set_option maxRecDepth 100000 in
theorem met_J4_get (l : Launch) (Γ : g_C) (ph : g_H) (j i q u v : Nat) (x : Int32)  (hq : ph j i q = some (.inr (20, [.ref u, .ref v]))) (hxx : x = 0 ∨ x = 1) (hne : v ≠ g_c Γ 257) : g_Met l yJ4_get (ws_ yJ4_get cJ4_get 2 (some (.object "java/lang/Object"))) (g_rm 1 0 0) Γ [.ref q, .int x] (ph) (g_or (fun rv_ ph' => rv_ = (if x = 0 then u else v) ∧ ph' = ph)) g_no := by
  refine g_start (y := yJ4_get) (cc := cJ4_get) (maxL := 2) (ret := (some (.object "java/lang/Object"))) (rm := g_rm 1 0 0) (by decide) (Nat.le_of_ble_eq_true rfl) ?_
  intro p e s m A below meth c ls Q hQ S hr hlk hex hnm hK I hl
  have hx := S.1
  have hb := S.2.1
  have hown := S.2.2.2.1
  have hts := S.2.2.2.2
  have S : CallFix p m c cJ4_get 2 s A lw_all "java/util/ImmutableCollections$List12" := S
  have hl : lv_has ls 2 [(0, .ref q), (1, .int x)] := hl
  refine lv_iload_n hx hb dJ4_get_0 rfl (lv_at hl 1 rfl) ?_
  refine lv_if_ne (tgt := 9) hx hb dJ4_get_1 (by decide) (fun c_1 => ?_) (fun c_1 => ?_)
  · refine lv_iload_n hx hb dJ4_get_9 rfl (lv_at hl 1 rfl) ?_
    refine lv_iconst (v := 1) hx hb dJ4_get_10 (by decide) ?_
    refine lv_icmp_ne (tgt := 29) hx hb dJ4_get_11 (by decide) (fun c_11 => absurd c_11 (not_not_intro (hxx.resolve_left c_1))) (fun _ => ?_)
    refine lv_aload_n hx hb dJ4_get_14 rfl (lv_at hl 0 rfl) ?_
    refine g_get S hK I k_J4 (v := .ref v) (g_at.of hq) 1 (by decide) q251 rfl rfl dJ4_get_15 ?_
    refine g_getsN S hK I 7 rfl q812 dJ4_get_18 ?_
    refine lv_acmp_eq (rx := (some v)) (ry := (some (g_c Γ 257))) (tgt := 29) hx hb dJ4_get_21 (by decide) (fun c_21 => absurd c_21 (fun q => hne (Option.some.inj q))) (fun _ => ?_)
    refine lv_aload_n hx hb dJ4_get_24 rfl (lv_at hl 0 rfl) ?_
    refine g_get S hK I k_J4 (v := .ref v) (g_at.of hq) 1 (by decide) q251 rfl rfl dJ4_get_25 ?_
    exact g_aret S hr (Or.inl ⟨_, rfl⟩) hlk I dJ4_get_28 (Nat.le_of_ble_eq_true rfl) (Nat.le_of_ble_eq_true rfl) hQ ⟨_, rfl, (if_neg c_1).symm, rfl⟩
  · refine lv_aload_n hx hb dJ4_get_4 rfl (lv_at hl 0 rfl) ?_
    refine g_get S hK I k_J4 (v := .ref u) (g_at.of hq) 0 (by decide) q250 rfl rfl dJ4_get_5 ?_
    exact g_aret S hr (Or.inl ⟨_, rfl⟩) hlk I dJ4_get_8 (Nat.le_of_ble_eq_true rfl) (Nat.le_of_ble_eq_true rfl) hQ ⟨_, rfl, (if_pos c_1).symm, rfl⟩

set_option maxHeartbeats 4000000 in
set_option maxRecDepth 100000 in
theorem met_J24_size (l : Launch) (Γ : g_C) (ph : g_H) (j i q : Nat) (mc n : Int32) (fv lv : Value)  (hq : ph j i q = some (.inr (24, [.int mc, .int n, fv, lv])))  : g_Met l yJ24_size (ws_ yJ24_size cJ24_size 1 (some .int)) (g_rm 1 0 0) Γ [.ref q] (ph) (g_oi (fun rv_ ph' => rv_ = n ∧ ph' = ph)) g_no := by
  refine g_start (y := yJ24_size) (cc := cJ24_size) (maxL := 1) (ret := (some .int)) (rm := g_rm 1 0 0) (by decide) (Nat.le_of_ble_eq_true rfl) ?_
  intro p e s m A below meth c ls Q hQ S hr hlk hex hnm hK I hl
  have hx := S.1
  have hb := S.2.1
  have hown := S.2.2.2.1
  have hts := S.2.2.2.2
  have S : CallFix p m c cJ24_size 1 s A lw_all "java/util/LinkedList" := S
  have hl : lv_has ls 1 [(0, .ref q)] := hl
  refine lv_aload_n hx hb dJ24_size_0 rfl (lv_at hl 0 rfl) ?_
  refine g_get S hK I k_J24 (v := .int n) (g_at.of hq) 1 (by decide) q623 rfl rfl dJ24_size_1 ?_
  exact g_iret S hr hlk I dJ24_size_4 (Nat.le_of_ble_eq_true rfl) (Nat.le_of_ble_eq_true rfl) hQ ⟨_, rfl, rfl, rfl⟩

set_option maxHeartbeats 4000000 in
set_option maxRecDepth 100000 in
theorem met_J24_isElementIndex (l : Launch) (Γ : g_C) (ph : g_H) (j i q : Nat) (mc n x : Int32) (fv lv : Value)  (hq : ph j i q = some (.inr (24, [.int mc, .int n, fv, lv]))) (h0 : ¬ x < 0) (h1 : x < n) : g_Met l yJ24_isElementIndex (ws_ yJ24_isElementIndex cJ24_isElementIndex 2 (some .boolean)) (g_rm 1 0 0) Γ [.ref q, .int x] (ph) (g_oi (fun rv_ ph' => rv_ = 1 ∧ ph' = ph)) g_no := by
  refine g_start (y := yJ24_isElementIndex) (cc := cJ24_isElementIndex) (maxL := 2) (ret := (some .boolean)) (rm := g_rm 1 0 0) (by decide) (Nat.le_of_ble_eq_true rfl) ?_
  intro p e s m A below meth c ls Q hQ S hr hlk hex hnm hK I hl
  have hx := S.1
  have hb := S.2.1
  have hown := S.2.2.2.1
  have hts := S.2.2.2.2
  have S : CallFix p m c cJ24_isElementIndex 2 s A lw_all "java/util/LinkedList" := S
  have hl : lv_has ls 2 [(0, .ref q), (1, .int x)] := hl
  refine lv_iload_n hx hb dJ24_isElementIndex_0 rfl (lv_at hl 1 rfl) ?_
  refine lv_if_lt (tgt := 16) hx hb dJ24_isElementIndex_1 (by decide) (fun c_1 => absurd c_1 (h0)) (fun _ => ?_)
  refine lv_iload_n hx hb dJ24_isElementIndex_4 rfl (lv_at hl 1 rfl) ?_
  refine lv_aload_n hx hb dJ24_isElementIndex_5 rfl (lv_at hl 0 rfl) ?_
  refine g_get S hK I k_J24 (v := .int n) (g_at.of hq) 1 (by decide) q623 rfl rfl dJ24_isElementIndex_6 ?_
  refine lv_icmp_ge (tgt := 16) hx hb dJ24_isElementIndex_9 (by decide) (fun c_9 => absurd c_9 (Int32.not_le.mpr h1)) (fun _ => ?_)
  refine lv_iconst (v := 1) hx hb dJ24_isElementIndex_12 (by decide) ?_
  refine lv_goto (tgt := 17) hx hb dJ24_isElementIndex_13 (by decide) ?_
  exact g_zret S hr hlk I rfl dJ24_isElementIndex_17 (Nat.le_of_ble_eq_true rfl) (Nat.le_of_ble_eq_true rfl) hQ ⟨_, rfl, rfl, rfl⟩

set_option maxHeartbeats 4000000 in
set_option maxRecDepth 100000 in
theorem met_J24_checkElementIndex (l : Launch) (Γ : g_C) (ph : g_H) (j i q : Nat) (mc n x : Int32) (fv lv : Value)  (hq : ph j i q = some (.inr (24, [.int mc, .int n, fv, lv]))) (h0 : ¬ x < 0) (h1 : x < n) : g_Met l yJ24_checkElementIndex (ws_ yJ24_checkElementIndex cJ24_checkElementIndex 2 none) (g_rm 2 0 0) Γ [.ref q, .int x] (ph) (g_ov (fun ph' => ph' = ph)) g_no := by
  refine g_start (y := yJ24_checkElementIndex) (cc := cJ24_checkElementIndex) (maxL := 2) (ret := none) (rm := g_rm 2 0 0) (by decide) (Nat.le_of_ble_eq_true rfl) ?_
  intro p e s m A below meth c ls Q hQ S hr hlk hex hnm hK I hl
  have hx := S.1
  have hb := S.2.1
  have hown := S.2.2.2.1
  have hts := S.2.2.2.2
  have S : CallFix p m c cJ24_checkElementIndex 2 s A lw_all "java/util/LinkedList" := S
  have hl : lv_has ls 2 [(0, .ref q), (1, .int x)] := hl
  refine lv_aload_n hx hb dJ24_checkElementIndex_0 rfl (lv_at hl 0 rfl) ?_
  refine lv_iload_n hx hb dJ24_checkElementIndex_1 rfl (lv_at hl 1 rfl) ?_
  refine g_ci (g_runV S hK I (As := [.int x]) (rest := []) (met_J24_isElementIndex l Γ (ph) j i q mc n x fv lv hq (by assumption) (by assumption)) (cwV 1 hts (lw_V q858 q860 qs2 q148 q861) rfl rfl rfl (by decide +kernel) ⟨Nat.le_of_ble_eq_true rfl, Nat.le_of_ble_eq_true rfl⟩) (g_recv hK I (g_at.of hq) (ci := 24) rfl) rfl hl.1 rfl (Nat.le_of_ble_eq_true rfl) dJ24_checkElementIndex_2 ⟨Nat.le_of_ble_eq_true rfl, Nat.le_of_ble_eq_true rfl⟩) I (fun r_2 ph1 H locs hp I => ?_)
  obtain ⟨hp, hph⟩ := hp
  rw [hph] at I
  have hp : r_2 = 1 := hp
  rw [hp]
  refine lv_if_ne (tgt := 21) hx hb dJ24_checkElementIndex_5 (by decide) (fun _ => ?_) (fun c_5 => absurd c_5 (by decide))
  exact g_vret S hr hlk I dJ24_checkElementIndex_21 (Nat.le_of_ble_eq_true rfl) (Nat.le_of_ble_eq_true rfl) hQ ⟨rfl, rfl⟩

set_option maxHeartbeats 4000000 in
set_option maxRecDepth 100000 in
theorem met_J24_getFirst (l : Launch) (Γ : g_C) (ph : g_H) (j i q j2 i2 t x : Nat) (mc n : Int32) (ov nv pv : Value)  (hq : ph j i q = some (.inr (24, [.int mc, .int n, .ref t, ov]))) (ht : ph j2 i2 t = some (.inr (27, [.ref x, nv, pv])))  : g_Met l yJ24_getFirst (ws_ yJ24_getFirst cJ24_getFirst 2 (some (.object "java/lang/Object"))) (g_rm 1 0 0) Γ [.ref q] (ph) (g_or (fun rv_ ph' => rv_ = x ∧ ph' = ph)) g_no := by
  refine g_start (y := yJ24_getFirst) (cc := cJ24_getFirst) (maxL := 2) (ret := (some (.object "java/lang/Object"))) (rm := g_rm 1 0 0) (by decide) (Nat.le_of_ble_eq_true rfl) ?_
  intro p e s m A below meth c ls Q hQ S hr hlk hex hnm hK I hl
  have hx := S.1
  have hb := S.2.1
  have hown := S.2.2.2.1
  have hts := S.2.2.2.2
  have S : CallFix p m c cJ24_getFirst 2 s A lw_all "java/util/LinkedList" := S
  have hl : lv_has ls 2 [(0, .ref q)] := hl
  refine lv_aload_n hx hb dJ24_getFirst_0 rfl (lv_at hl 0 rfl) ?_
  refine g_get S hK I k_J24 (v := .ref t) (g_at.of hq) 2 (by decide) q625 rfl rfl dJ24_getFirst_1 ?_
  refine lv_astore_n (lv' := [(1, .ref t), (0, .ref q)]) hx hb dJ24_getFirst_4 rfl hl (by decide) rfl (fun ls hl => ?_)
  refine lv_aload_n hx hb dJ24_getFirst_5 rfl (lv_at hl 0 rfl) ?_
  refine lv_ifnonnull (tgt := 17) hx hb dJ24_getFirst_6 (by decide) ?_
  refine lv_aload_n hx hb dJ24_getFirst_17 rfl (lv_at hl 0 rfl) ?_
  refine g_get S hK I k_J34 (v := .ref x) (g_at.of ht) 0 (by decide) q1611 rfl rfl dJ24_getFirst_18 ?_
  exact g_aret S hr (Or.inl ⟨_, rfl⟩) hlk I dJ24_getFirst_21 (Nat.le_of_ble_eq_true rfl) (Nat.le_of_ble_eq_true rfl) hQ ⟨_, rfl, rfl, rfl⟩

set_option maxHeartbeats 4000000 in
set_option maxRecDepth 100000 in
theorem met_J24_getLast (l : Launch) (Γ : g_C) (ph : g_H) (j i q j2 i2 t x : Nat) (mc n : Int32) (ov nv pv : Value)  (hq : ph j i q = some (.inr (24, [.int mc, .int n, ov, .ref t]))) (ht : ph j2 i2 t = some (.inr (27, [.ref x, nv, pv])))  : g_Met l yJ24_getLast (ws_ yJ24_getLast cJ24_getLast 2 (some (.object "java/lang/Object"))) (g_rm 1 0 0) Γ [.ref q] (ph) (g_or (fun rv_ ph' => rv_ = x ∧ ph' = ph)) g_no := by
  refine g_start (y := yJ24_getLast) (cc := cJ24_getLast) (maxL := 2) (ret := (some (.object "java/lang/Object"))) (rm := g_rm 1 0 0) (by decide) (Nat.le_of_ble_eq_true rfl) ?_
  intro p e s m A below meth c ls Q hQ S hr hlk hex hnm hK I hl
  have hx := S.1
  have hb := S.2.1
  have hown := S.2.2.2.1
  have hts := S.2.2.2.2
  have S : CallFix p m c cJ24_getLast 2 s A lw_all "java/util/LinkedList" := S
  have hl : lv_has ls 2 [(0, .ref q)] := hl
  refine lv_aload_n hx hb dJ24_getLast_0 rfl (lv_at hl 0 rfl) ?_
  refine g_get S hK I k_J24 (v := .ref t) (g_at.of hq) 3 (by decide) q626 rfl rfl dJ24_getLast_1 ?_
  refine lv_astore_n (lv' := [(1, .ref t), (0, .ref q)]) hx hb dJ24_getLast_4 rfl hl (by decide) rfl (fun ls hl => ?_)
  refine lv_aload_n hx hb dJ24_getLast_5 rfl (lv_at hl 0 rfl) ?_
  refine lv_ifnonnull (tgt := 17) hx hb dJ24_getLast_6 (by decide) ?_
  refine lv_aload_n hx hb dJ24_getLast_17 rfl (lv_at hl 0 rfl) ?_
  refine g_get S hK I k_J34 (v := .ref x) (g_at.of ht) 0 (by decide) q1611 rfl rfl dJ24_getLast_18 ?_
  exact g_aret S hr (Or.inl ⟨_, rfl⟩) hlk I dJ24_getLast_21 (Nat.le_of_ble_eq_true rfl) (Nat.le_of_ble_eq_true rfl) hQ ⟨_, rfl, rfl, rfl⟩

set_option maxHeartbeats 4000000 in
set_option maxRecDepth 100000 in
theorem met_J34_init_0 (l : Launch) (Γ : g_C) (ph : g_H) (j i q : Nat) (iv nv pv : Value) (it : Nat)  (hq : ph j i q = some (.inr (27, [iv, nv, pv])))  : g_Met l yJ34_init (ws_ yJ34_init cJ34_init 4 none) (g_rm 1 0 0) Γ [.ref q, .null, .ref it, .null] (ph) (g_ov (fun ph' => ph' = gput (gput (gput ph j i q (.inr (27, [.ref it, nv, pv]))) j i q (.inr (27, [.ref it, .null, pv]))) j i q (.inr (27, [.ref it, .null, .null])))) g_no := by
  refine g_start (y := yJ34_init) (cc := cJ34_init) (maxL := 4) (ret := none) (rm := g_rm 1 0 0) (by decide) (Nat.le_of_ble_eq_true rfl) ?_
  intro p e s m A below meth c ls Q hQ S hr hlk hex hnm hK I hl
  have hx := S.1
  have hb := S.2.1
  have hown := S.2.2.2.1
  have hts := S.2.2.2.2
  have S : CallFix p m c cJ34_init 4 s A lw_all "java/util/LinkedList$Node" := S
  have hl : lv_has ls 4 [(0, .ref q), (1, .null), (2, .ref it), (3, .null)] := hl
  refine lv_aload_n hx hb dJ34_init_0 rfl (lv_at hl 0 rfl) ?_
  refine g_obj S hl.1 q1608 dJ34_init_1 (Nat.le_of_ble_eq_true rfl) (Nat.le_of_ble_eq_true rfl) ?_
  refine lv_aload_n hx hb dJ34_init_4 rfl (lv_at hl 0 rfl) ?_
  refine lv_aload_n hx hb dJ34_init_5 rfl (lv_at hl 2 rfl) ?_
  refine g_put S hK I k_J34 (v := .ref it) hq 0 (by decide) q1609 rfl rfl rfl rfl (Nat.le_of_ble_eq_true rfl) dJ34_init_6 (fun H locs I => ?_)
  have I : g_I Γ (gput ph j i q (.inr (27, [.ref it, nv, pv]))) s H locs := I
  refine lv_aload_n hx hb dJ34_init_9 rfl (lv_at hl 0 rfl) ?_
  refine lv_aload_nN hx hb dJ34_init_10 rfl (lv_at hl 3 rfl) ?_
  refine g_put S hK I k_J34 (v := .null) (gput_self _ _ _ _ _) 1 (by decide) q1612 rfl rfl rfl rfl (Nat.le_of_ble_eq_true rfl) dJ34_init_11 (fun H locs I => ?_)
  have I : g_I Γ (gput (gput ph j i q (.inr (27, [.ref it, nv, pv]))) j i q (.inr (27, [.ref it, .null, pv]))) s H locs := I
  refine lv_aload_n hx hb dJ34_init_14 rfl (lv_at hl 0 rfl) ?_
  refine lv_aload_nN hx hb dJ34_init_15 rfl (lv_at hl 1 rfl) ?_
  refine g_put S hK I k_J34 (v := .null) (gput_self _ _ _ _ _) 2 (by decide) q1615 rfl rfl rfl rfl (Nat.le_of_ble_eq_true rfl) dJ34_init_16 (fun H locs I => ?_)
  have I : g_I Γ (gput (gput (gput ph j i q (.inr (27, [.ref it, nv, pv]))) j i q (.inr (27, [.ref it, .null, pv]))) j i q (.inr (27, [.ref it, .null, .null]))) s H locs := I
  exact g_vret S hr hlk I dJ34_init_19 (Nat.le_of_ble_eq_true rfl) (Nat.le_of_ble_eq_true rfl) hQ ⟨rfl, rfl⟩

set_option maxHeartbeats 4000000 in
set_option maxRecDepth 100000 in
theorem met_J34_init_1 (l : Launch) (Γ : g_C) (ph : g_H) (j i q : Nat) (iv nv pv : Value) (it pr : Nat)  (hq : ph j i q = some (.inr (27, [iv, nv, pv])))  : g_Met l yJ34_init (ws_ yJ34_init cJ34_init 4 none) (g_rm 1 0 0) Γ [.ref q, .ref pr, .ref it, .null] (ph) (g_ov (fun ph' => ph' = gput (gput (gput ph j i q (.inr (27, [.ref it, nv, pv]))) j i q (.inr (27, [.ref it, .null, pv]))) j i q (.inr (27, [.ref it, .null, .ref pr])))) g_no := by
  refine g_start (y := yJ34_init) (cc := cJ34_init) (maxL := 4) (ret := none) (rm := g_rm 1 0 0) (by decide) (Nat.le_of_ble_eq_true rfl) ?_
  intro p e s m A below meth c ls Q hQ S hr hlk hex hnm hK I hl
  have hx := S.1
  have hb := S.2.1
  have hown := S.2.2.2.1
  have hts := S.2.2.2.2
  have S : CallFix p m c cJ34_init 4 s A lw_all "java/util/LinkedList$Node" := S
  have hl : lv_has ls 4 [(0, .ref q), (1, .ref pr), (2, .ref it), (3, .null)] := hl
  refine lv_aload_n hx hb dJ34_init_0 rfl (lv_at hl 0 rfl) ?_
  refine g_obj S hl.1 q1608 dJ34_init_1 (Nat.le_of_ble_eq_true rfl) (Nat.le_of_ble_eq_true rfl) ?_
  refine lv_aload_n hx hb dJ34_init_4 rfl (lv_at hl 0 rfl) ?_
  refine lv_aload_n hx hb dJ34_init_5 rfl (lv_at hl 2 rfl) ?_
  refine g_put S hK I k_J34 (v := .ref it) hq 0 (by decide) q1609 rfl rfl rfl rfl (Nat.le_of_ble_eq_true rfl) dJ34_init_6 (fun H locs I => ?_)
  have I : g_I Γ (gput ph j i q (.inr (27, [.ref it, nv, pv]))) s H locs := I
  refine lv_aload_n hx hb dJ34_init_9 rfl (lv_at hl 0 rfl) ?_
  refine lv_aload_nN hx hb dJ34_init_10 rfl (lv_at hl 3 rfl) ?_
  refine g_put S hK I k_J34 (v := .null) (gput_self _ _ _ _ _) 1 (by decide) q1612 rfl rfl rfl rfl (Nat.le_of_ble_eq_true rfl) dJ34_init_11 (fun H locs I => ?_)
  have I : g_I Γ (gput (gput ph j i q (.inr (27, [.ref it, nv, pv]))) j i q (.inr (27, [.ref it, .null, pv]))) s H locs := I
  refine lv_aload_n hx hb dJ34_init_14 rfl (lv_at hl 0 rfl) ?_
  refine lv_aload_n hx hb dJ34_init_15 rfl (lv_at hl 1 rfl) ?_
  refine g_put S hK I k_J34 (v := .ref pr) (gput_self _ _ _ _ _) 2 (by decide) q1615 rfl rfl rfl rfl (Nat.le_of_ble_eq_true rfl) dJ34_init_16 (fun H locs I => ?_)
  have I : g_I Γ (gput (gput (gput ph j i q (.inr (27, [.ref it, nv, pv]))) j i q (.inr (27, [.ref it, .null, pv]))) j i q (.inr (27, [.ref it, .null, .ref pr]))) s H locs := I
  exact g_vret S hr hlk I dJ34_init_19 (Nat.le_of_ble_eq_true rfl) (Nat.le_of_ble_eq_true rfl) hQ ⟨rfl, rfl⟩

set_option maxHeartbeats 4000000 in
set_option maxRecDepth 100000 in
theorem met_J6_init_24 (l : Launch) (Γ : g_C) (ph : g_H) (j i q : Nat) (mc n : Int32) (fv lv : Value)  (hq : ph j i q = some (.inr (24, [.int mc, .int n, fv, lv])))  : g_Met l yJ6_init (ws_ yJ6_init cJ6_init 1 none) (g_rm 2 0 0) Γ [.ref q] (ph) (g_ov (fun ph' => ph' = gput ph j i q (.inr (24, [.int 0, .int n, fv, lv])))) g_no := by
  refine g_start (y := yJ6_init) (cc := cJ6_init) (maxL := 1) (ret := none) (rm := g_rm 2 0 0) (by decide) (Nat.le_of_ble_eq_true rfl) ?_
  intro p e s m A below meth c ls Q hQ S hr hlk hex hnm hK I hl
  have hx := S.1
  have hb := S.2.1
  have hown := S.2.2.2.1
  have hts := S.2.2.2.2
  have S : CallFix p m c cJ6_init 1 s A lw_all "java/util/AbstractList" := S
  have hl : lv_has ls 1 [(0, .ref q)] := hl
  refine lv_aload_n hx hb dJ6_init_0 rfl (lv_at hl 0 rfl) ?_
  refine g_cv (g_runI S hK I (As := []) (rest := []) (met_J1_init l Γ (ph) q) (cwI 0 hts (lw_meth q245) rfl rfl rfl (hts _ q124) (hts _ q269) (hts _ q244) rfl (by decide +kernel) ⟨Nat.le_of_ble_eq_true rfl, Nat.le_of_ble_eq_true rfl⟩) rfl hl.1 rfl (Nat.le_of_ble_eq_true rfl) dJ6_init_1 ⟨Nat.le_of_ble_eq_true rfl, Nat.le_of_ble_eq_true rfl⟩) I (fun ph1 H locs hp I => ?_)
  rw [hp] at I
  refine lv_aload_n hx hb dJ6_init_4 rfl (lv_at hl 0 rfl) ?_
  refine lv_iconst (v := 0) hx hb dJ6_init_5 (by decide) ?_
  refine g_put S hK I k_J24 (v := .int 0) hq 0 (by decide) q599 rfl rfl rfl rfl (Nat.le_of_ble_eq_true rfl) dJ6_init_6 (fun H locs I => ?_)
  have I : g_I Γ (gput ph j i q (.inr (24, [.int 0, .int n, fv, lv]))) s H locs := I
  exact g_vret S hr hlk I dJ6_init_9 (Nat.le_of_ble_eq_true rfl) (Nat.le_of_ble_eq_true rfl) hQ ⟨rfl, rfl⟩

set_option maxHeartbeats 4000000 in
set_option maxRecDepth 100000 in
theorem met_J23_init (l : Launch) (Γ : g_C) (ph : g_H) (j i q : Nat) (mc n : Int32) (fv lv : Value)  (hq : ph j i q = some (.inr (24, [.int mc, .int n, fv, lv])))  : g_Met l yJ23_init (ws_ yJ23_init cJ23_init 1 none) (g_rm 3 0 0) Γ [.ref q] (ph) (g_ov (fun ph' => ph' = gput ph j i q (.inr (24, [.int 0, .int n, fv, lv])))) g_no := by
  refine g_start (y := yJ23_init) (cc := cJ23_init) (maxL := 1) (ret := none) (rm := g_rm 3 0 0) (by decide) (Nat.le_of_ble_eq_true rfl) ?_
  intro p e s m A below meth c ls Q hQ S hr hlk hex hnm hK I hl
  have hx := S.1
  have hb := S.2.1
  have hown := S.2.2.2.1
  have hts := S.2.2.2.2
  have S : CallFix p m c cJ23_init 1 s A lw_all "java/util/AbstractSequentialList" := S
  have hl : lv_has ls 1 [(0, .ref q)] := hl
  refine lv_aload_n hx hb dJ23_init_0 rfl (lv_at hl 0 rfl) ?_
  refine g_cv (g_runI S hK I (As := []) (rest := []) (met_J6_init_24 l Γ (ph) j i q mc n fv lv hq) (cwI 0 hts (lw_meth q268) rfl rfl rfl (hts _ q129) (hts _ q622) (hts _ q267) rfl (by decide +kernel) ⟨Nat.le_of_ble_eq_true rfl, Nat.le_of_ble_eq_true rfl⟩) rfl hl.1 rfl (Nat.le_of_ble_eq_true rfl) dJ23_init_1 ⟨Nat.le_of_ble_eq_true rfl, Nat.le_of_ble_eq_true rfl⟩) I (fun ph1 H locs hp I => ?_)
  rw [hp] at I
  have I : g_I Γ (gput ph j i q (.inr (24, [.int 0, .int n, fv, lv]))) s H locs := I
  exact g_vret S hr hlk I dJ23_init_4 (Nat.le_of_ble_eq_true rfl) (Nat.le_of_ble_eq_true rfl) hQ ⟨rfl, rfl⟩

set_option maxHeartbeats 4000000 in
set_option maxRecDepth 100000 in
theorem met_J24_init (l : Launch) (Γ : g_C) (ph : g_H) (j i q : Nat) (mc n : Int32) (fv lv : Value)  (hq : ph j i q = some (.inr (24, [.int mc, .int n, fv, lv])))  : g_Met l yJ24_init (ws_ yJ24_init cJ24_init 1 none) (g_rm 4 0 0) Γ [.ref q] (ph) (g_ov (fun ph' => ph' = gput (gput ph j i q (.inr (24, [.int 0, .int n, fv, lv]))) j i q (.inr (24, [.int 0, .int 0, fv, lv])))) g_no := by
  refine g_start (y := yJ24_init) (cc := cJ24_init) (maxL := 1) (ret := none) (rm := g_rm 4 0 0) (by decide) (Nat.le_of_ble_eq_true rfl) ?_
  intro p e s m A below meth c ls Q hQ S hr hlk hex hnm hK I hl
  have hx := S.1
  have hb := S.2.1
  have hown := S.2.2.2.1
  have hts := S.2.2.2.2
  have S : CallFix p m c cJ24_init 1 s A lw_all "java/util/LinkedList" := S
  have hl : lv_has ls 1 [(0, .ref q)] := hl
  refine lv_aload_n hx hb dJ24_init_0 rfl (lv_at hl 0 rfl) ?_
  refine g_cv (g_runI S hK I (As := []) (rest := []) (met_J23_init l Γ (ph) j i q mc n fv lv hq) (cwI 0 hts (lw_meth q621) rfl rfl rfl (hts _ q147) (hts _ q619) (hts _ q620) rfl (by decide +kernel) ⟨Nat.le_of_ble_eq_true rfl, Nat.le_of_ble_eq_true rfl⟩) rfl hl.1 rfl (Nat.le_of_ble_eq_true rfl) dJ24_init_1 ⟨Nat.le_of_ble_eq_true rfl, Nat.le_of_ble_eq_true rfl⟩) I (fun ph1 H locs hp I => ?_)
  rw [hp] at I
  have I : g_I Γ (gput ph j i q (.inr (24, [.int 0, .int n, fv, lv]))) s H locs := I
  refine lv_aload_n hx hb dJ24_init_4 rfl (lv_at hl 0 rfl) ?_
  refine lv_iconst (v := 0) hx hb dJ24_init_5 (by decide) ?_
  refine g_put S hK I k_J24 (v := .int 0) (gput_self _ _ _ _ _) 1 (by decide) q623 rfl rfl rfl rfl (Nat.le_of_ble_eq_true rfl) dJ24_init_6 (fun H locs I => ?_)
  have I : g_I Γ (gput (gput ph j i q (.inr (24, [.int 0, .int n, fv, lv]))) j i q (.inr (24, [.int 0, .int 0, fv, lv]))) s H locs := I
  exact g_vret S hr hlk I dJ24_init_9 (Nat.le_of_ble_eq_true rfl) (Nat.le_of_ble_eq_true rfl) hQ ⟨rfl, rfl⟩

set_option maxHeartbeats 4000000 in
set_option maxRecDepth 100000 in
theorem met_J2_init (l : Launch) (Γ : g_C) (ph : g_H) (q : Nat)    : g_Met l yJ2_init (ws_ yJ2_init cJ2_init 1 none) (g_rm 2 0 0) Γ [.ref q] (ph) (g_ov (fun ph' => ph' = ph)) g_no := by
  refine g_start (y := yJ2_init) (cc := cJ2_init) (maxL := 1) (ret := none) (rm := g_rm 2 0 0) (by decide) (Nat.le_of_ble_eq_true rfl) ?_
  intro p e s m A below meth c ls Q hQ S hr hlk hex hnm hK I hl
  have hx := S.1
  have hb := S.2.1
  have hown := S.2.2.2.1
  have hts := S.2.2.2.2
  have S : CallFix p m c cJ2_init 1 s A lw_all "java/util/ImmutableCollections$AbstractImmutableCollection" := S
  have hl : lv_has ls 1 [(0, .ref q)] := hl
  refine lv_aload_n hx hb dJ2_init_0 rfl (lv_at hl 0 rfl) ?_
  refine g_cv (g_runI S hK I (As := []) (rest := []) (met_J1_init l Γ (ph) q) (cwI 0 hts (lw_meth q245) rfl rfl rfl (hts _ q124) (hts _ q243) (hts _ q244) rfl (by decide +kernel) ⟨Nat.le_of_ble_eq_true rfl, Nat.le_of_ble_eq_true rfl⟩) rfl hl.1 rfl (Nat.le_of_ble_eq_true rfl) dJ2_init_1 ⟨Nat.le_of_ble_eq_true rfl, Nat.le_of_ble_eq_true rfl⟩) I (fun ph1 H locs hp I => ?_)
  rw [hp] at I
  exact g_vret S hr hlk I dJ2_init_4 (Nat.le_of_ble_eq_true rfl) (Nat.le_of_ble_eq_true rfl) hQ ⟨rfl, rfl⟩

set_option maxHeartbeats 4000000 in
set_option maxRecDepth 100000 in
theorem met_J3_init (l : Launch) (Γ : g_C) (ph : g_H) (q : Nat)    : g_Met l yJ3_init (ws_ yJ3_init cJ3_init 1 none) (g_rm 3 0 0) Γ [.ref q] (ph) (g_ov (fun ph' => ph' = ph)) g_no := by
  refine g_start (y := yJ3_init) (cc := cJ3_init) (maxL := 1) (ret := none) (rm := g_rm 3 0 0) (by decide) (Nat.le_of_ble_eq_true rfl) ?_
  intro p e s m A below meth c ls Q hQ S hr hlk hex hnm hK I hl
  have hx := S.1
  have hb := S.2.1
  have hown := S.2.2.2.1
  have hts := S.2.2.2.2
  have S : CallFix p m c cJ3_init 1 s A lw_all "java/util/ImmutableCollections$AbstractImmutableList" := S
  have hl : lv_has ls 1 [(0, .ref q)] := hl
  refine lv_aload_n hx hb dJ3_init_0 rfl (lv_at hl 0 rfl) ?_
  refine g_cv (g_runI S hK I (As := []) (rest := []) (met_J2_init l Γ (ph) q) (cwI 0 hts (lw_meth q242) rfl rfl rfl (hts _ q125) (hts _ q240) (hts _ q241) rfl (by decide +kernel) ⟨Nat.le_of_ble_eq_true rfl, Nat.le_of_ble_eq_true rfl⟩) rfl hl.1 rfl (Nat.le_of_ble_eq_true rfl) dJ3_init_1 ⟨Nat.le_of_ble_eq_true rfl, Nat.le_of_ble_eq_true rfl⟩) I (fun ph1 H locs hp I => ?_)
  rw [hp] at I
  exact g_vret S hr hlk I dJ3_init_4 (Nat.le_of_ble_eq_true rfl) (Nat.le_of_ble_eq_true rfl) hQ ⟨rfl, rfl⟩

set_option maxHeartbeats 4000000 in
set_option maxRecDepth 100000 in
theorem met_J5_requireNonNull (l : Launch) (Γ : g_C) (ph : g_H) (x : Nat)    : g_Met l yJ5_requireNonNull (ws_ yJ5_requireNonNull cJ5_requireNonNull 1 (some (.object "java/lang/Object"))) (g_rm 1 0 0) Γ [.ref x] (ph) (g_or (fun rv_ ph' => rv_ = x ∧ ph' = ph)) g_no := by
  refine g_start (y := yJ5_requireNonNull) (cc := cJ5_requireNonNull) (maxL := 1) (ret := (some (.object "java/lang/Object"))) (rm := g_rm 1 0 0) (by decide) (Nat.le_of_ble_eq_true rfl) ?_
  intro p e s m A below meth c ls Q hQ S hr hlk hex hnm hK I hl
  have hx := S.1
  have hb := S.2.1
  have hown := S.2.2.2.1
  have hts := S.2.2.2.2
  have S : CallFix p m c cJ5_requireNonNull 1 s A lw_all "java/util/Objects" := S
  have hl : lv_has ls 1 [(0, .ref x)] := hl
  refine lv_aload_n hx hb dJ5_requireNonNull_0 rfl (lv_at hl 0 rfl) ?_
  refine lv_ifnonnull (tgt := 12) hx hb dJ5_requireNonNull_1 (by decide) ?_
  refine lv_aload_n hx hb dJ5_requireNonNull_12 rfl (lv_at hl 0 rfl) ?_
  exact g_aret S hr (Or.inl ⟨_, rfl⟩) hlk I dJ5_requireNonNull_13 (Nat.le_of_ble_eq_true rfl) (Nat.le_of_ble_eq_true rfl) hQ ⟨_, rfl, rfl, rfl⟩

set_option maxHeartbeats 4000000 in
set_option maxRecDepth 100000 in
theorem met_J4_init (l : Launch) (Γ : g_C) (ph : g_H) (j i q u v : Nat) (v0 v1 : Value)  (hq : ph j i q = some (.inr (20, [v0, v1])))  : g_Met l yJ4_init (ws_ yJ4_init cJ4_init 3 none) (g_rm 4 0 0) Γ [.ref q, .ref u, .ref v] (ph) (g_ov (fun ph' => ph' = gput (gput ph j i q (.inr (20, [.ref u, v1]))) j i q (.inr (20, [.ref u, .ref v])))) g_no := by
  refine g_start (y := yJ4_init) (cc := cJ4_init) (maxL := 3) (ret := none) (rm := g_rm 4 0 0) (by decide) (Nat.le_of_ble_eq_true rfl) ?_
  intro p e s m A below meth c ls Q hQ S hr hlk hex hnm hK I hl
  have hx := S.1
  have hb := S.2.1
  have hown := S.2.2.2.1
  have hts := S.2.2.2.2
  have S : CallFix p m c cJ4_init 3 s A lw_all "java/util/ImmutableCollections$List12" := S
  have hl : lv_has ls 3 [(0, .ref q), (1, .ref u), (2, .ref v)] := hl
  refine lv_aload_n hx hb dJ4_init_0 rfl (lv_at hl 0 rfl) ?_
  refine g_cv (g_runI S hK I (As := []) (rest := []) (met_J3_init l Γ (ph) q) (cwI 0 hts (lw_meth q239) rfl rfl rfl (hts _ q126) (hts _ q237) (hts _ q238) rfl (by decide +kernel) ⟨Nat.le_of_ble_eq_true rfl, Nat.le_of_ble_eq_true rfl⟩) rfl hl.1 rfl (Nat.le_of_ble_eq_true rfl) dJ4_init_1 ⟨Nat.le_of_ble_eq_true rfl, Nat.le_of_ble_eq_true rfl⟩) I (fun ph1 H locs hp I => ?_)
  rw [hp] at I
  refine lv_aload_n hx hb dJ4_init_4 rfl (lv_at hl 0 rfl) ?_
  refine lv_aload_n hx hb dJ4_init_5 rfl (lv_at hl 1 rfl) ?_
  refine g_cr (g_runS S hK I (As := [.ref u]) (rest := [.ref q]) (met_J5_requireNonNull l Γ (ph) u) (va_cwS 1 hts (lw_S q247 q248 q128 q249) rfl rfl rfl (by decide +kernel) ⟨Nat.le_of_ble_eq_true rfl, Nat.le_of_ble_eq_true rfl⟩) rfl hl.1 rfl (Nat.le_of_ble_eq_true rfl) dJ4_init_6 ⟨Nat.le_of_ble_eq_true rfl, Nat.le_of_ble_eq_true rfl⟩) I (fun r_6 ph1 H locs hp I => ?_)
  obtain ⟨hp, hph⟩ := hp
  rw [hph] at I
  have hp : r_6 = u := hp
  rw [hp]
  refine g_putF S hK I k_J4 (v := .ref u) hq 0 (by decide) q250 rfl rfl hnm rfl rfl (Nat.le_of_ble_eq_true rfl) dJ4_init_9 (fun H locs I => ?_)
  have I : g_I Γ (gput ph j i q (.inr (20, [.ref u, v1]))) s H locs := I
  refine lv_aload_n hx hb dJ4_init_12 rfl (lv_at hl 0 rfl) ?_
  refine lv_aload_n hx hb dJ4_init_13 rfl (lv_at hl 2 rfl) ?_
  refine g_cr (g_runS S hK I (As := [.ref v]) (rest := [.ref q]) (met_J5_requireNonNull l Γ (gput ph j i q (.inr (20, [.ref u, v1]))) v) (va_cwS 1 hts (lw_S q247 q248 q128 q249) rfl rfl rfl (by decide +kernel) ⟨Nat.le_of_ble_eq_true rfl, Nat.le_of_ble_eq_true rfl⟩) rfl hl.1 rfl (Nat.le_of_ble_eq_true rfl) dJ4_init_14 ⟨Nat.le_of_ble_eq_true rfl, Nat.le_of_ble_eq_true rfl⟩) I (fun r_14 ph1 H locs hp I => ?_)
  obtain ⟨hp, hph⟩ := hp
  rw [hph] at I
  have hp : r_14 = v := hp
  rw [hp]
  refine g_putF S hK I k_J4 (v := .ref v) (gput_self _ _ _ _ _) 1 (by decide) q251 rfl rfl hnm rfl rfl (Nat.le_of_ble_eq_true rfl) dJ4_init_17 (fun H locs I => ?_)
  have I : g_I Γ (gput (gput ph j i q (.inr (20, [.ref u, v1]))) j i q (.inr (20, [.ref u, .ref v]))) s H locs := I
  exact g_vret S hr hlk I dJ4_init_20 (Nat.le_of_ble_eq_true rfl) (Nat.le_of_ble_eq_true rfl) hQ ⟨rfl, rfl⟩


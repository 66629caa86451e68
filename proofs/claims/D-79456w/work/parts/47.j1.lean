/-! THE JDK: lists, first part -/
set_option maxRecDepth 100000
set_option maxHeartbeats 4000000 in
set_option maxRecDepth 100000 in
theorem met_J1_init (l : Launch) (Γ : g_C) (ph : g_H) (q : Nat)    : g_Met l yJ1_init (ws_ yJ1_init cJ1_init 1 none) (g_rm 1 0 0) Γ [.ref q] (ph) (g_ov (fun ph' => ph' = ph)) g_no := by
  refine g_start (y := yJ1_init) (cc := cJ1_init) (maxL := 1) (ret := none) (rm := g_rm 1 0 0) (by decide) (Nat.le_of_ble_eq_true rfl) ?_
  intro p e s m A below meth c ls Q hQ S hr hlk hex hnm hK I hl
  have hx := S.1
  have hb := S.2.1
  have hown := S.2.2.2.1
  have hts := S.2.2.2.2
  have S : CallFix p m c cJ1_init 1 s A lw_all "java/util/AbstractCollection" := S
  have hl : lv_has ls 1 [(0, .ref q)] := hl
  refine lv_aload_n hx hb dJ1_init_0 rfl (lv_at hl 0 rfl) ?_
  refine g_obj S hl.1 q246 dJ1_init_1 (Nat.le_of_ble_eq_true rfl) (Nat.le_of_ble_eq_true rfl) ?_
  exact g_vret S hr hlk I dJ1_init_4 (Nat.le_of_ble_eq_true rfl) (Nat.le_of_ble_eq_true rfl) hQ ⟨rfl, rfl⟩

set_option maxHeartbeats 4000000 in
set_option maxRecDepth 100000 in
theorem met_J7_size (l : Launch) (Γ : g_C) (ph : g_H) (j i q d : Nat) (mc n : Int32)  (hq : ph j i q = some (.inr (21, [.int mc, .ref d, .int n])))  : g_Met l yJ7_size (ws_ yJ7_size cJ7_size 1 (some .int)) (g_rm 1 0 0) Γ [.ref q] (ph) (g_oi (fun rv_ ph' => rv_ = n ∧ ph' = ph)) g_no := by
  refine g_start (y := yJ7_size) (cc := cJ7_size) (maxL := 1) (ret := (some .int)) (rm := g_rm 1 0 0) (by decide) (Nat.le_of_ble_eq_true rfl) ?_
  intro p e s m A below meth c ls Q hQ S hr hlk hex hnm hK I hl
  have hx := S.1
  have hb := S.2.1
  have hown := S.2.2.2.1
  have hts := S.2.2.2.2
  have S : CallFix p m c cJ7_size 1 s A lw_all "java/util/ArrayList" := S
  have hl : lv_has ls 1 [(0, .ref q)] := hl
  refine lv_aload_n hx hb dJ7_size_0 rfl (lv_at hl 0 rfl) ?_
  refine g_get S hK I k_J7 (v := .int n) (g_at.of hq) 2 (by decide) q598 rfl rfl dJ7_size_1 ?_
  exact g_iret S hr hlk I dJ7_size_4 (Nat.le_of_ble_eq_true rfl) (Nat.le_of_ble_eq_true rfl) hQ ⟨_, rfl, rfl, rfl⟩

set_option maxHeartbeats 4000000 in
set_option maxRecDepth 100000 in
theorem met_J19_checkIndex (l : Launch) (Γ : g_C) (ph : g_H) (x n : Int32)   (h0 : ¬ x < 0) (h1 : x < n) : g_Met l yJ19_checkIndex (ws_ yJ19_checkIndex cJ19_checkIndex 3 (some .int)) (g_rm 1 0 0) Γ [.int x, .int n, .null] (ph) (g_oi (fun rv_ ph' => rv_ = x ∧ ph' = ph)) g_no := by
  refine g_start (y := yJ19_checkIndex) (cc := cJ19_checkIndex) (maxL := 3) (ret := (some .int)) (rm := g_rm 1 0 0) (by decide) (Nat.le_of_ble_eq_true rfl) ?_
  intro p e s m A below meth c ls Q hQ S hr hlk hex hnm hK I hl
  have hx := S.1
  have hb := S.2.1
  have hown := S.2.2.2.1
  have hts := S.2.2.2.2
  have S : CallFix p m c cJ19_checkIndex 3 s A lw_all "jdk/internal/util/Preconditions" := S
  have hl : lv_has ls 3 [(0, .int x), (1, .int n), (2, .null)] := hl
  refine lv_iload_n hx hb dJ19_checkIndex_0 rfl (lv_at hl 0 rfl) ?_
  refine lv_if_lt (tgt := 9) hx hb dJ19_checkIndex_1 (by decide) (fun c_1 => absurd c_1 (h0)) (fun _ => ?_)
  refine lv_iload_n hx hb dJ19_checkIndex_4 rfl (lv_at hl 0 rfl) ?_
  refine lv_iload_n hx hb dJ19_checkIndex_5 rfl (lv_at hl 1 rfl) ?_
  refine lv_icmp_lt (tgt := 16) hx hb dJ19_checkIndex_6 (by decide) (fun _ => ?_) (fun c_6 => absurd (h1) c_6)
  refine lv_iload_n hx hb dJ19_checkIndex_16 rfl (lv_at hl 0 rfl) ?_
  exact g_iret S hr hlk I dJ19_checkIndex_17 (Nat.le_of_ble_eq_true rfl) (Nat.le_of_ble_eq_true rfl) hQ ⟨_, rfl, rfl, rfl⟩

set_option maxHeartbeats 4000000 in
set_option maxRecDepth 100000 in
theorem met_J5_checkIndex (l : Launch) (Γ : g_C) (ph : g_H) (x n : Int32)   (h0 : ¬ x < 0) (h1 : x < n) : g_Met l yJ5_checkIndex (ws_ yJ5_checkIndex cJ5_checkIndex 2 (some .int)) (g_rm 2 0 0) Γ [.int x, .int n] (ph) (g_oi (fun rv_ ph' => rv_ = x ∧ ph' = ph)) g_no := by
  refine g_start (y := yJ5_checkIndex) (cc := cJ5_checkIndex) (maxL := 2) (ret := (some .int)) (rm := g_rm 2 0 0) (by decide) (Nat.le_of_ble_eq_true rfl) ?_
  intro p e s m A below meth c ls Q hQ S hr hlk hex hnm hK I hl
  have hx := S.1
  have hb := S.2.1
  have hown := S.2.2.2.1
  have hts := S.2.2.2.2
  have S : CallFix p m c cJ5_checkIndex 2 s A lw_all "java/util/Objects" := S
  have hl : lv_has ls 2 [(0, .int x), (1, .int n)] := hl
  refine lv_iload_n hx hb dJ5_checkIndex_0 rfl (lv_at hl 0 rfl) ?_
  refine lv_iload_n hx hb dJ5_checkIndex_1 rfl (lv_at hl 1 rfl) ?_
  refine lv_null hx hb dJ5_checkIndex_2 ?_
  refine g_ci (g_runS S hK I (As := [.int x, .int n, .null]) (rest := []) (met_J19_checkIndex l Γ (ph) x n (by assumption) (by assumption)) (va_cwS 3 hts (lw_S q799 q800 q143 q801) rfl rfl rfl (by decide +kernel) ⟨Nat.le_of_ble_eq_true rfl, Nat.le_of_ble_eq_true rfl⟩) rfl hl.1 rfl (Nat.le_of_ble_eq_true rfl) dJ5_checkIndex_3 ⟨Nat.le_of_ble_eq_true rfl, Nat.le_of_ble_eq_true rfl⟩) I (fun r_3 ph1 H locs hp I => ?_)
  obtain ⟨hp, hph⟩ := hp
  rw [hph] at I
  have hp : r_3 = x := hp
  rw [hp]
  exact g_iret S hr hlk I dJ5_checkIndex_6 (Nat.le_of_ble_eq_true rfl) (Nat.le_of_ble_eq_true rfl) hQ ⟨_, rfl, rfl, rfl⟩

set_option maxHeartbeats 4000000 in
set_option maxRecDepth 100000 in
theorem met_J25_sub (l : Launch) (Γ : g_C) (ph : g_H) (x y n : Int32)    : g_Met l yJ25_sub (ws_ yJ25_sub cJ25_sub 3 (some .int)) (g_rm 1 0 0) Γ [.int x, .int y, .int n] (ph) (g_oi (fun rv_ ph' => rv_ = (if x - y < 0 then x - y + n else x - y) ∧ ph' = ph)) g_no := by
  refine g_start (y := yJ25_sub) (cc := cJ25_sub) (maxL := 3) (ret := (some .int)) (rm := g_rm 1 0 0) (by decide) (Nat.le_of_ble_eq_true rfl) ?_
  intro p e s m A below meth c ls Q hQ S hr hlk hex hnm hK I hl
  have hx := S.1
  have hb := S.2.1
  have hown := S.2.2.2.1
  have hts := S.2.2.2.2
  have S : CallFix p m c cJ25_sub 3 s A lw_all "java/util/ArrayDeque" := S
  have hl : lv_has ls 3 [(0, .int x), (1, .int y), (2, .int n)] := hl
  refine lv_iload_n hx hb dJ25_sub_0 rfl (lv_at hl 0 rfl) ?_
  refine lv_iload_n hx hb dJ25_sub_1 rfl (lv_at hl 1 rfl) ?_
  refine lv_isub hx hb dJ25_sub_2 ?_
  refine lv_dup hx hb dJ25_sub_3 rfl ?_
  refine lv_istore_n (lv' := [(0, .int (x - y)), (1, .int y), (2, .int n)]) hx hb dJ25_sub_4 rfl hl (by decide) rfl (fun ls hl => ?_)
  refine lv_if_ge (tgt := 12) hx hb dJ25_sub_5 (by decide) (fun c_5 => ?_) (fun c_5 => ?_)
  · have n_5 := Int32.not_lt.mpr c_5
    refine lv_iload_n hx hb dJ25_sub_12 rfl (lv_at hl 0 rfl) ?_
    exact g_iret S hr hlk I dJ25_sub_13 (Nat.le_of_ble_eq_true rfl) (Nat.le_of_ble_eq_true rfl) hQ ⟨_, rfl, (by first | exact (if_pos c_5).symm | exact (if_neg c_5).symm | exact (if_neg n_5).symm | exact (if_pos n_5).symm), rfl⟩
  · have n_5 := Int32.not_le.mp c_5
    refine lv_iload_n hx hb dJ25_sub_8 rfl (lv_at hl 0 rfl) ?_
    refine lv_iload_n hx hb dJ25_sub_9 rfl (lv_at hl 2 rfl) ?_
    refine lv_iadd hx hb dJ25_sub_10 ?_
    refine lv_istore_n (lv' := [(0, .int ((x - y) + n)), (1, .int y), (2, .int n)]) hx hb dJ25_sub_11 rfl hl (by decide) rfl (fun ls hl => ?_)
    refine lv_iload_n hx hb dJ25_sub_12 rfl (lv_at hl 0 rfl) ?_
    exact g_iret S hr hlk I dJ25_sub_13 (Nat.le_of_ble_eq_true rfl) (Nat.le_of_ble_eq_true rfl) hQ ⟨_, rfl, (by first | exact (if_pos c_5).symm | exact (if_neg c_5).symm | exact (if_neg n_5).symm | exact (if_pos n_5).symm), rfl⟩

set_option maxHeartbeats 4000000 in
set_option maxRecDepth 100000 in
theorem met_J25_inc (l : Launch) (Γ : g_C) (ph : g_H) (x n : Int32)    : g_Met l yJ25_inc (ws_ yJ25_inc cJ25_inc 2 (some .int)) (g_rm 1 0 0) Γ [.int x, .int n] (ph) (g_oi (fun rv_ ph' => rv_ = (if x + 1 < n then x + 1 else 0) ∧ ph' = ph)) g_no := by
  refine g_start (y := yJ25_inc) (cc := cJ25_inc) (maxL := 2) (ret := (some .int)) (rm := g_rm 1 0 0) (by decide) (Nat.le_of_ble_eq_true rfl) ?_
  intro p e s m A below meth c ls Q hQ S hr hlk hex hnm hK I hl
  have hx := S.1
  have hb := S.2.1
  have hown := S.2.2.2.1
  have hts := S.2.2.2.2
  have S : CallFix p m c cJ25_inc 2 s A lw_all "java/util/ArrayDeque" := S
  have hl : lv_has ls 2 [(0, .int x), (1, .int n)] := hl
  refine lv_iinc (v := x + 1) (lv' := [(0, .int (x + 1)), (1, .int n)]) hx hb dJ25_inc_0 hl (k := 0) rfl rfl (by decide) rfl (fun ls hl => ?_)
  refine lv_iload_n hx hb dJ25_inc_3 rfl (lv_at hl 0 rfl) ?_
  refine lv_iload_n hx hb dJ25_inc_4 rfl (lv_at hl 1 rfl) ?_
  refine lv_icmp_lt (tgt := 10) hx hb dJ25_inc_5 (by decide) (fun c_5 => ?_) (fun c_5 => ?_)
  · have n_5 := Int32.not_le.mpr c_5
    refine lv_iload_n hx hb dJ25_inc_10 rfl (lv_at hl 0 rfl) ?_
    exact g_iret S hr hlk I dJ25_inc_11 (Nat.le_of_ble_eq_true rfl) (Nat.le_of_ble_eq_true rfl) hQ ⟨_, rfl, (by first | exact (if_pos c_5).symm | exact (if_neg c_5).symm), rfl⟩
  · have n_5 := Int32.not_lt.mp c_5
    refine lv_iconst (v := 0) hx hb dJ25_inc_8 (by decide) ?_
    refine lv_istore_n (lv' := [(0, .int 0), (1, .int n)]) hx hb dJ25_inc_9 rfl hl (by decide) rfl (fun ls hl => ?_)
    refine lv_iload_n hx hb dJ25_inc_10 rfl (lv_at hl 0 rfl) ?_
    exact g_iret S hr hlk I dJ25_inc_11 (Nat.le_of_ble_eq_true rfl) (Nat.le_of_ble_eq_true rfl) hQ ⟨_, rfl, (by first | exact (if_pos c_5).symm | exact (if_neg c_5).symm), rfl⟩

set_option maxHeartbeats 4000000 in
set_option maxRecDepth 100000 in
theorem met_J25_dec (l : Launch) (Γ : g_C) (ph : g_H) (x n : Int32)    : g_Met l yJ25_dec (ws_ yJ25_dec cJ25_dec 2 (some .int)) (g_rm 1 0 0) Γ [.int x, .int n] (ph) (g_oi (fun rv_ ph' => rv_ = (if 0 ≤ x + (-1) then x + (-1) else n - 1) ∧ ph' = ph)) g_no := by
  refine g_start (y := yJ25_dec) (cc := cJ25_dec) (maxL := 2) (ret := (some .int)) (rm := g_rm 1 0 0) (by decide) (Nat.le_of_ble_eq_true rfl) ?_
  intro p e s m A below meth c ls Q hQ S hr hlk hex hnm hK I hl
  have hx := S.1
  have hb := S.2.1
  have hown := S.2.2.2.1
  have hts := S.2.2.2.2
  have S : CallFix p m c cJ25_dec 2 s A lw_all "java/util/ArrayDeque" := S
  have hl : lv_has ls 2 [(0, .int x), (1, .int n)] := hl
  refine lv_iinc (v := x + (-1)) (lv' := [(0, .int (x + (-1))), (1, .int n)]) hx hb dJ25_dec_0 hl (k := 0) rfl rfl (by decide) rfl (fun ls hl => ?_)
  refine lv_iload_n hx hb dJ25_dec_3 rfl (lv_at hl 0 rfl) ?_
  refine lv_if_ge (tgt := 11) hx hb dJ25_dec_4 (by decide) (fun c_4 => ?_) (fun c_4 => ?_)
  · have n_4 := Int32.not_lt.mpr c_4
    refine lv_iload_n hx hb dJ25_dec_11 rfl (lv_at hl 0 rfl) ?_
    exact g_iret S hr hlk I dJ25_dec_12 (Nat.le_of_ble_eq_true rfl) (Nat.le_of_ble_eq_true rfl) hQ ⟨_, rfl, (if_pos c_4).symm, rfl⟩
  · have n_4 := Int32.not_le.mp c_4
    refine lv_iload_n hx hb dJ25_dec_7 rfl (lv_at hl 1 rfl) ?_
    refine lv_iconst (v := 1) hx hb dJ25_dec_8 (by decide) ?_
    refine lv_isub hx hb dJ25_dec_9 ?_
    refine lv_istore_n (lv' := [(0, .int (n - 1)), (1, .int n)]) hx hb dJ25_dec_10 rfl hl (by decide) rfl (fun ls hl => ?_)
    refine lv_iload_n hx hb dJ25_dec_11 rfl (lv_at hl 0 rfl) ?_
    exact g_iret S hr hlk I dJ25_dec_12 (Nat.le_of_ble_eq_true rfl) (Nat.le_of_ble_eq_true rfl) hQ ⟨_, rfl, (if_neg c_4).symm, rfl⟩

set_option maxHeartbeats 4000000 in
set_option maxRecDepth 100000 in
theorem met_J7_elementData (l : Launch) (Γ : g_C) (ph : g_H) (j i q j2 i2 d : Nat) (mc x : Int32) (n : Int32) (N : Nat) (f : Nat → Option Nat) (v : Nat)  (hq : ph j i q = some (.inr (21, [.int mc, .ref d, .int n]))) (hd : ph j2 i2 d = some (.inl (g_t Γ 7, N, .inr (.inr (.inr (.inr f)))))) (hin : vp_in x N) (hv : f x.toNatClampNeg = some v) : g_Met l yJ7_elementData (ws_ yJ7_elementData cJ7_elementData 2 (some (.object "java/lang/Object"))) (g_rm 1 0 0) Γ [.ref q, .int x] (ph) (g_or (fun rv_ ph' => rv_ = v ∧ ph' = ph)) g_no := by
  refine g_start (y := yJ7_elementData) (cc := cJ7_elementData) (maxL := 2) (ret := (some (.object "java/lang/Object"))) (rm := g_rm 1 0 0) (by decide) (Nat.le_of_ble_eq_true rfl) ?_
  intro p e s m A below meth c ls Q hQ S hr hlk hex hnm hK I hl
  have hx := S.1
  have hb := S.2.1
  have hown := S.2.2.2.1
  have hts := S.2.2.2.2
  have S : CallFix p m c cJ7_elementData 2 s A lw_all "java/util/ArrayList" := S
  have hl : lv_has ls 2 [(0, .ref q), (1, .int x)] := hl
  refine lv_aload_n hx hb dJ7_elementData_0 rfl (lv_at hl 0 rfl) ?_
  refine g_get S hK I k_J7 (v := .ref d) (g_at.of hq) 1 (by decide) q595 rfl rfl dJ7_elementData_1 ?_
  refine lv_iload_n hx hb dJ7_elementData_4 rfl (lv_at hl 1 rfl) ?_
  refine o_aald S hK I 7 rfl (f := f) (k := x.toNatClampNeg) (g_at.of hd) hin rfl dJ7_elementData_5 ?_
  rw [hv]
  exact g_aret S hr (Or.inl ⟨_, rfl⟩) hlk I dJ7_elementData_6 (Nat.le_of_ble_eq_true rfl) (Nat.le_of_ble_eq_true rfl) hQ ⟨_, rfl, rfl, rfl⟩

set_option maxHeartbeats 4000000 in
set_option maxRecDepth 100000 in
theorem met_J7_get (l : Launch) (Γ : g_C) (ph : g_H) (j i q j2 i2 d : Nat) (mc x : Int32) (n : Int32) (N : Nat) (f : Nat → Option Nat) (v : Nat)  (hq : ph j i q = some (.inr (21, [.int mc, .ref d, .int n]))) (hd : ph j2 i2 d = some (.inl (g_t Γ 7, N, .inr (.inr (.inr (.inr f)))))) (h0 : ¬ x < 0) (h1 : x < n) (hin : vp_in x N) (hv : f x.toNatClampNeg = some v) : g_Met l yJ7_get (ws_ yJ7_get cJ7_get 2 (some (.object "java/lang/Object"))) (g_rm 3 0 0) Γ [.ref q, .int x] (ph) (g_or (fun rv_ ph' => rv_ = v ∧ ph' = ph)) g_no := by
  refine g_start (y := yJ7_get) (cc := cJ7_get) (maxL := 2) (ret := (some (.object "java/lang/Object"))) (rm := g_rm 3 0 0) (by decide) (Nat.le_of_ble_eq_true rfl) ?_
  intro p e s m A below meth c ls Q hQ S hr hlk hex hnm hK I hl
  have hx := S.1
  have hb := S.2.1
  have hown := S.2.2.2.1
  have hts := S.2.2.2.2
  have S : CallFix p m c cJ7_get 2 s A lw_all "java/util/ArrayList" := S
  have hl : lv_has ls 2 [(0, .ref q), (1, .int x)] := hl
  refine lv_iload_n hx hb dJ7_get_0 rfl (lv_at hl 1 rfl) ?_
  refine lv_aload_n hx hb dJ7_get_1 rfl (lv_at hl 0 rfl) ?_
  refine g_get S hK I k_J7 (v := .int n) (g_at.of hq) 2 (by decide) q598 rfl rfl dJ7_get_2 ?_
  refine g_ci (g_runS S hK I (As := [.int x, .int n]) (rest := []) (met_J5_checkIndex l Γ (ph) x n (by assumption) (by assumption)) (va_cwS 2 hts (lw_S q796 q797 q128 q798) rfl rfl rfl (by decide +kernel) ⟨Nat.le_of_ble_eq_true rfl, Nat.le_of_ble_eq_true rfl⟩) rfl hl.1 rfl (Nat.le_of_ble_eq_true rfl) dJ7_get_5 ⟨Nat.le_of_ble_eq_true rfl, Nat.le_of_ble_eq_true rfl⟩) I (fun r_5 ph1 H locs hp I => ?_)
  obtain ⟨hp, hph⟩ := hp
  rw [hph] at I
  have hp : r_5 = x := hp
  rw [hp]
  refine lv_pop hx hb dJ7_get_8 rfl ?_
  refine lv_aload_n hx hb dJ7_get_9 rfl (lv_at hl 0 rfl) ?_
  refine lv_iload_n hx hb dJ7_get_10 rfl (lv_at hl 1 rfl) ?_
  refine g_cr (g_runV S hK I (As := [.int x]) (rest := []) (met_J7_elementData l Γ (ph) j i q j2 i2 d mc x n N f v hq hd (by assumption) (by assumption)) (cwV 1 hts (lw_V q802 q803 q804 q130 q805) rfl rfl rfl (by decide +kernel) ⟨Nat.le_of_ble_eq_true rfl, Nat.le_of_ble_eq_true rfl⟩) (g_recv hK I (g_at.of hq) (ci := 21) rfl) rfl hl.1 rfl (Nat.le_of_ble_eq_true rfl) dJ7_get_11 ⟨Nat.le_of_ble_eq_true rfl, Nat.le_of_ble_eq_true rfl⟩) I (fun r_11 ph1 H locs hp I => ?_)
  obtain ⟨hp, hph⟩ := hp
  rw [hph] at I
  have hp : r_11 = v := hp
  rw [hp]
  exact g_aret S hr (Or.inl ⟨_, rfl⟩) hlk I dJ7_get_14 (Nat.le_of_ble_eq_true rfl) (Nat.le_of_ble_eq_true rfl) hQ ⟨_, rfl, rfl, rfl⟩

set_option maxHeartbeats 4000000 in
set_option maxRecDepth 100000 in
theorem met_J25_size (l : Launch) (Γ : g_C) (ph : g_H) (j i q j2 i2 d : Nat) (hd tl : Int32) (N : Nat) (f : Nat → Option Nat)  (hq : ph j i q = some (.inr (25, [.ref d, .int hd, .int tl]))) (hd2 : ph j2 i2 d = some (.inl (g_t Γ 7, N, .inr (.inr (.inr (.inr f))))))  : g_Met l yJ25_size (ws_ yJ25_size cJ25_size 1 (some .int)) (g_rm 2 0 0) Γ [.ref q] (ph) (g_oi (fun rv_ ph' => rv_ = (if tl - hd < 0 then tl - hd + nI N else tl - hd) ∧ ph' = ph)) g_no := by
  refine g_start (y := yJ25_size) (cc := cJ25_size) (maxL := 1) (ret := (some .int)) (rm := g_rm 2 0 0) (by decide) (Nat.le_of_ble_eq_true rfl) ?_
  intro p e s m A below meth c ls Q hQ S hr hlk hex hnm hK I hl
  have hx := S.1
  have hb := S.2.1
  have hown := S.2.2.2.1
  have hts := S.2.2.2.2
  have S : CallFix p m c cJ25_size 1 s A lw_all "java/util/ArrayDeque" := S
  have hl : lv_has ls 1 [(0, .ref q)] := hl
  refine lv_aload_n hx hb dJ25_size_0 rfl (lv_at hl 0 rfl) ?_
  refine g_get S hK I k_J25 (v := .int tl) (g_at.of hq) 2 (by decide) q713 rfl rfl dJ25_size_1 ?_
  refine lv_aload_n hx hb dJ25_size_4 rfl (lv_at hl 0 rfl) ?_
  refine g_get S hK I k_J25 (v := .int hd) (g_at.of hq) 1 (by decide) q712 rfl rfl dJ25_size_5 ?_
  refine lv_aload_n hx hb dJ25_size_8 rfl (lv_at hl 0 rfl) ?_
  refine g_get S hK I k_J25 (v := .ref d) (g_at.of hq) 0 (by decide) q711 rfl rfl dJ25_size_9 ?_
  refine g_alen S hK I (g_at.of hd2) rfl (v := (nI N)) rfl dJ25_size_12 ?_
  refine g_ci (g_runS S hK I (As := [.int tl, .int hd, .int (nI N)]) (rest := []) (met_J25_sub l Γ (ph) tl hd (nI N)) (va_cwS 3 hts (lw_S q1762 q1763 q150 q1764) rfl rfl rfl (by decide +kernel) ⟨Nat.le_of_ble_eq_true rfl, Nat.le_of_ble_eq_true rfl⟩) rfl hl.1 rfl (Nat.le_of_ble_eq_true rfl) dJ25_size_13 ⟨Nat.le_of_ble_eq_true rfl, Nat.le_of_ble_eq_true rfl⟩) I (fun r_13 ph1 H locs hp I => ?_)
  obtain ⟨hp, hph⟩ := hp
  rw [hph] at I
  have hp : r_13 = (if tl - hd < 0 then tl - hd + (nI N) else tl - hd) := hp
  rw [hp]
  exact g_iret S hr hlk I dJ25_size_16 (Nat.le_of_ble_eq_true rfl) (Nat.le_of_ble_eq_true rfl) hQ ⟨_, rfl, rfl, rfl⟩

set_option maxHeartbeats 4000000 in
set_option maxRecDepth 100000 in
theorem met_J25_isEmpty (l : Launch) (Γ : g_C) (ph : g_H) (j i q d : Nat) (hd tl : Int32)  (hq : ph j i q = some (.inr (25, [.ref d, .int hd, .int tl])))  : g_Met l yJ25_isEmpty (ws_ yJ25_isEmpty cJ25_isEmpty 1 (some .boolean)) (g_rm 1 0 0) Γ [.ref q] (ph) (g_oi (fun rv_ ph' => rv_ = (b2i (decide (hd = tl))) ∧ ph' = ph)) g_no := by
  refine g_start (y := yJ25_isEmpty) (cc := cJ25_isEmpty) (maxL := 1) (ret := (some .boolean)) (rm := g_rm 1 0 0) (by decide) (Nat.le_of_ble_eq_true rfl) ?_
  intro p e s m A below meth c ls Q hQ S hr hlk hex hnm hK I hl
  have hx := S.1
  have hb := S.2.1
  have hown := S.2.2.2.1
  have hts := S.2.2.2.2
  have S : CallFix p m c cJ25_isEmpty 1 s A lw_all "java/util/ArrayDeque" := S
  have hl : lv_has ls 1 [(0, .ref q)] := hl
  refine lv_aload_n hx hb dJ25_isEmpty_0 rfl (lv_at hl 0 rfl) ?_
  refine g_get S hK I k_J25 (v := .int hd) (g_at.of hq) 1 (by decide) q712 rfl rfl dJ25_isEmpty_1 ?_
  refine lv_aload_n hx hb dJ25_isEmpty_4 rfl (lv_at hl 0 rfl) ?_
  refine g_get S hK I k_J25 (v := .int tl) (g_at.of hq) 2 (by decide) q713 rfl rfl dJ25_isEmpty_5 ?_
  refine lv_icmp_ne (tgt := 15) hx hb dJ25_isEmpty_8 (by decide) (fun c_8 => ?_) (fun c_8 => ?_)
  · refine lv_iconst (v := 0) hx hb dJ25_isEmpty_15 (by decide) ?_
    exact g_zret S hr hlk I rfl dJ25_isEmpty_16 (Nat.le_of_ble_eq_true rfl) (Nat.le_of_ble_eq_true rfl) hQ ⟨_, rfl, (by simp [b2i, c_8]), rfl⟩
  · refine lv_iconst (v := 1) hx hb dJ25_isEmpty_11 (by decide) ?_
    refine lv_goto (tgt := 16) hx hb dJ25_isEmpty_12 (by decide) ?_
    exact g_zret S hr hlk I rfl dJ25_isEmpty_16 (Nat.le_of_ble_eq_true rfl) (Nat.le_of_ble_eq_true rfl) hQ ⟨_, rfl, (by simp [b2i, c_8]), rfl⟩

set_option maxHeartbeats 4000000 in
set_option maxRecDepth 100000 in
theorem met_J6_init (l : Launch) (Γ : g_C) (ph : g_H) (j i q d : Nat) (mc n : Int32) (dv : Value)  (hq : ph j i q = some (.inr (21, [.int mc, dv, .int n])))  : g_Met l yJ6_init (ws_ yJ6_init cJ6_init 1 none) (g_rm 2 0 0) Γ [.ref q] (ph) (g_ov (fun ph' => ph' = gput ph j i q (.inr (21, [.int 0, dv, .int n])))) g_no := by
  refine g_start (y := yJ6_init) (cc := cJ6_init) (maxL := 1) (ret := none) (rm := g_rm 2 0 0) (by decide) (Nat.le_of_ble_eq_true rfl) ?_
  intro p e s m A below meth c ls Q hQ S hr hlk hex hnm hK I hl
  have hx := S.1
  have hb := S.2.1
  have hown := S.2.2.2.1
  have hts := S.2.2.2.2
  have S : CallFix p m c cJ6_init 1 s A lw_all "java/util/AbstractList" := S
  have hl : lv_has ls 1 [(0, .ref q)] := hl
  refine lv_aload_n hx hb dJ6_init_0 rfl (lv_at hl 0 rfl) ?_
  refine g_cv (g_runI S hK I (As := []) (rest := []) (met_J1_init l Γ (ph) q) (cwI 0 hts (lw_meth q245) rfl rfl rfl (hts _ q124) (hts _ q269) (hts _ q244) rfl (by decide +kernel) ⟨Nat.le_of_ble_eq_true rfl, Nat.le_of_ble_eq_true rfl⟩) rfl hl.1 rfl (Nat.le_of_ble_eq_true rfl) dJ6_init_1 ⟨Nat.le_of_ble_eq_true rfl, Nat.le_of_ble_eq_true rfl⟩) I (fun ph1 H locs hp I => ?_)
  rw [hp] at I
  refine lv_aload_n hx hb dJ6_init_4 rfl (lv_at hl 0 rfl) ?_
  refine lv_iconst (v := 0) hx hb dJ6_init_5 (by decide) ?_
  refine g_put S hK I k_J7 (v := .int 0) hq 0 (by decide) q599 rfl rfl rfl rfl (Nat.le_of_ble_eq_true rfl) dJ6_init_6 (fun H locs I => ?_)
  have I : g_I Γ (gput ph j i q (.inr (21, [.int 0, dv, .int n]))) s H locs := I
  exact g_vret S hr hlk I dJ6_init_9 (Nat.le_of_ble_eq_true rfl) (Nat.le_of_ble_eq_true rfl) hQ ⟨rfl, rfl⟩


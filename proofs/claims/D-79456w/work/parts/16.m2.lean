/-! THE REFERENCE: methods that read the wall, further -/
set_option maxRecDepth 100000
theorem wA_in {w : m_w} {k : Nat} (hw : WF w) (hk : k < nAn w) : vp_in (132 + nI k) 170 ∧ (132 + nI k).toNatClampNeg = 132 + k := ix_k (b := 132) (by have := hw.2.2.1.2; omega) (by decide)
theorem wA_pl {w : m_w} {k : Nat} (hw : WF w) (hk : k < nAn w) : okP w (w (132 + k)) := Or.inr (hw.2.2.2.2.2.2.2 k hk)
theorem ropeN_ok {w : m_w} (hw : WF w) {x : Int32} (hx : okP w x) {k : Nat} (hk : k ≤ nAn w) : okP w (ropeN w x k).2 := by
  cases k with
  | zero => exact hx
  | succ k => exact wA_pl hw (by omega)
theorem wA_last {w : m_w} (hw : WF w) (h : ¬ w 131 - 1 < 0) : vp_in (132 + (w 131 - 1)) 170 ∧ (132 + (w 131 - 1)).toNatClampNeg = 131 + nAn w ∧ 1 ≤ nAn w := by
  have h8 := hw.2.2.1.2
  rw [hw.2.2.1.1] at h ⊢
  cases hn : nAn w with
  | zero => rw [hn] at h; exact absurd (by decide) h
  | succ n =>
    rw [hn] at h8
    rw [nI_pred]
    have := ix_k (b := 132) (k := n) (N := 170) (by omega) (by decide)
    exact ⟨this.1, by rw [show (132 : Int32) = nI 132 from rfl, this.2]; omega, by omega⟩
theorem mI_ef {Γ : g_C} {mo : Nat} {ad : Nat → Nat} {f f' : Nat → Int32} {a : Nat → Nat → Int32} {rr : Nat → UInt32} {ph : g_H} {s : State} {H : Heap} {locs : List Loc} (I : g_I Γ (mG Γ mo ad f a rr ph) s H locs) (h : f = f') : g_I Γ (mG Γ mo ad f' a rr ph) s H locs := h ▸ I
theorem mI_ea {Γ : g_C} {mo : Nat} {ad : Nat → Nat} {f : Nat → Int32} {a a' : Nat → Nat → Int32} {rr : Nat → UInt32} {ph : g_H} {s : State} {H : Heap} {locs : List Loc} (I : g_I Γ (mG Γ mo ad f a rr ph) s H locs) (h : a = a') : g_I Γ (mG Γ mo ad f a' rr ph) s H locs := h ▸ I
theorem wk_none {o : m_why} (h : o.isSome = false) : o = none := by cases o <;> simp_all
theorem wk_some {o : m_why} (h : o.isSome = true) : ∃ q, o = some q := by cases o <;> simp_all
theorem h_5 {t : Int32} (h : btw t 0 9 = true) (h5 : ¬ t = 5) (h6 : ¬ t = 6) (h7 : ¬ t = 7) (h8 : ¬ t = 8) (h9 : ¬ t = 9) : vp_in t 5 := by
  rw [show (9 : Int32) = nI 10 - 1 from rfl, vp_isBtw (by decide)] at h
  obtain ⟨j, h1, rfl, -⟩ := vp_j h (by decide)
  refine vp_in_nI ?_ (by decide)
  rcases (show j < 5 ∨ j = 5 ∨ j = 6 ∨ j = 7 ∨ j = 8 ∨ j = 9 by omega) with e | e | e | e | e | e
  · exact e
  · subst e; exact absurd rfl h5
  · subst e; exact absurd rfl h6
  · subst e; exact absurd rfl h7
  · subst e; exact absurd rfl h8
  · subst e; exact absurd rfl h9
theorem bt_4 {t : Int32} (h : btw t 0 4 = true) : vp_in t 5 := by
  rw [show (4 : Int32) = nI 5 - 1 from rfl, vp_isBtw (by decide)] at h
  exact h
theorem bt_3 {t : Int32} (h : vp_in t 5) (h3 : ¬ 3 ≤ t) : vp_in t 3 := by
  obtain ⟨j, h1, rfl, -⟩ := vp_j h (by decide)
  refine vp_in_nI ?_ (by decide)
  rw [show (3 : Int32) = nI 3 from rfl, nI_leI (by decide) (by omega)] at h3
  omega
theorem fst_hit {n k : Nat} {p : Nat → Bool} (hk : k < n) (h : ∀ j, j < k → p j = false) (hp : p k = true) : fstN n p = nI k := by
  have : (List.range n).find? p = some k := by
    rw [List.find?_range_eq_some]
    exact ⟨hp, List.mem_range.mpr hk, fun j hj => by rw [h j hj]; rfl⟩
  unfold fstN
  rw [this]
theorem fst_none {n : Nat} {p : Nat → Bool} (h : ∀ j, j < n → p j = false) : fstN n p = -1 := by
  have : (List.range n).find? p = none := by
    rw [List.find?_range_eq_none]
    intro j hj
    rw [h j hj]; rfl
  unfold fstN
  rw [this]
set_option maxHeartbeats 4000000 in
set_option maxRecDepth 100000 in
theorem met_X5_carried (l : Launch) (Γ : g_C) (mo : Nat) (ad : Nat → Nat) (f : Nat → Int32) (a : Nat → Nat → Int32) (rr : Nat → UInt32) (ph : g_H) (p0 : Int32) (hw : WF (a 5)) : g_Met l yX5_carried (ws_ yX5_carried cX5_carried 4 (some .int)) (g_rm 3 0 0) Γ [.ref mo, .int p0] (mG Γ mo ad f a rr ph) (g_oi (fun v ph' => v = (carr (a 5) p0) ∧ ph' = mG Γ mo ad f a rr ph)) g_no := by
  refine g_start (y := yX5_carried) (cc := cX5_carried) (maxL := 4) (ret := (some .int)) (rm := g_rm 3 0 0) (by decide) (Nat.le_of_ble_eq_true rfl) ?_
  intro p e s m A below meth c ls Q hQ S hr hlk hex hnm hK I hl
  have hx := S.1
  have hb := S.2.1
  have hown := S.2.2.2.1
  have hts := S.2.2.2.2
  have S : CallFix p m c cX5_carried 4 s A lw_all "CrumblingWallModel" := S
  have hl : lv_has ls 4 [(0, .ref mo), (1, .int p0)] := hl
  refine lv_iconst (v := 0) hx hb dX5_carried_0 (by decide) ?_
  refine lv_istore_n (lv' := [(2, .int 0), (0, .ref mo), (1, .int p0)]) hx hb dX5_carried_1 rfl hl (by decide) rfl (fun ls hl => ?_)
  refine lv_iconst (v := 0) hx hb dX5_carried_2 (by decide) ?_
  refine lv_istore_n (lv' := [(3, .int 0), (2, .int 0), (0, .ref mo), (1, .int p0)]) hx hb dX5_carried_3 rfl hl (by decide) rfl (fun ls hl => ?_)
  have L_4 : ∀ (d : Nat) (k : Nat), (hk : k ≤ nLa (a 5)) → nLa (a 5) - k < d → ∀ (H : Heap) (locs : List Loc) (ls : Array Slot), g_I Γ (mG Γ mo ad f a rr ph) s H locs → lv_has ls 4 [(0, .ref mo), (1, .int p0), (2, .int (orN k (fun k => if lX (a 5) (nI k) 1 = p0 then bitK k else 0))), (3, .int (nI k))] → W p l e (g_rm 3 0 0) s m A below meth c H locs 0 0 Q (F0 m 4 ls []) := by
    intro d
    induction d with
    | zero => intro k hk hd; exact absurd hd (Nat.not_lt_zero _)
    | succ d ih =>
      intro k hk hd H locs ls I hl
      refine lv_iload_n hx hb dX5_carried_4 rfl (lv_at hl 3 rfl) ?_
      refine lv_aload_n hx hb dX5_carried_5 rfl (lv_at hl 0 rfl) ?_
      refine g_get S hK I k_X5 (v := .ref (ad 5)) (g_at.of mG_obj) 5 (by decide) q2957 rfl rfl dX5_carried_6 ?_
      refine lv_bipush (v := 104) hx hb dX5_carried_9 (by decide) ?_
      refine m_iald S hK I (f := (a 5)) (k := 104) (g_at.of mG_5) (vp_lit (by decide)) (by decide) dX5_carried_11 ?_
      refine lv_icmp_ge (tgt := 41) hx hb dX5_carried_12 (by decide) (fun c_12 => ?_) (fun c_12 => ?_)
      · have n_12 := Int32.not_lt.mpr c_12
        obtain rfl : k = nLa (a 5) := k_ge hw.2.1.1 (wf_le4 hw) hk c_12
        refine lv_iload_n hx hb dX5_carried_41 rfl (lv_at hl 2 rfl) ?_
        exact g_iret S hr hlk I dX5_carried_42 (Nat.le_of_ble_eq_true rfl) (Nat.le_of_ble_eq_true rfl) hQ ⟨_, rfl, rfl, rfl⟩
      · have n_12 := Int32.not_le.mp c_12
        have hkl : k < nLa (a 5) := k_lt hw.2.1.1 (wf_le4 hw) hk c_12
        have hkv : vp_in (nI k) (nLa (a 5)) := vp_k hkl (Nat.le_refl _) (Nat.lt_of_le_of_lt hw.2.1.2 (by decide))
        refine lv_iload_n hx hb dX5_carried_15 rfl (lv_at hl 2 rfl) ?_
        refine lv_aload_n hx hb dX5_carried_16 rfl (lv_at hl 0 rfl) ?_
        refine lv_iload_n hx hb dX5_carried_17 rfl (lv_at hl 3 rfl) ?_
        refine lv_iconst (v := 1) hx hb dX5_carried_18 (by decide) ?_
        refine g_ci (g_runV S hK I (As := [.int (nI k), .int 1]) (rest := [.int (orN k (fun k => if lX (a 5) (nI k) 1 = p0 then bitK k else 0))]) (met_X5_ofLamp l Γ mo ad f a rr ph (nI k) 1 (hw.l4 hkv) (vp_lit (by decide))) (cwV 2 hts (lw_V q3130 q3132 qs66 q151 q3133) rfl rfl rfl (by decide +kernel) ⟨Nat.le_of_ble_eq_true rfl, Nat.le_of_ble_eq_true rfl⟩) (g_recv hK I (g_at.of mG_obj) (ci := 4) rfl) rfl hl.1 rfl (Nat.le_of_ble_eq_true rfl) dX5_carried_19 ⟨Nat.le_of_ble_eq_true rfl, Nat.le_of_ble_eq_true rfl⟩) I (fun r_19 ph1 H locs hp I => ?_)
        obtain ⟨hp, rfl⟩ := hp
        have hp : r_19 = lX (a 5) (nI k) 1 := hp
        subst hp
        refine lv_iload_n hx hb dX5_carried_22 rfl (lv_at hl 1 rfl) ?_
        have J_33_0 : ∀ (x1 : Int32) (H : Heap) (locs : List Loc) (ls : Array Slot), (hx1 : x1 = (if lX (a 5) (nI k) 1 = p0 then bitK k else 0)) → g_I Γ (mG Γ mo ad f a rr ph) s H locs → lv_has ls 4 [(0, .ref mo), (1, .int p0), (2, .int (orN k (fun k => if lX (a 5) (nI k) 1 = p0 then bitK k else 0))), (3, .int (nI k))] → W p l e (g_rm 3 0 0) s m A below meth c H locs 0 0 Q (F0 m 33 ls [.int x1, .int (orN k (fun k => if lX (a 5) (nI k) 1 = p0 then bitK k else 0))]) := by
          intro x1 H locs ls hx1 I hl
          subst hx1
          refine lv_ior hx hb dX5_carried_33 ?_
          refine lv_istore_n (lv' := [(2, .int (orN (k + 1) (fun k => if lX (a 5) (nI k) 1 = p0 then bitK k else 0))), (0, .ref mo), (1, .int p0), (3, .int (nI k))]) hx hb dX5_carried_34 rfl hl (by decide) rfl (fun ls hl => ?_)
          refine lv_iinc (v := nI (k + 1)) (lv' := [(3, .int (nI (k + 1))), (2, .int (orN (k + 1) (fun k => if lX (a 5) (nI k) 1 = p0 then bitK k else 0))), (0, .ref mo), (1, .int p0)]) hx hb dX5_carried_35 hl (k := 3) rfl (nI_1 k) (by decide) rfl (fun ls hl => ?_)
          refine lv_goto (tgt := 4) hx hb dX5_carried_38 (by decide) ?_
          exact ih (k + 1) hkl (by omega) _ _ _ I (lv_sub hl [2, 3, 1, 0] rfl)
        refine lv_icmp_ne (tgt := 32) hx hb dX5_carried_23 (by decide) (fun c_23 => ?_) (fun c_23 => ?_)
        · refine lv_iconst (v := 0) hx hb dX5_carried_32 (by decide) ?_
          exact J_33_0 0 _ _ _ (by simp [bitK, c_23]) I (lv_sub hl [0, 1, 2, 3] rfl)
        · refine lv_iconst (v := 1) hx hb dX5_carried_26 (by decide) ?_
          refine lv_iload_n hx hb dX5_carried_27 rfl (lv_at hl 3 rfl) ?_
          refine lv_ishl hx hb dX5_carried_28 ?_
          refine lv_goto (tgt := 33) hx hb dX5_carried_29 (by decide) ?_
          exact J_33_0 (1 <<< ((nI k) &&& 31)) _ _ _ (by simp [bitK, c_23]) I (lv_sub hl [0, 1, 2, 3] rfl)
  exact L_4 _ 0 (Nat.zero_le _) (Nat.lt_succ_self _) _ _ _ I (lv_sub hl [2, 3, 1, 0] rfl)

set_option maxHeartbeats 4000000 in
set_option maxRecDepth 100000 in
theorem met_X5_bits (l : Launch) (Γ : g_C) (ph : g_H) (p0 : Int32) : g_Met l yX5_bits (ws_ yX5_bits cX5_bits 3 (some .int)) (g_rm 1 0 0) Γ [.int p0] (ph) (g_oi (fun v ph' => v = (bits p0) ∧ ph' = ph)) g_no := by
  refine g_start (y := yX5_bits) (cc := cX5_bits) (maxL := 3) (ret := (some .int)) (rm := g_rm 1 0 0) (by decide) (Nat.le_of_ble_eq_true rfl) ?_
  intro p e s m A below meth c ls Q hQ S hr hlk hex hnm hK I hl
  have hx := S.1
  have hb := S.2.1
  have hown := S.2.2.2.1
  have hts := S.2.2.2.2
  have S : CallFix p m c cX5_bits 3 s A lw_all "CrumblingWallModel" := S
  have hl : lv_has ls 3 [(0, .int p0)] := hl
  refine lv_iconst (v := 0) hx hb dX5_bits_0 (by decide) ?_
  refine lv_istore_n (lv' := [(1, .int 0), (0, .int p0)]) hx hb dX5_bits_1 rfl hl (by decide) rfl (fun ls hl => ?_)
  refine lv_iconst (v := 0) hx hb dX5_bits_2 (by decide) ?_
  refine lv_istore_n (lv' := [(2, .int 0), (1, .int 0), (0, .int p0)]) hx hb dX5_bits_3 rfl hl (by decide) rfl (fun ls hl => ?_)
  have L_4 : ∀ (d : Nat) (k : Nat), (hk : k ≤ 20) → 20 - k < d → ∀ (H : Heap) (locs : List Loc) (ls : Array Slot), g_I Γ ph s H locs → lv_has ls 3 [(0, .int p0), (1, .int (sumN k (fun k => p0 >>> (nI k &&& 31) &&& 1))), (2, .int (nI k))] → W p l e (g_rm 1 0 0) s m A below meth c H locs 0 0 Q (F0 m 4 ls []) := by
    intro d
    induction d with
    | zero => intro k hk hd; exact absurd hd (Nat.not_lt_zero _)
    | succ d ih =>
      intro k hk hd H locs ls I hl
      refine lv_iload_n hx hb dX5_bits_4 rfl (lv_at hl 2 rfl) ?_
      refine lv_bipush (v := 20) hx hb dX5_bits_5 (by decide) ?_
      refine lv_icmp_ge (tgt := 24) hx hb dX5_bits_7 (by decide) (fun c_7 => ?_) (fun c_7 => ?_)
      · have n_7 := Int32.not_lt.mpr c_7
        obtain rfl : k = 20 := k_ge (x := 20) rfl (by decide) hk c_7
        refine lv_iload_n hx hb dX5_bits_24 rfl (lv_at hl 1 rfl) ?_
        exact g_iret S hr hlk I dX5_bits_25 (Nat.le_of_ble_eq_true rfl) (Nat.le_of_ble_eq_true rfl) hQ ⟨_, rfl, rfl, rfl⟩
      · have n_7 := Int32.not_le.mp c_7
        have hkl : k < 20 := k_lt (x := 20) rfl (by decide) hk c_7
        refine lv_iload_n hx hb dX5_bits_10 rfl (lv_at hl 1 rfl) ?_
        refine lv_iload_n hx hb dX5_bits_11 rfl (lv_at hl 0 rfl) ?_
        refine lv_iload_n hx hb dX5_bits_12 rfl (lv_at hl 2 rfl) ?_
        refine lv_ishr hx hb dX5_bits_13 ?_
        refine lv_iconst (v := 1) hx hb dX5_bits_14 (by decide) ?_
        refine lv_iand hx hb dX5_bits_15 ?_
        refine lv_iadd hx hb dX5_bits_16 ?_
        refine lv_istore_n (lv' := [(1, .int (sumN (k + 1) (fun k => p0 >>> (nI k &&& 31) &&& 1))), (0, .int p0), (2, .int (nI k))]) hx hb dX5_bits_17 rfl hl (by decide) rfl (fun ls hl => ?_)
        refine lv_iinc (v := nI (k + 1)) (lv' := [(2, .int (nI (k + 1))), (1, .int (sumN (k + 1) (fun k => p0 >>> (nI k &&& 31) &&& 1))), (0, .int p0)]) hx hb dX5_bits_18 hl (k := 2) rfl (nI_1 k) (by decide) rfl (fun ls hl => ?_)
        refine lv_goto (tgt := 4) hx hb dX5_bits_21 (by decide) ?_
        exact ih (k + 1) hkl (by omega) _ _ _ I (lv_sub hl [2, 1, 0] rfl)
  exact L_4 _ 0 (Nat.zero_le _) (Nat.lt_succ_self _) _ _ _ I (lv_sub hl [2, 1, 0] rfl)

set_option maxHeartbeats 4000000 in
set_option maxRecDepth 100000 in
theorem met_X5_isSecure (l : Launch) (Γ : g_C) (mo : Nat) (ad : Nat → Nat) (f : Nat → Int32) (a : Nat → Nat → Int32) (rr : Nat → UInt32) (ph : g_H) (p0 : Int32) (hw : WF (a 5)) (h0 : vp_in p0 2) : g_Met l yX5_isSecure (ws_ yX5_isSecure cX5_isSecure 2 (some .boolean)) (g_rm 4 0 0) Γ [.ref mo, .int p0] (mG Γ mo ad f a rr ph) (g_oi (fun v ph' => v = (b2i (isSe (a 5) p0)) ∧ ph' = mG Γ mo ad f a rr ph)) g_no := by
  refine g_start (y := yX5_isSecure) (cc := cX5_isSecure) (maxL := 2) (ret := (some .boolean)) (rm := g_rm 4 0 0) (by decide) (Nat.le_of_ble_eq_true rfl) ?_
  intro p e s m A below meth c ls Q hQ S hr hlk hex hnm hK I hl
  have hx := S.1
  have hb := S.2.1
  have hown := S.2.2.2.1
  have hts := S.2.2.2.2
  have S : CallFix p m c cX5_isSecure 2 s A lw_all "CrumblingWallModel" := S
  have hl : lv_has ls 2 [(0, .ref mo), (1, .int p0)] := hl
  refine lv_aload_n hx hb dX5_isSecure_0 rfl (lv_at hl 0 rfl) ?_
  refine lv_iload_n hx hb dX5_isSecure_1 rfl (lv_at hl 1 rfl) ?_
  refine lv_iconst (v := 1) hx hb dX5_isSecure_2 (by decide) ?_
  refine g_ci (g_runV S hK I (As := [.int p0, .int 1]) (rest := []) (met_X5_ofClimber l Γ mo ad f a rr ph p0 1 h0 (vp_lit (by decide))) (cwV 2 hts (lw_V q3099 q3101 qs60 q151 q3102) rfl rfl rfl (by decide +kernel) ⟨Nat.le_of_ble_eq_true rfl, Nat.le_of_ble_eq_true rfl⟩) (g_recv hK I (g_at.of mG_obj) (ci := 4) rfl) rfl hl.1 rfl (Nat.le_of_ble_eq_true rfl) dX5_isSecure_3 ⟨Nat.le_of_ble_eq_true rfl, Nat.le_of_ble_eq_true rfl⟩) I (fun r_3 ph1 H locs hp I => ?_)
  obtain ⟨hp, rfl⟩ := hp
  have hp : r_3 = cX (a 5) p0 1 := hp
  subst hp
  refine lv_if_ne (tgt := 34) hx hb dX5_isSecure_6 (by decide) (fun c_6 => ?_) (fun c_6 => ?_)
  · refine lv_iconst (v := 0) hx hb dX5_isSecure_34 (by decide) ?_
    exact g_zret S hr hlk I rfl dX5_isSecure_35 (Nat.le_of_ble_eq_true rfl) (Nat.le_of_ble_eq_true rfl) hQ ⟨_, rfl, (by (try simp [isSe, b2i, c_6])), rfl⟩
  · refine lv_aload_n hx hb dX5_isSecure_9 rfl (lv_at hl 0 rfl) ?_
    refine lv_iload_n hx hb dX5_isSecure_10 rfl (lv_at hl 1 rfl) ?_
    refine g_ci (g_runV S hK I (As := [.int p0]) (rest := []) (met_X5_place l Γ mo ad f a rr ph p0 h0) (cwV 1 hts (lw_V q3095 q3097 qs59 q151 q3098) rfl rfl rfl (by decide +kernel) ⟨Nat.le_of_ble_eq_true rfl, Nat.le_of_ble_eq_true rfl⟩) (g_recv hK I (g_at.of mG_obj) (ci := 4) rfl) rfl hl.1 rfl (Nat.le_of_ble_eq_true rfl) dX5_isSecure_11 ⟨Nat.le_of_ble_eq_true rfl, Nat.le_of_ble_eq_true rfl⟩) I (fun r_11 ph1 H locs hp I => ?_)
    obtain ⟨hp, rfl⟩ := hp
    have hp : r_11 = plc (a 5) p0 := hp
    subst hp
    refine lv_iconst (v := (-1)) hx hb dX5_isSecure_14 (by decide) ?_
    refine lv_icmp_eq (tgt := 30) hx hb dX5_isSecure_15 (by decide) (fun c_15 => ?_) (fun c_15 => ?_)
    · refine lv_iconst (v := 1) hx hb dX5_isSecure_30 (by decide) ?_
      refine lv_goto (tgt := 35) hx hb dX5_isSecure_31 (by decide) ?_
      exact g_zret S hr hlk I rfl dX5_isSecure_35 (Nat.le_of_ble_eq_true rfl) (Nat.le_of_ble_eq_true rfl) hQ ⟨_, rfl, (by (try simp [isSe, b2i, c_6, c_15])), rfl⟩
    · refine lv_aload_n hx hb dX5_isSecure_18 rfl (lv_at hl 0 rfl) ?_
      refine lv_aload_n hx hb dX5_isSecure_19 rfl (lv_at hl 0 rfl) ?_
      refine lv_iload_n hx hb dX5_isSecure_20 rfl (lv_at hl 1 rfl) ?_
      refine g_ci (g_runV S hK I (As := [.int p0]) (rest := [.ref mo]) (met_X5_place l Γ mo ad f a rr ph p0 h0) (cwV 1 hts (lw_V q3095 q3097 qs59 q151 q3098) rfl rfl rfl (by decide +kernel) ⟨Nat.le_of_ble_eq_true rfl, Nat.le_of_ble_eq_true rfl⟩) (g_recv hK I (g_at.of mG_obj) (ci := 4) rfl) rfl hl.1 rfl (Nat.le_of_ble_eq_true rfl) dX5_isSecure_21 ⟨Nat.le_of_ble_eq_true rfl, Nat.le_of_ble_eq_true rfl⟩) I (fun r_21 ph1 H locs hp I => ?_)
      obtain ⟨hp, rfl⟩ := hp
      have hp : r_21 = plc (a 5) p0 := hp
      subst hp
      refine g_ci (g_runV S hK I (As := [.int (plc (a 5) p0)]) (rest := []) (met_X5_hasCrumbled l Γ mo ad f a rr ph (plc (a 5) p0) (hw.h20 ((hw.pl h0).resolve_left c_15))) (cwV 1 hts (lw_V q3122 q3124 qs64 q151 q3125) rfl rfl rfl (by decide +kernel) ⟨Nat.le_of_ble_eq_true rfl, Nat.le_of_ble_eq_true rfl⟩) (g_recv hK I (g_at.of mG_obj) (ci := 4) rfl) rfl hl.1 rfl (Nat.le_of_ble_eq_true rfl) dX5_isSecure_24 ⟨Nat.le_of_ble_eq_true rfl, Nat.le_of_ble_eq_true rfl⟩) I (fun r_24 ph1 H locs hp I => ?_)
      obtain ⟨hp, rfl⟩ := hp
      have hp : r_24 = b2i (hasCr (a 5) (plc (a 5) p0)) := hp
      subst hp
      refine lv_if_ne (tgt := 34) hx hb dX5_isSecure_27 (by decide) (fun c_27 => ?_) (fun c_27 => ?_)
      · have p_27 := (b2i_ne0 _).mp c_27
        refine lv_iconst (v := 0) hx hb dX5_isSecure_34 (by decide) ?_
        exact g_zret S hr hlk I rfl dX5_isSecure_35 (Nat.le_of_ble_eq_true rfl) (Nat.le_of_ble_eq_true rfl) hQ ⟨_, rfl, (by (try simp only [p_27]); (try simp [isSe, b2i, c_6, c_15, p_27])), rfl⟩
      · have p_27 := (b2i_eq0 _).mp c_27
        refine lv_iconst (v := 1) hx hb dX5_isSecure_30 (by decide) ?_
        refine lv_goto (tgt := 35) hx hb dX5_isSecure_31 (by decide) ?_
        exact g_zret S hr hlk I rfl dX5_isSecure_35 (Nat.le_of_ble_eq_true rfl) (Nat.le_of_ble_eq_true rfl) hQ ⟨_, rfl, (by (try simp only [p_27]); (try simp [isSe, b2i, c_6, c_15, p_27])), rfl⟩

set_option maxHeartbeats 4000000 in
set_option maxRecDepth 100000 in
theorem met_X5_holdAt (l : Launch) (Γ : g_C) (mo : Nat) (ad : Nat → Nat) (f : Nat → Int32) (a : Nat → Nat → Int32) (rr : Nat → UInt32) (ph : g_H) (p0 : Int32) (p1 : Int32) (hw : WF (a 5)) : g_Met l yX5_holdAt (ws_ yX5_holdAt cX5_holdAt 4 (some .int)) (g_rm 3 0 0) Γ [.ref mo, .int p0, .int p1] (mG Γ mo ad f a rr ph) (g_oi (fun v ph' => v = (hAt (a 5) p0 p1) ∧ ph' = mG Γ mo ad f a rr ph)) g_no := by
  refine g_start (y := yX5_holdAt) (cc := cX5_holdAt) (maxL := 4) (ret := (some .int)) (rm := g_rm 3 0 0) (by decide) (Nat.le_of_ble_eq_true rfl) ?_
  intro p e s m A below meth c ls Q hQ S hr hlk hex hnm hK I hl
  have hx := S.1
  have hb := S.2.1
  have hown := S.2.2.2.1
  have hts := S.2.2.2.2
  have S : CallFix p m c cX5_holdAt 4 s A lw_all "CrumblingWallModel" := S
  have hl : lv_has ls 4 [(0, .ref mo), (1, .int p0), (2, .int p1)] := hl
  refine lv_iconst (v := 0) hx hb dX5_holdAt_0 (by decide) ?_
  refine lv_istore_n (lv' := [(3, .int 0), (0, .ref mo), (1, .int p0), (2, .int p1)]) hx hb dX5_holdAt_1 rfl hl (by decide) rfl (fun ls hl => ?_)
  have L_2 : ∀ (d : Nat) (k : Nat), (hk : k ≤ nN (a 5)) → (hkp : ∀ j, j < k → (fun k => decide (hX (a 5) (nI k) 0 = p0) && decide (hX (a 5) (nI k) 1 = p1)) j = false) → nN (a 5) - k < d → ∀ (H : Heap) (locs : List Loc) (ls : Array Slot), g_I Γ (mG Γ mo ad f a rr ph) s H locs → lv_has ls 4 [(0, .ref mo), (1, .int p0), (2, .int p1), (3, .int (nI k))] → W p l e (g_rm 3 0 0) s m A below meth c H locs 0 0 Q (F0 m 2 ls []) := by
    intro d
    induction d with
    | zero => intro k hk hkp hd; exact absurd hd (Nat.not_lt_zero _)
    | succ d ih =>
      intro k hk hkp hd H locs ls I hl
      refine lv_iload_n hx hb dX5_holdAt_2 rfl (lv_at hl 3 rfl) ?_
      refine lv_aload_n hx hb dX5_holdAt_3 rfl (lv_at hl 0 rfl) ?_
      refine g_get S hK I k_X5 (v := .ref (ad 5)) (g_at.of mG_obj) 5 (by decide) q2957 rfl rfl dX5_holdAt_4 ?_
      refine lv_iconst (v := 0) hx hb dX5_holdAt_7 (by decide) ?_
      refine m_iald S hK I (f := (a 5)) (k := 0) (g_at.of mG_5) (vp_lit (by decide)) (by decide) dX5_holdAt_8 ?_
      refine lv_icmp_ge (tgt := 40) hx hb dX5_holdAt_9 (by decide) (fun c_9 => ?_) (fun c_9 => ?_)
      · have n_9 := Int32.not_lt.mpr c_9
        obtain rfl : k = nN (a 5) := k_ge hw.1.1 (wf_le20 hw) hk c_9
        refine lv_iconst (v := (-1)) hx hb dX5_holdAt_40 (by decide) ?_
        exact g_iret S hr hlk I dX5_holdAt_41 (Nat.le_of_ble_eq_true rfl) (Nat.le_of_ble_eq_true rfl) hQ ⟨_, rfl, (fst_none hkp).symm, rfl⟩
      · have n_9 := Int32.not_le.mp c_9
        have hkl : k < nN (a 5) := k_lt hw.1.1 (wf_le20 hw) hk c_9
        have hkv : vp_in (nI k) (nN (a 5)) := vp_k hkl (Nat.le_refl _) (Nat.lt_of_le_of_lt hw.1.2 (by decide))
        refine lv_aload_n hx hb dX5_holdAt_12 rfl (lv_at hl 0 rfl) ?_
        refine lv_iload_n hx hb dX5_holdAt_13 rfl (lv_at hl 3 rfl) ?_
        refine lv_iconst (v := 0) hx hb dX5_holdAt_14 (by decide) ?_
        refine g_ci (g_runV S hK I (As := [.int (nI k), .int 0]) (rest := []) (met_X5_ofHold l Γ mo ad f a rr ph (nI k) 0 (hw.h20 hkv) (vp_lit (by decide))) (cwV 2 hts (lw_V q3064 q3066 qs53 q151 q3067) rfl rfl rfl (by decide +kernel) ⟨Nat.le_of_ble_eq_true rfl, Nat.le_of_ble_eq_true rfl⟩) (g_recv hK I (g_at.of mG_obj) (ci := 4) rfl) rfl hl.1 rfl (Nat.le_of_ble_eq_true rfl) dX5_holdAt_15 ⟨Nat.le_of_ble_eq_true rfl, Nat.le_of_ble_eq_true rfl⟩) I (fun r_15 ph1 H locs hp I => ?_)
        obtain ⟨hp, rfl⟩ := hp
        have hp : r_15 = hX (a 5) (nI k) 0 := hp
        subst hp
        refine lv_iload_n hx hb dX5_holdAt_18 rfl (lv_at hl 1 rfl) ?_
        refine lv_icmp_ne (tgt := 34) hx hb dX5_holdAt_19 (by decide) (fun c_19 => ?_) (fun c_19 => ?_)
        · refine lv_iinc (v := nI (k + 1)) (lv' := [(3, .int (nI (k + 1))), (0, .ref mo), (1, .int p0), (2, .int p1)]) hx hb dX5_holdAt_34 hl (k := 3) rfl (nI_1 k) (by decide) rfl (fun ls hl => ?_)
          refine lv_goto (tgt := 2) hx hb dX5_holdAt_37 (by decide) ?_
          exact ih (k + 1) hkl (fun j hj => (Nat.lt_succ_iff_lt_or_eq.mp hj).elim (hkp j) (fun e => by subst e; simp [c_19])) (by omega) _ _ _ I (lv_sub hl [1, 2, 3, 0] rfl)
        · refine lv_aload_n hx hb dX5_holdAt_22 rfl (lv_at hl 0 rfl) ?_
          refine lv_iload_n hx hb dX5_holdAt_23 rfl (lv_at hl 3 rfl) ?_
          refine lv_iconst (v := 1) hx hb dX5_holdAt_24 (by decide) ?_
          refine g_ci (g_runV S hK I (As := [.int (nI k), .int 1]) (rest := []) (met_X5_ofHold l Γ mo ad f a rr ph (nI k) 1 (hw.h20 hkv) (vp_lit (by decide))) (cwV 2 hts (lw_V q3064 q3066 qs53 q151 q3067) rfl rfl rfl (by decide +kernel) ⟨Nat.le_of_ble_eq_true rfl, Nat.le_of_ble_eq_true rfl⟩) (g_recv hK I (g_at.of mG_obj) (ci := 4) rfl) rfl hl.1 rfl (Nat.le_of_ble_eq_true rfl) dX5_holdAt_25 ⟨Nat.le_of_ble_eq_true rfl, Nat.le_of_ble_eq_true rfl⟩) I (fun r_25 ph1 H locs hp I => ?_)
          obtain ⟨hp, rfl⟩ := hp
          have hp : r_25 = hX (a 5) (nI k) 1 := hp
          subst hp
          refine lv_iload_n hx hb dX5_holdAt_28 rfl (lv_at hl 2 rfl) ?_
          refine lv_icmp_ne (tgt := 34) hx hb dX5_holdAt_29 (by decide) (fun c_29 => ?_) (fun c_29 => ?_)
          · refine lv_iinc (v := nI (k + 1)) (lv' := [(3, .int (nI (k + 1))), (0, .ref mo), (1, .int p0), (2, .int p1)]) hx hb dX5_holdAt_34 hl (k := 3) rfl (nI_1 k) (by decide) rfl (fun ls hl => ?_)
            refine lv_goto (tgt := 2) hx hb dX5_holdAt_37 (by decide) ?_
            exact ih (k + 1) hkl (fun j hj => (Nat.lt_succ_iff_lt_or_eq.mp hj).elim (hkp j) (fun e => by subst e; simp [c_19, c_29])) (by omega) _ _ _ I (lv_sub hl [1, 2, 3, 0] rfl)
          · refine lv_iload_n hx hb dX5_holdAt_32 rfl (lv_at hl 3 rfl) ?_
            exact g_iret S hr hlk I dX5_holdAt_33 (Nat.le_of_ble_eq_true rfl) (Nat.le_of_ble_eq_true rfl) hQ ⟨_, rfl, (fst_hit hkl hkp (by simp [c_19, c_29])).symm, rfl⟩
  exact L_2 _ 0 (Nat.zero_le _) (fun j hj => absurd hj (Nat.not_lt_zero _)) (Nat.lt_succ_self _) _ _ _ I (lv_sub hl [1, 2, 3, 0] rfl)

set_option maxHeartbeats 4000000 in
set_option maxRecDepth 100000 in
theorem met_X5_climbersAt (l : Launch) (Γ : g_C) (mo : Nat) (ad : Nat → Nat) (f : Nat → Int32) (a : Nat → Nat → Int32) (rr : Nat → UInt32) (ph : g_H) (p0 : Int32) : g_Met l yX5_climbersAt (ws_ yX5_climbersAt cX5_climbersAt 2 (some .int)) (g_rm 3 0 0) Γ [.ref mo, .int p0] (mG Γ mo ad f a rr ph) (g_oi (fun v ph' => v = (cAt (a 5) p0) ∧ ph' = mG Γ mo ad f a rr ph)) g_no := by
  refine g_start (y := yX5_climbersAt) (cc := cX5_climbersAt) (maxL := 2) (ret := (some .int)) (rm := g_rm 3 0 0) (by decide) (Nat.le_of_ble_eq_true rfl) ?_
  intro p e s m A below meth c ls Q hQ S hr hlk hex hnm hK I hl
  have hx := S.1
  have hb := S.2.1
  have hown := S.2.2.2.1
  have hts := S.2.2.2.2
  have S : CallFix p m c cX5_climbersAt 2 s A lw_all "CrumblingWallModel" := S
  have hl : lv_has ls 2 [(0, .ref mo), (1, .int p0)] := hl
  refine lv_aload_n hx hb dX5_climbersAt_0 rfl (lv_at hl 0 rfl) ?_
  refine lv_iconst (v := 0) hx hb dX5_climbersAt_1 (by decide) ?_
  refine g_ci (g_runV S hK I (As := [.int 0]) (rest := []) (met_X5_place l Γ mo ad f a rr ph 0 (vp_lit (by decide))) (cwV 1 hts (lw_V q3095 q3097 qs59 q151 q3098) rfl rfl rfl (by decide +kernel) ⟨Nat.le_of_ble_eq_true rfl, Nat.le_of_ble_eq_true rfl⟩) (g_recv hK I (g_at.of mG_obj) (ci := 4) rfl) rfl hl.1 rfl (Nat.le_of_ble_eq_true rfl) dX5_climbersAt_2 ⟨Nat.le_of_ble_eq_true rfl, Nat.le_of_ble_eq_true rfl⟩) I (fun r_2 ph1 H locs hp I => ?_)
  obtain ⟨hp, rfl⟩ := hp
  have hp : r_2 = plc (a 5) 0 := hp
  subst hp
  refine lv_iload_n hx hb dX5_climbersAt_5 rfl (lv_at hl 1 rfl) ?_
  have J_14_0 : ∀ (x1 : Int32) (H : Heap) (locs : List Loc) (ls : Array Slot), (hx1 : x1 = (if plc (a 5) 0 = p0 then 1 else 0)) → g_I Γ (mG Γ mo ad f a rr ph) s H locs → lv_has ls 2 [(0, .ref mo), (1, .int p0)] → W p l e (g_rm 3 0 0) s m A below meth c H locs 0 0 Q (F0 m 14 ls [.int x1]) := by
    intro x1 H locs ls hx1 I hl
    subst hx1
    refine lv_aload_n hx hb dX5_climbersAt_14 rfl (lv_at hl 0 rfl) ?_
    refine lv_iconst (v := 1) hx hb dX5_climbersAt_15 (by decide) ?_
    refine g_ci (g_runV S hK I (As := [.int 1]) (rest := [.int (if plc (a 5) 0 = p0 then 1 else 0)]) (met_X5_place l Γ mo ad f a rr ph 1 (vp_lit (by decide))) (cwV 1 hts (lw_V q3095 q3097 qs59 q151 q3098) rfl rfl rfl (by decide +kernel) ⟨Nat.le_of_ble_eq_true rfl, Nat.le_of_ble_eq_true rfl⟩) (g_recv hK I (g_at.of mG_obj) (ci := 4) rfl) rfl hl.1 rfl (Nat.le_of_ble_eq_true rfl) dX5_climbersAt_16 ⟨Nat.le_of_ble_eq_true rfl, Nat.le_of_ble_eq_true rfl⟩) I (fun r_16 ph1 H locs hp I => ?_)
    obtain ⟨hp, rfl⟩ := hp
    have hp : r_16 = plc (a 5) 1 := hp
    subst hp
    refine lv_iload_n hx hb dX5_climbersAt_19 rfl (lv_at hl 1 rfl) ?_
    have J_28_1 : ∀ (x2 : Int32) (H : Heap) (locs : List Loc) (ls : Array Slot), (hx2 : x2 = (if plc (a 5) 1 = p0 then 2 else 0)) → g_I Γ (mG Γ mo ad f a rr ph) s H locs → lv_has ls 2 [(0, .ref mo), (1, .int p0)] → W p l e (g_rm 3 0 0) s m A below meth c H locs 0 0 Q (F0 m 28 ls [.int x2, .int (if plc (a 5) 0 = p0 then 1 else 0)]) := by
      intro x2 H locs ls hx2 I hl
      subst hx2
      refine lv_iadd hx hb dX5_climbersAt_28 ?_
      exact g_iret S hr hlk I dX5_climbersAt_29 (Nat.le_of_ble_eq_true rfl) (Nat.le_of_ble_eq_true rfl) hQ ⟨_, rfl, rfl, rfl⟩
    refine lv_icmp_ne (tgt := 27) hx hb dX5_climbersAt_20 (by decide) (fun c_20 => ?_) (fun c_20 => ?_)
    · refine lv_iconst (v := 0) hx hb dX5_climbersAt_27 (by decide) ?_
      exact J_28_1 0 _ _ _ (by simp [c_20]) I (lv_sub hl [0, 1] rfl)
    · refine lv_iconst (v := 2) hx hb dX5_climbersAt_23 (by decide) ?_
      refine lv_goto (tgt := 28) hx hb dX5_climbersAt_24 (by decide) ?_
      exact J_28_1 2 _ _ _ (by simp [c_20]) I (lv_sub hl [0, 1] rfl)
  refine lv_icmp_ne (tgt := 13) hx hb dX5_climbersAt_6 (by decide) (fun c_6 => ?_) (fun c_6 => ?_)
  · refine lv_iconst (v := 0) hx hb dX5_climbersAt_13 (by decide) ?_
    exact J_14_0 0 _ _ _ (by simp [c_6]) I (lv_sub hl [0, 1] rfl)
  · refine lv_iconst (v := 1) hx hb dX5_climbersAt_9 (by decide) ?_
    refine lv_goto (tgt := 14) hx hb dX5_climbersAt_10 (by decide) ?_
    exact J_14_0 1 _ _ _ (by simp [c_6]) I (lv_sub hl [0, 1] rfl)

set_option maxHeartbeats 4000000 in
set_option maxRecDepth 100000 in
theorem met_X5_lampsAt (l : Launch) (Γ : g_C) (mo : Nat) (ad : Nat → Nat) (f : Nat → Int32) (a : Nat → Nat → Int32) (rr : Nat → UInt32) (ph : g_H) (p0 : Int32) (hw : WF (a 5)) : g_Met l yX5_lampsAt (ws_ yX5_lampsAt cX5_lampsAt 4 (some .int)) (g_rm 3 0 0) Γ [.ref mo, .int p0] (mG Γ mo ad f a rr ph) (g_oi (fun v ph' => v = (lAt (a 5) p0) ∧ ph' = mG Γ mo ad f a rr ph)) g_no := by
  refine g_start (y := yX5_lampsAt) (cc := cX5_lampsAt) (maxL := 4) (ret := (some .int)) (rm := g_rm 3 0 0) (by decide) (Nat.le_of_ble_eq_true rfl) ?_
  intro p e s m A below meth c ls Q hQ S hr hlk hex hnm hK I hl
  have hx := S.1
  have hb := S.2.1
  have hown := S.2.2.2.1
  have hts := S.2.2.2.2
  have S : CallFix p m c cX5_lampsAt 4 s A lw_all "CrumblingWallModel" := S
  have hl : lv_has ls 4 [(0, .ref mo), (1, .int p0)] := hl
  refine lv_iconst (v := 0) hx hb dX5_lampsAt_0 (by decide) ?_
  refine lv_istore_n (lv' := [(2, .int 0), (0, .ref mo), (1, .int p0)]) hx hb dX5_lampsAt_1 rfl hl (by decide) rfl (fun ls hl => ?_)
  refine lv_iconst (v := 0) hx hb dX5_lampsAt_2 (by decide) ?_
  refine lv_istore_n (lv' := [(3, .int 0), (2, .int 0), (0, .ref mo), (1, .int p0)]) hx hb dX5_lampsAt_3 rfl hl (by decide) rfl (fun ls hl => ?_)
  have L_4 : ∀ (d : Nat) (k : Nat), (hk : k ≤ nLa (a 5)) → nLa (a 5) - k < d → ∀ (H : Heap) (locs : List Loc) (ls : Array Slot), g_I Γ (mG Γ mo ad f a rr ph) s H locs → lv_has ls 4 [(0, .ref mo), (1, .int p0), (2, .int (orN k (fun k => if lX (a 5) (nI k) 1 < 0 ∧ lX (a 5) (nI k) 0 = p0 then bitK k else 0))), (3, .int (nI k))] → W p l e (g_rm 3 0 0) s m A below meth c H locs 0 0 Q (F0 m 4 ls []) := by
    intro d
    induction d with
    | zero => intro k hk hd; exact absurd hd (Nat.not_lt_zero _)
    | succ d ih =>
      intro k hk hd H locs ls I hl
      refine lv_iload_n hx hb dX5_lampsAt_4 rfl (lv_at hl 3 rfl) ?_
      refine lv_aload_n hx hb dX5_lampsAt_5 rfl (lv_at hl 0 rfl) ?_
      refine g_get S hK I k_X5 (v := .ref (ad 5)) (g_at.of mG_obj) 5 (by decide) q2957 rfl rfl dX5_lampsAt_6 ?_
      refine lv_bipush (v := 104) hx hb dX5_lampsAt_9 (by decide) ?_
      refine m_iald S hK I (f := (a 5)) (k := 104) (g_at.of mG_5) (vp_lit (by decide)) (by decide) dX5_lampsAt_11 ?_
      refine lv_icmp_ge (tgt := 50) hx hb dX5_lampsAt_12 (by decide) (fun c_12 => ?_) (fun c_12 => ?_)
      · have n_12 := Int32.not_lt.mpr c_12
        obtain rfl : k = nLa (a 5) := k_ge hw.2.1.1 (wf_le4 hw) hk c_12
        refine lv_iload_n hx hb dX5_lampsAt_50 rfl (lv_at hl 2 rfl) ?_
        exact g_iret S hr hlk I dX5_lampsAt_51 (Nat.le_of_ble_eq_true rfl) (Nat.le_of_ble_eq_true rfl) hQ ⟨_, rfl, rfl, rfl⟩
      · have n_12 := Int32.not_le.mp c_12
        have hkl : k < nLa (a 5) := k_lt hw.2.1.1 (wf_le4 hw) hk c_12
        have hkv : vp_in (nI k) (nLa (a 5)) := vp_k hkl (Nat.le_refl _) (Nat.lt_of_le_of_lt hw.2.1.2 (by decide))
        refine lv_iload_n hx hb dX5_lampsAt_15 rfl (lv_at hl 2 rfl) ?_
        refine lv_aload_n hx hb dX5_lampsAt_16 rfl (lv_at hl 0 rfl) ?_
        refine lv_iload_n hx hb dX5_lampsAt_17 rfl (lv_at hl 3 rfl) ?_
        refine lv_iconst (v := 1) hx hb dX5_lampsAt_18 (by decide) ?_
        refine g_ci (g_runV S hK I (As := [.int (nI k), .int 1]) (rest := [.int (orN k (fun k => if lX (a 5) (nI k) 1 < 0 ∧ lX (a 5) (nI k) 0 = p0 then bitK k else 0))]) (met_X5_ofLamp l Γ mo ad f a rr ph (nI k) 1 (hw.l4 hkv) (vp_lit (by decide))) (cwV 2 hts (lw_V q3130 q3132 qs66 q151 q3133) rfl rfl rfl (by decide +kernel) ⟨Nat.le_of_ble_eq_true rfl, Nat.le_of_ble_eq_true rfl⟩) (g_recv hK I (g_at.of mG_obj) (ci := 4) rfl) rfl hl.1 rfl (Nat.le_of_ble_eq_true rfl) dX5_lampsAt_19 ⟨Nat.le_of_ble_eq_true rfl, Nat.le_of_ble_eq_true rfl⟩) I (fun r_19 ph1 H locs hp I => ?_)
        obtain ⟨hp, rfl⟩ := hp
        have hp : r_19 = lX (a 5) (nI k) 1 := hp
        subst hp
        have J_42_0 : ∀ (x1 : Int32) (H : Heap) (locs : List Loc) (ls : Array Slot), (hx1 : x1 = (if lX (a 5) (nI k) 1 < 0 ∧ lX (a 5) (nI k) 0 = p0 then bitK k else 0)) → g_I Γ (mG Γ mo ad f a rr ph) s H locs → lv_has ls 4 [(0, .ref mo), (1, .int p0), (2, .int (orN k (fun k => if lX (a 5) (nI k) 1 < 0 ∧ lX (a 5) (nI k) 0 = p0 then bitK k else 0))), (3, .int (nI k))] → W p l e (g_rm 3 0 0) s m A below meth c H locs 0 0 Q (F0 m 42 ls [.int x1, .int (orN k (fun k => if lX (a 5) (nI k) 1 < 0 ∧ lX (a 5) (nI k) 0 = p0 then bitK k else 0))]) := by
          intro x1 H locs ls hx1 I hl
          subst hx1
          refine lv_ior hx hb dX5_lampsAt_42 ?_
          refine lv_istore_n (lv' := [(2, .int (orN (k + 1) (fun k => if lX (a 5) (nI k) 1 < 0 ∧ lX (a 5) (nI k) 0 = p0 then bitK k else 0))), (0, .ref mo), (1, .int p0), (3, .int (nI k))]) hx hb dX5_lampsAt_43 rfl hl (by decide) rfl (fun ls hl => ?_)
          refine lv_iinc (v := nI (k + 1)) (lv' := [(3, .int (nI (k + 1))), (2, .int (orN (k + 1) (fun k => if lX (a 5) (nI k) 1 < 0 ∧ lX (a 5) (nI k) 0 = p0 then bitK k else 0))), (0, .ref mo), (1, .int p0)]) hx hb dX5_lampsAt_44 hl (k := 3) rfl (nI_1 k) (by decide) rfl (fun ls hl => ?_)
          refine lv_goto (tgt := 4) hx hb dX5_lampsAt_47 (by decide) ?_
          exact ih (k + 1) hkl (by omega) _ _ _ I (lv_sub hl [2, 3, 1, 0] rfl)
        refine lv_if_ge (tgt := 41) hx hb dX5_lampsAt_22 (by decide) (fun c_22 => ?_) (fun c_22 => ?_)
        · have n_22 := Int32.not_lt.mpr c_22
          refine lv_iconst (v := 0) hx hb dX5_lampsAt_41 (by decide) ?_
          exact J_42_0 0 _ _ _ (by simp [bitK, c_22, n_22]) I (lv_sub hl [0, 1, 2, 3] rfl)
        · have n_22 := Int32.not_le.mp c_22
          refine lv_aload_n hx hb dX5_lampsAt_25 rfl (lv_at hl 0 rfl) ?_
          refine lv_iload_n hx hb dX5_lampsAt_26 rfl (lv_at hl 3 rfl) ?_
          refine lv_iconst (v := 0) hx hb dX5_lampsAt_27 (by decide) ?_
          refine g_ci (g_runV S hK I (As := [.int (nI k), .int 0]) (rest := [.int (orN k (fun k => if lX (a 5) (nI k) 1 < 0 ∧ lX (a 5) (nI k) 0 = p0 then bitK k else 0))]) (met_X5_ofLamp l Γ mo ad f a rr ph (nI k) 0 (hw.l4 hkv) (vp_lit (by decide))) (cwV 2 hts (lw_V q3130 q3132 qs66 q151 q3133) rfl rfl rfl (by decide +kernel) ⟨Nat.le_of_ble_eq_true rfl, Nat.le_of_ble_eq_true rfl⟩) (g_recv hK I (g_at.of mG_obj) (ci := 4) rfl) rfl hl.1 rfl (Nat.le_of_ble_eq_true rfl) dX5_lampsAt_28 ⟨Nat.le_of_ble_eq_true rfl, Nat.le_of_ble_eq_true rfl⟩) I (fun r_28 ph1 H locs hp I => ?_)
          obtain ⟨hp, rfl⟩ := hp
          have hp : r_28 = lX (a 5) (nI k) 0 := hp
          subst hp
          refine lv_iload_n hx hb dX5_lampsAt_31 rfl (lv_at hl 1 rfl) ?_
          refine lv_icmp_ne (tgt := 41) hx hb dX5_lampsAt_32 (by decide) (fun c_32 => ?_) (fun c_32 => ?_)
          · refine lv_iconst (v := 0) hx hb dX5_lampsAt_41 (by decide) ?_
            exact J_42_0 0 _ _ _ (by simp [bitK, c_22, n_22, c_32]) I (lv_sub hl [0, 1, 2, 3] rfl)
          · refine lv_iconst (v := 1) hx hb dX5_lampsAt_35 (by decide) ?_
            refine lv_iload_n hx hb dX5_lampsAt_36 rfl (lv_at hl 3 rfl) ?_
            refine lv_ishl hx hb dX5_lampsAt_37 ?_
            refine lv_goto (tgt := 42) hx hb dX5_lampsAt_38 (by decide) ?_
            exact J_42_0 (1 <<< ((nI k) &&& 31)) _ _ _ (by simp [bitK, c_22, n_22, c_32]) I (lv_sub hl [0, 1, 2, 3] rfl)
  exact L_4 _ 0 (Nat.zero_le _) (Nat.lt_succ_self _) _ _ _ I (lv_sub hl [2, 3, 1, 0] rfl)

set_option maxHeartbeats 4000000 in
set_option maxRecDepth 100000 in
theorem met_X5_anchorsAt (l : Launch) (Γ : g_C) (mo : Nat) (ad : Nat → Nat) (f : Nat → Int32) (a : Nat → Nat → Int32) (rr : Nat → UInt32) (ph : g_H) (p0 : Int32) (hw : WF (a 5)) : g_Met l yX5_anchorsAt (ws_ yX5_anchorsAt cX5_anchorsAt 4 (some .int)) (g_rm 1 0 0) Γ [.ref mo, .int p0] (mG Γ mo ad f a rr ph) (g_oi (fun v ph' => v = (aAt (a 5) p0) ∧ ph' = mG Γ mo ad f a rr ph)) g_no := by
  refine g_start (y := yX5_anchorsAt) (cc := cX5_anchorsAt) (maxL := 4) (ret := (some .int)) (rm := g_rm 1 0 0) (by decide) (Nat.le_of_ble_eq_true rfl) ?_
  intro p e s m A below meth c ls Q hQ S hr hlk hex hnm hK I hl
  have hx := S.1
  have hb := S.2.1
  have hown := S.2.2.2.1
  have hts := S.2.2.2.2
  have S : CallFix p m c cX5_anchorsAt 4 s A lw_all "CrumblingWallModel" := S
  have hl : lv_has ls 4 [(0, .ref mo), (1, .int p0)] := hl
  refine lv_iconst (v := 0) hx hb dX5_anchorsAt_0 (by decide) ?_
  refine lv_istore_n (lv' := [(2, .int 0), (0, .ref mo), (1, .int p0)]) hx hb dX5_anchorsAt_1 rfl hl (by decide) rfl (fun ls hl => ?_)
  refine lv_iconst (v := 0) hx hb dX5_anchorsAt_2 (by decide) ?_
  refine lv_istore_n (lv' := [(3, .int 0), (2, .int 0), (0, .ref mo), (1, .int p0)]) hx hb dX5_anchorsAt_3 rfl hl (by decide) rfl (fun ls hl => ?_)
  have L_4 : ∀ (d : Nat) (k : Nat), (hk : k ≤ nAn (a 5)) → nAn (a 5) - k < d → ∀ (H : Heap) (locs : List Loc) (ls : Array Slot), g_I Γ (mG Γ mo ad f a rr ph) s H locs → lv_has ls 4 [(0, .ref mo), (1, .int p0), (2, .int (sumN k (fun k => if (a 5) (132 + k) = p0 then 1 else 0))), (3, .int (nI k))] → W p l e (g_rm 1 0 0) s m A below meth c H locs 0 0 Q (F0 m 4 ls []) := by
    intro d
    induction d with
    | zero => intro k hk hd; exact absurd hd (Nat.not_lt_zero _)
    | succ d ih =>
      intro k hk hd H locs ls I hl
      refine lv_iload_n hx hb dX5_anchorsAt_4 rfl (lv_at hl 3 rfl) ?_
      refine lv_aload_n hx hb dX5_anchorsAt_5 rfl (lv_at hl 0 rfl) ?_
      refine g_get S hK I k_X5 (v := .ref (ad 5)) (g_at.of mG_obj) 5 (by decide) q2957 rfl rfl dX5_anchorsAt_6 ?_
      refine lv_sipush (v := 131) hx hb dX5_anchorsAt_9 (by decide) ?_
      refine m_iald S hK I (f := (a 5)) (k := 131) (g_at.of mG_5) (vp_lit (by decide)) (by decide) dX5_anchorsAt_12 ?_
      refine lv_icmp_ge (tgt := 44) hx hb dX5_anchorsAt_13 (by decide) (fun c_13 => ?_) (fun c_13 => ?_)
      · have n_13 := Int32.not_lt.mpr c_13
        obtain rfl : k = nAn (a 5) := k_ge hw.2.2.1.1 (wf_le8 hw) hk c_13
        refine lv_iload_n hx hb dX5_anchorsAt_44 rfl (lv_at hl 2 rfl) ?_
        exact g_iret S hr hlk I dX5_anchorsAt_45 (Nat.le_of_ble_eq_true rfl) (Nat.le_of_ble_eq_true rfl) hQ ⟨_, rfl, rfl, rfl⟩
      · have n_13 := Int32.not_le.mp c_13
        have hkl : k < nAn (a 5) := k_lt hw.2.2.1.1 (wf_le8 hw) hk c_13
        have hkv : vp_in (nI k) (nAn (a 5)) := vp_k hkl (Nat.le_refl _) (Nat.lt_of_le_of_lt hw.2.2.1.2 (by decide))
        refine lv_iload_n hx hb dX5_anchorsAt_16 rfl (lv_at hl 2 rfl) ?_
        refine lv_aload_n hx hb dX5_anchorsAt_17 rfl (lv_at hl 0 rfl) ?_
        refine g_get S hK I k_X5 (v := .ref (ad 5)) (g_at.of mG_obj) 5 (by decide) q2957 rfl rfl dX5_anchorsAt_18 ?_
        refine lv_sipush (v := 132) hx hb dX5_anchorsAt_21 (by decide) ?_
        refine lv_iload_n hx hb dX5_anchorsAt_24 rfl (lv_at hl 3 rfl) ?_
        refine lv_iadd hx hb dX5_anchorsAt_25 ?_
        refine m_iald S hK I (f := (a 5)) (k := (132 + k)) (g_at.of mG_5) (wA_in hw hkl).1 (wA_in hw hkl).2 dX5_anchorsAt_26 ?_
        refine lv_iload_n hx hb dX5_anchorsAt_27 rfl (lv_at hl 1 rfl) ?_
        have J_36_0 : ∀ (x1 : Int32) (H : Heap) (locs : List Loc) (ls : Array Slot), (hx1 : x1 = (if (a 5) (132 + k) = p0 then 1 else 0)) → g_I Γ (mG Γ mo ad f a rr ph) s H locs → lv_has ls 4 [(0, .ref mo), (1, .int p0), (2, .int (sumN k (fun k => if (a 5) (132 + k) = p0 then 1 else 0))), (3, .int (nI k))] → W p l e (g_rm 1 0 0) s m A below meth c H locs 0 0 Q (F0 m 36 ls [.int x1, .int (sumN k (fun k => if (a 5) (132 + k) = p0 then 1 else 0))]) := by
          intro x1 H locs ls hx1 I hl
          subst hx1
          refine lv_iadd hx hb dX5_anchorsAt_36 ?_
          refine lv_istore_n (lv' := [(2, .int (sumN (k + 1) (fun k => if (a 5) (132 + k) = p0 then 1 else 0))), (0, .ref mo), (1, .int p0), (3, .int (nI k))]) hx hb dX5_anchorsAt_37 rfl hl (by decide) rfl (fun ls hl => ?_)
          refine lv_iinc (v := nI (k + 1)) (lv' := [(3, .int (nI (k + 1))), (2, .int (sumN (k + 1) (fun k => if (a 5) (132 + k) = p0 then 1 else 0))), (0, .ref mo), (1, .int p0)]) hx hb dX5_anchorsAt_38 hl (k := 3) rfl (nI_1 k) (by decide) rfl (fun ls hl => ?_)
          refine lv_goto (tgt := 4) hx hb dX5_anchorsAt_41 (by decide) ?_
          exact ih (k + 1) hkl (by omega) _ _ _ I (lv_sub hl [2, 3, 1, 0] rfl)
        refine lv_icmp_ne (tgt := 35) hx hb dX5_anchorsAt_28 (by decide) (fun c_28 => ?_) (fun c_28 => ?_)
        · refine lv_iconst (v := 0) hx hb dX5_anchorsAt_35 (by decide) ?_
          exact J_36_0 0 _ _ _ (by simp [c_28]) I (lv_sub hl [0, 1, 2, 3] rfl)
        · refine lv_iconst (v := 1) hx hb dX5_anchorsAt_31 (by decide) ?_
          refine lv_goto (tgt := 36) hx hb dX5_anchorsAt_32 (by decide) ?_
          exact J_36_0 1 _ _ _ (by simp [c_28]) I (lv_sub hl [0, 1, 2, 3] rfl)
  exact L_4 _ 0 (Nat.zero_le _) (Nat.lt_succ_self _) _ _ _ I (lv_sub hl [2, 3, 1, 0] rfl)

set_option maxHeartbeats 4000000 in
set_option maxRecDepth 100000 in
theorem met_X5_ropeWith (l : Launch) (Γ : g_C) (mo : Nat) (ad : Nat → Nat) (f : Nat → Int32) (a : Nat → Nat → Int32) (rr : Nat → UInt32) (ph : g_H) (p0 : Int32) (p1 : Int32) (hw : WF (a 5)) (h0 : okP (a 5) p0) (h1 : okP (a 5) p1) : g_Met l yX5_ropeWith (ws_ yX5_ropeWith cX5_ropeWith 6 (some .int)) (g_rm 4 0 0) Γ [.ref mo, .int p0, .int p1] (mG Γ mo ad f a rr ph) (g_oi (fun v ph' => v = (rope (a 5) p0 p1) ∧ ph' = mG Γ mo ad f a rr ph)) g_no := by
  refine g_start (y := yX5_ropeWith) (cc := cX5_ropeWith) (maxL := 6) (ret := (some .int)) (rm := g_rm 4 0 0) (by decide) (Nat.le_of_ble_eq_true rfl) ?_
  intro p e s m A below meth c ls Q hQ S hr hlk hex hnm hK I hl
  have hx := S.1
  have hb := S.2.1
  have hown := S.2.2.2.1
  have hts := S.2.2.2.2
  have S : CallFix p m c cX5_ropeWith 6 s A lw_all "CrumblingWallModel" := S
  have hl : lv_has ls 6 [(0, .ref mo), (1, .int p0), (2, .int p1)] := hl
  refine lv_iconst (v := 0) hx hb dX5_ropeWith_0 (by decide) ?_
  refine lv_istore_n (lv' := [(3, .int 0), (0, .ref mo), (1, .int p0), (2, .int p1)]) hx hb dX5_ropeWith_1 rfl hl (by decide) rfl (fun ls hl => ?_)
  refine lv_iload_n hx hb dX5_ropeWith_2 rfl (lv_at hl 2 rfl) ?_
  refine lv_istore (lv' := [(4, .int p0), (3, .int 0), (0, .ref mo), (1, .int p0), (2, .int p1)]) hx hb dX5_ropeWith_3 hl (by decide) rfl (fun ls hl => ?_)
  refine lv_iconst (v := 0) hx hb dX5_ropeWith_5 (by decide) ?_
  refine lv_istore (lv' := [(5, .int 0), (4, .int p0), (3, .int 0), (0, .ref mo), (1, .int p0), (2, .int p1)]) hx hb dX5_ropeWith_6 hl (by decide) rfl (fun ls hl => ?_)
  have L_8 : ∀ (d : Nat) (k : Nat), (hk : k ≤ nAn (a 5)) → nAn (a 5) - k < d → ∀ (H : Heap) (locs : List Loc) (ls : Array Slot), g_I Γ (mG Γ mo ad f a rr ph) s H locs → lv_has ls 6 [(0, .ref mo), (1, .int p0), (2, .int p1), (3, .int ((ropeN (a 5) p0 k).1)), (4, .int ((ropeN (a 5) p0 k).2)), (5, .int (nI k))] → W p l e (g_rm 4 0 0) s m A below meth c H locs 0 0 Q (F0 m 8 ls []) := by
    intro d
    induction d with
    | zero => intro k hk hd; exact absurd hd (Nat.not_lt_zero _)
    | succ d ih =>
      intro k hk hd H locs ls I hl
      refine lv_iload hx hb dX5_ropeWith_8 (lv_at hl 5 rfl) ?_
      refine lv_aload_n hx hb dX5_ropeWith_10 rfl (lv_at hl 0 rfl) ?_
      refine g_get S hK I k_X5 (v := .ref (ad 5)) (g_at.of mG_obj) 5 (by decide) q2957 rfl rfl dX5_ropeWith_11 ?_
      refine lv_sipush (v := 131) hx hb dX5_ropeWith_14 (by decide) ?_
      refine m_iald S hK I (f := (a 5)) (k := 131) (g_at.of mG_5) (vp_lit (by decide)) (by decide) dX5_ropeWith_17 ?_
      refine lv_icmp_ge (tgt := 60) hx hb dX5_ropeWith_18 (by decide) (fun c_18 => ?_) (fun c_18 => ?_)
      · have n_18 := Int32.not_lt.mpr c_18
        obtain rfl : k = nAn (a 5) := k_ge hw.2.2.1.1 (wf_le8 hw) hk c_18
        refine lv_iload_n hx hb dX5_ropeWith_60 rfl (lv_at hl 3 rfl) ?_
        refine lv_aload_n hx hb dX5_ropeWith_61 rfl (lv_at hl 0 rfl) ?_
        refine lv_iload hx hb dX5_ropeWith_62 (lv_at hl 4 rfl) ?_
        refine lv_iload_n hx hb dX5_ropeWith_64 rfl (lv_at hl 2 rfl) ?_
        refine g_ci (g_runV S hK I (As := [.int ((ropeN (a 5) p0 (nAn (a 5))).2), .int p1]) (rest := [.int ((ropeN (a 5) p0 (nAn (a 5))).1)]) (met_X5_distance l Γ mo ad f a rr ph ((ropeN (a 5) p0 (nAn (a 5))).2) p1 (br_isPl hw (ropeN_ok hw h0 (Nat.le_refl _))) (br_isPl hw h1)) (cwV 2 hts (lw_V q3107 q3109 qs62 q151 q3110) rfl rfl rfl (by decide +kernel) ⟨Nat.le_of_ble_eq_true rfl, Nat.le_of_ble_eq_true rfl⟩) (g_recv hK I (g_at.of mG_obj) (ci := 4) rfl) rfl hl.1 rfl (Nat.le_of_ble_eq_true rfl) dX5_ropeWith_65 ⟨Nat.le_of_ble_eq_true rfl, Nat.le_of_ble_eq_true rfl⟩) I (fun r_65 ph1 H locs hp I => ?_)
        obtain ⟨hp, rfl⟩ := hp
        have hp : r_65 = dst (a 5) ((ropeN (a 5) p0 (nAn (a 5))).2) p1 := hp
        subst hp
        refine lv_iadd hx hb dX5_ropeWith_68 ?_
        exact g_iret S hr hlk I dX5_ropeWith_69 (Nat.le_of_ble_eq_true rfl) (Nat.le_of_ble_eq_true rfl) hQ ⟨_, rfl, rfl, rfl⟩
      · have n_18 := Int32.not_le.mp c_18
        have hkl : k < nAn (a 5) := k_lt hw.2.2.1.1 (wf_le8 hw) hk c_18
        have hkv : vp_in (nI k) (nAn (a 5)) := vp_k hkl (Nat.le_refl _) (Nat.lt_of_le_of_lt hw.2.2.1.2 (by decide))
        refine lv_iload_n hx hb dX5_ropeWith_21 rfl (lv_at hl 3 rfl) ?_
        refine lv_aload_n hx hb dX5_ropeWith_22 rfl (lv_at hl 0 rfl) ?_
        refine lv_iload hx hb dX5_ropeWith_23 (lv_at hl 4 rfl) ?_
        refine lv_aload_n hx hb dX5_ropeWith_25 rfl (lv_at hl 0 rfl) ?_
        refine g_get S hK I k_X5 (v := .ref (ad 5)) (g_at.of mG_obj) 5 (by decide) q2957 rfl rfl dX5_ropeWith_26 ?_
        refine lv_sipush (v := 132) hx hb dX5_ropeWith_29 (by decide) ?_
        refine lv_iload hx hb dX5_ropeWith_32 (lv_at hl 5 rfl) ?_
        refine lv_iadd hx hb dX5_ropeWith_34 ?_
        refine m_iald S hK I (f := (a 5)) (k := (132 + k)) (g_at.of mG_5) (wA_in hw hkl).1 (wA_in hw hkl).2 dX5_ropeWith_35 ?_
        refine g_ci (g_runV S hK I (As := [.int ((ropeN (a 5) p0 k).2), .int ((a 5) (132 + k))]) (rest := [.int ((ropeN (a 5) p0 k).1)]) (met_X5_distance l Γ mo ad f a rr ph ((ropeN (a 5) p0 k).2) ((a 5) (132 + k)) (br_isPl hw (ropeN_ok hw h0 hk)) (br_isPl hw (wA_pl hw hkl))) (cwV 2 hts (lw_V q3107 q3109 qs62 q151 q3110) rfl rfl rfl (by decide +kernel) ⟨Nat.le_of_ble_eq_true rfl, Nat.le_of_ble_eq_true rfl⟩) (g_recv hK I (g_at.of mG_obj) (ci := 4) rfl) rfl hl.1 rfl (Nat.le_of_ble_eq_true rfl) dX5_ropeWith_36 ⟨Nat.le_of_ble_eq_true rfl, Nat.le_of_ble_eq_true rfl⟩) I (fun r_36 ph1 H locs hp I => ?_)
        obtain ⟨hp, rfl⟩ := hp
        have hp : r_36 = dst (a 5) ((ropeN (a 5) p0 k).2) ((a 5) (132 + k)) := hp
        subst hp
        refine lv_iadd hx hb dX5_ropeWith_39 ?_
        refine lv_istore_n (lv' := [(3, .int (((ropeN (a 5) p0 k).1) + (dst (a 5) ((ropeN (a 5) p0 k).2) ((a 5) (132 + k))))), (0, .ref mo), (1, .int p0), (2, .int p1), (4, .int ((ropeN (a 5) p0 k).2)), (5, .int (nI k))]) hx hb dX5_ropeWith_40 rfl hl (by decide) rfl (fun ls hl => ?_)
        refine lv_aload_n hx hb dX5_ropeWith_41 rfl (lv_at hl 1 rfl) ?_
        refine g_get S hK I k_X5 (v := .ref (ad 5)) (g_at.of mG_obj) 5 (by decide) q2957 rfl rfl dX5_ropeWith_42 ?_
        refine lv_sipush (v := 132) hx hb dX5_ropeWith_45 (by decide) ?_
        refine lv_iload hx hb dX5_ropeWith_48 (lv_at hl 5 rfl) ?_
        refine lv_iadd hx hb dX5_ropeWith_50 ?_
        refine m_iald S hK I (f := (a 5)) (k := (132 + k)) (g_at.of mG_5) (wA_in hw hkl).1 (wA_in hw hkl).2 dX5_ropeWith_51 ?_
        refine lv_istore (lv' := [(4, .int ((a 5) (132 + k))), (3, .int (((ropeN (a 5) p0 k).1) + (dst (a 5) ((ropeN (a 5) p0 k).2) ((a 5) (132 + k))))), (0, .ref mo), (1, .int p0), (2, .int p1), (5, .int (nI k))]) hx hb dX5_ropeWith_52 hl (by decide) rfl (fun ls hl => ?_)
        refine lv_iinc (v := nI (k + 1)) (lv' := [(5, .int (nI (k + 1))), (4, .int ((a 5) (132 + k))), (3, .int (((ropeN (a 5) p0 k).1) + (dst (a 5) ((ropeN (a 5) p0 k).2) ((a 5) (132 + k))))), (0, .ref mo), (1, .int p0), (2, .int p1)]) hx hb dX5_ropeWith_54 hl (k := 5) rfl (nI_1 k) (by decide) rfl (fun ls hl => ?_)
        refine lv_goto (tgt := 8) hx hb dX5_ropeWith_57 (by decide) ?_
        exact ih (k + 1) hkl (by omega) _ _ _ I (lv_sub hl [3, 4, 5, 2, 1, 0] rfl)
  exact L_8 _ 0 (Nat.zero_le _) (Nat.lt_succ_self _) _ _ _ I (lv_sub hl [3, 4, 5, 2, 1, 0] rfl)

set_option maxHeartbeats 4000000 in
set_option maxRecDepth 100000 in
theorem met_X5_ropeOut (l : Launch) (Γ : g_C) (mo : Nat) (ad : Nat → Nat) (f : Nat → Int32) (a : Nat → Nat → Int32) (rr : Nat → UInt32) (ph : g_H)  (hw : WF (a 5)) : g_Met l yX5_ropeOut (ws_ yX5_ropeOut cX5_ropeOut 1 (some .int)) (g_rm 5 0 0) Γ [.ref mo] (mG Γ mo ad f a rr ph) (g_oi (fun v ph' => v = (ropeO (a 5)) ∧ ph' = mG Γ mo ad f a rr ph)) g_no := by
  refine g_start (y := yX5_ropeOut) (cc := cX5_ropeOut) (maxL := 1) (ret := (some .int)) (rm := g_rm 5 0 0) (by decide) (Nat.le_of_ble_eq_true rfl) ?_
  intro p e s m A below meth c ls Q hQ S hr hlk hex hnm hK I hl
  have hx := S.1
  have hb := S.2.1
  have hown := S.2.2.2.1
  have hts := S.2.2.2.2
  have S : CallFix p m c cX5_ropeOut 1 s A lw_all "CrumblingWallModel" := S
  have hl : lv_has ls 1 [(0, .ref mo)] := hl
  refine lv_aload_n hx hb dX5_ropeOut_0 rfl (lv_at hl 0 rfl) ?_
  refine lv_aload_n hx hb dX5_ropeOut_1 rfl (lv_at hl 0 rfl) ?_
  refine lv_iconst (v := 1) hx hb dX5_ropeOut_2 (by decide) ?_
  refine g_ci (g_runV S hK I (As := [.int 1]) (rest := [.ref mo]) (met_X5_place l Γ mo ad f a rr ph 1 (vp_lit (by decide))) (cwV 1 hts (lw_V q3095 q3097 qs59 q151 q3098) rfl rfl rfl (by decide +kernel) ⟨Nat.le_of_ble_eq_true rfl, Nat.le_of_ble_eq_true rfl⟩) (g_recv hK I (g_at.of mG_obj) (ci := 4) rfl) rfl hl.1 rfl (Nat.le_of_ble_eq_true rfl) dX5_ropeOut_3 ⟨Nat.le_of_ble_eq_true rfl, Nat.le_of_ble_eq_true rfl⟩) I (fun r_3 ph1 H locs hp I => ?_)
  obtain ⟨hp, rfl⟩ := hp
  have hp : r_3 = plc (a 5) 1 := hp
  subst hp
  refine lv_aload_n hx hb dX5_ropeOut_6 rfl (lv_at hl 0 rfl) ?_
  refine lv_iconst (v := 0) hx hb dX5_ropeOut_7 (by decide) ?_
  refine g_ci (g_runV S hK I (As := [.int 0]) (rest := [.int (plc (a 5) 1), .ref mo]) (met_X5_place l Γ mo ad f a rr ph 0 (vp_lit (by decide))) (cwV 1 hts (lw_V q3095 q3097 qs59 q151 q3098) rfl rfl rfl (by decide +kernel) ⟨Nat.le_of_ble_eq_true rfl, Nat.le_of_ble_eq_true rfl⟩) (g_recv hK I (g_at.of mG_obj) (ci := 4) rfl) rfl hl.1 rfl (Nat.le_of_ble_eq_true rfl) dX5_ropeOut_8 ⟨Nat.le_of_ble_eq_true rfl, Nat.le_of_ble_eq_true rfl⟩) I (fun r_8 ph1 H locs hp I => ?_)
  obtain ⟨hp, rfl⟩ := hp
  have hp : r_8 = plc (a 5) 0 := hp
  subst hp
  refine g_ci (g_runV S hK I (As := [.int (plc (a 5) 1), .int (plc (a 5) 0)]) (rest := []) (met_X5_ropeWith l Γ mo ad f a rr ph (plc (a 5) 1) (plc (a 5) 0) hw (hw.pl (vp_lit (by decide))) (hw.pl (vp_lit (by decide)))) (cwV 2 hts (lw_V q3103 q3105 qs61 q151 q3106) rfl rfl rfl (by decide +kernel) ⟨Nat.le_of_ble_eq_true rfl, Nat.le_of_ble_eq_true rfl⟩) (g_recv hK I (g_at.of mG_obj) (ci := 4) rfl) rfl hl.1 rfl (Nat.le_of_ble_eq_true rfl) dX5_ropeOut_11 ⟨Nat.le_of_ble_eq_true rfl, Nat.le_of_ble_eq_true rfl⟩) I (fun r_11 ph1 H locs hp I => ?_)
  obtain ⟨hp, rfl⟩ := hp
  have hp : r_11 = rope (a 5) (plc (a 5) 1) (plc (a 5) 0) := hp
  subst hp
  exact g_iret S hr hlk I dX5_ropeOut_14 (Nat.le_of_ble_eq_true rfl) (Nat.le_of_ble_eq_true rfl) hQ ⟨_, rfl, rfl, rfl⟩

set_option maxHeartbeats 4000000 in
set_option maxRecDepth 100000 in
theorem met_X5_costOf (l : Launch) (Γ : g_C) (mo : Nat) (ad : Nat → Nat) (f : Nat → Int32) (a : Nat → Nat → Int32) (rr : Nat → UInt32) (ph : g_H) (p0 : Int32) (p1 : Int32) (hw : WF (a 5)) (h0 : vp_in p0 2) (h1 : okP (a 5) p1) : g_Met l yX5_costOf (ws_ yX5_costOf cX5_costOf 3 (some .int)) (g_rm 4 0 0) Γ [.ref mo, .int p0, .int p1] (mG Γ mo ad f a rr ph) (g_oi (fun v ph' => v = (cost (a 5) p0 p1) ∧ ph' = mG Γ mo ad f a rr ph)) g_no := by
  refine g_start (y := yX5_costOf) (cc := cX5_costOf) (maxL := 3) (ret := (some .int)) (rm := g_rm 4 0 0) (by decide) (Nat.le_of_ble_eq_true rfl) ?_
  intro p e s m A below meth c ls Q hQ S hr hlk hex hnm hK I hl
  have hx := S.1
  have hb := S.2.1
  have hown := S.2.2.2.1
  have hts := S.2.2.2.2
  have S : CallFix p m c cX5_costOf 3 s A lw_all "CrumblingWallModel" := S
  have hl : lv_has ls 3 [(0, .ref mo), (1, .int p0), (2, .int p1)] := hl
  refine lv_aload_n hx hb dX5_costOf_0 rfl (lv_at hl 0 rfl) ?_
  refine lv_aload_n hx hb dX5_costOf_1 rfl (lv_at hl 0 rfl) ?_
  refine lv_iload_n hx hb dX5_costOf_2 rfl (lv_at hl 1 rfl) ?_
  refine g_ci (g_runV S hK I (As := [.int p0]) (rest := [.ref mo]) (met_X5_place l Γ mo ad f a rr ph p0 h0) (cwV 1 hts (lw_V q3095 q3097 qs59 q151 q3098) rfl rfl rfl (by decide +kernel) ⟨Nat.le_of_ble_eq_true rfl, Nat.le_of_ble_eq_true rfl⟩) (g_recv hK I (g_at.of mG_obj) (ci := 4) rfl) rfl hl.1 rfl (Nat.le_of_ble_eq_true rfl) dX5_costOf_3 ⟨Nat.le_of_ble_eq_true rfl, Nat.le_of_ble_eq_true rfl⟩) I (fun r_3 ph1 H locs hp I => ?_)
  obtain ⟨hp, rfl⟩ := hp
  have hp : r_3 = plc (a 5) p0 := hp
  subst hp
  refine lv_iload_n hx hb dX5_costOf_6 rfl (lv_at hl 2 rfl) ?_
  refine g_ci (g_runV S hK I (As := [.int (plc (a 5) p0), .int p1]) (rest := []) (met_X5_distance l Γ mo ad f a rr ph (plc (a 5) p0) p1 (br_isPl hw (hw.pl h0)) (br_isPl hw h1)) (cwV 2 hts (lw_V q3107 q3109 qs62 q151 q3110) rfl rfl rfl (by decide +kernel) ⟨Nat.le_of_ble_eq_true rfl, Nat.le_of_ble_eq_true rfl⟩) (g_recv hK I (g_at.of mG_obj) (ci := 4) rfl) rfl hl.1 rfl (Nat.le_of_ble_eq_true rfl) dX5_costOf_7 ⟨Nat.le_of_ble_eq_true rfl, Nat.le_of_ble_eq_true rfl⟩) I (fun r_7 ph1 H locs hp I => ?_)
  obtain ⟨hp, rfl⟩ := hp
  have hp : r_7 = dst (a 5) (plc (a 5) p0) p1 := hp
  subst hp
  refine lv_aload_n hx hb dX5_costOf_10 rfl (lv_at hl 0 rfl) ?_
  refine lv_iload_n hx hb dX5_costOf_11 rfl (lv_at hl 1 rfl) ?_
  refine g_ci (g_runV S hK I (As := [.int p0]) (rest := [.int (dst (a 5) (plc (a 5) p0) p1)]) (met_X5_carried l Γ mo ad f a rr ph p0 hw) (cwV 1 hts (lw_V q3220 q3222 qs78 q151 q3223) rfl rfl rfl (by decide +kernel) ⟨Nat.le_of_ble_eq_true rfl, Nat.le_of_ble_eq_true rfl⟩) (g_recv hK I (g_at.of mG_obj) (ci := 4) rfl) rfl hl.1 rfl (Nat.le_of_ble_eq_true rfl) dX5_costOf_12 ⟨Nat.le_of_ble_eq_true rfl, Nat.le_of_ble_eq_true rfl⟩) I (fun r_12 ph1 H locs hp I => ?_)
  obtain ⟨hp, rfl⟩ := hp
  have hp : r_12 = carr (a 5) p0 := hp
  subst hp
  refine g_ci (g_runS S hK I (As := [.int (carr (a 5) p0)]) (rest := [.int (dst (a 5) (plc (a 5) p0) p1)]) (met_X5_bits l Γ (mG Γ mo ad f a rr ph) (carr (a 5) p0)) (va_cwS 1 hts (lw_S q3240 q3241 q151 q3242) rfl rfl rfl (by decide +kernel) ⟨Nat.le_of_ble_eq_true rfl, Nat.le_of_ble_eq_true rfl⟩) rfl hl.1 rfl (Nat.le_of_ble_eq_true rfl) dX5_costOf_15 ⟨Nat.le_of_ble_eq_true rfl, Nat.le_of_ble_eq_true rfl⟩) I (fun r_15 ph1 H locs hp I => ?_)
  obtain ⟨hp, rfl⟩ := hp
  have hp : r_15 = bits (carr (a 5) p0) := hp
  subst hp
  refine lv_iadd hx hb dX5_costOf_18 ?_
  exact g_iret S hr hlk I dX5_costOf_19 (Nat.le_of_ble_eq_true rfl) (Nat.le_of_ble_eq_true rfl) hQ ⟨_, rfl, rfl, rfl⟩

set_option maxHeartbeats 4000000 in
set_option maxRecDepth 100000 in
theorem met_X5_holdOf (l : Launch) (Γ : g_C) (mo : Nat) (ad : Nat → Nat) (f : Nat → Int32) (a : Nat → Nat → Int32) (rr : Nat → UInt32) (ph : g_H) (p0 : Int32) (p1 : Int32) (hw : WF (a 5)) : g_Met l yX5_holdOf (ws_ yX5_holdOf cX5_holdOf 3 (some .int)) (g_rm 6 0 0) Γ [.ref mo, .int p0, .int p1] (mG Γ mo ad f a rr ph) (g_oi (fun v ph' => v = (if isHo (a 5) p0 = false then 0 else if btw p1 0 9 = false then 0 else hOf (a 5) p0 p1) ∧ ph' = mG Γ mo ad (upd f 0 (if isHo (a 5) p0 = false then 1 else if btw p1 0 9 = false then 2 else 0)) a rr ph)) g_no := by
  refine g_start (y := yX5_holdOf) (cc := cX5_holdOf) (maxL := 3) (ret := (some .int)) (rm := g_rm 6 0 0) (by decide) (Nat.le_of_ble_eq_true rfl) ?_
  intro p e s m A below meth c ls Q hQ S hr hlk hex hnm hK I hl
  have hx := S.1
  have hb := S.2.1
  have hown := S.2.2.2.1
  have hts := S.2.2.2.2
  have S : CallFix p m c cX5_holdOf 3 s A lw_all "CrumblingWallModel" := S
  have hl : lv_has ls 3 [(0, .ref mo), (1, .int p0), (2, .int p1)] := hl
  refine lv_aload_n hx hb dX5_holdOf_0 rfl (lv_at hl 0 rfl) ?_
  refine lv_iload_n hx hb dX5_holdOf_1 rfl (lv_at hl 1 rfl) ?_
  refine g_ci (g_runV S hK I (As := [.int p0]) (rest := []) (met_X5_isHold l Γ mo ad f a rr ph p0) (cwV 1 hts (lw_V q3118 q3120 qs63 q151 q3121) rfl rfl rfl (by decide +kernel) ⟨Nat.le_of_ble_eq_true rfl, Nat.le_of_ble_eq_true rfl⟩) (g_recv hK I (g_at.of mG_obj) (ci := 4) rfl) rfl hl.1 rfl (Nat.le_of_ble_eq_true rfl) dX5_holdOf_2 ⟨Nat.le_of_ble_eq_true rfl, Nat.le_of_ble_eq_true rfl⟩) I (fun r_2 ph1 H locs hp I => ?_)
  obtain ⟨hp, rfl⟩ := hp
  have hp : r_2 = b2i (isHo (a 5) p0) := hp
  subst hp
  refine lv_if_ne (tgt := 14) hx hb dX5_holdOf_5 (by decide) (fun c_5 => ?_) (fun c_5 => ?_)
  · have p_5 := (b2i_ne0 _).mp c_5
    have hv := (isHo_iff hw).mp p_5
    refine lv_iload_n hx hb dX5_holdOf_14 rfl (lv_at hl 2 rfl) ?_
    refine lv_iconst (v := 0) hx hb dX5_holdOf_15 (by decide) ?_
    refine lv_bipush (v := 9) hx hb dX5_holdOf_16 (by decide) ?_
    refine g_ci (g_runS S hK I (As := [.int p1, .int 0, .int 9]) (rest := []) (met_X5_isBetween l Γ (mG Γ mo ad f a rr ph) p1 0 9) (va_cwS 3 hts (lw_S q3053 q3054 q151 q3055) rfl rfl rfl (by decide +kernel) ⟨Nat.le_of_ble_eq_true rfl, Nat.le_of_ble_eq_true rfl⟩) rfl hl.1 rfl (Nat.le_of_ble_eq_true rfl) dX5_holdOf_18 ⟨Nat.le_of_ble_eq_true rfl, Nat.le_of_ble_eq_true rfl⟩) I (fun r_18 ph1 H locs hp I => ?_)
    obtain ⟨hp, rfl⟩ := hp
    have hp : r_18 = b2i (btw p1 0 9) := hp
    subst hp
    refine lv_if_ne (tgt := 30) hx hb dX5_holdOf_21 (by decide) (fun c_21 => ?_) (fun c_21 => ?_)
    · have p_21 := (b2i_ne0 _).mp c_21
      refine lv_aload_n hx hb dX5_holdOf_30 rfl (lv_at hl 0 rfl) ?_
      refine lv_iconst (v := 0) hx hb dX5_holdOf_31 (by decide) ?_
      refine g_put S hK I k_X5 (v := .int 0) mG_obj 0 (by decide) q2952 rfl rfl rfl rfl (Nat.le_of_ble_eq_true rfl) dX5_holdOf_32 (fun H locs I => ?_)
      have I := mI_f (f' := (upd f 0 0)) I rfl
      refine lv_iload_n hx hb dX5_holdOf_35 rfl (lv_at hl 2 rfl) ?_
      by_cases s36_5 : p1 = 5
      · refine lv_tableIn (tgt := 72) hx hb dX5_holdOf_36 (by rw [s36_5]; decide) (by rw [s36_5]; decide) (by rw [s36_5]; rfl) (by decide) ?_
        refine lv_aload_n hx hb dX5_holdOf_72 rfl (lv_at hl 0 rfl) ?_
        refine lv_iload_n hx hb dX5_holdOf_73 rfl (lv_at hl 1 rfl) ?_
        refine g_ci (g_runV S hK I (As := [.int p0]) (rest := []) (met_X5_hasCrumbled l Γ mo ad (upd f 0 0) a rr ph p0 (hw.h20 hv)) (cwV 1 hts (lw_V q3122 q3124 qs64 q151 q3125) rfl rfl rfl (by decide +kernel) ⟨Nat.le_of_ble_eq_true rfl, Nat.le_of_ble_eq_true rfl⟩) (g_recv hK I (g_at.of mG_obj) (ci := 4) rfl) rfl hl.1 rfl (Nat.le_of_ble_eq_true rfl) dX5_holdOf_74 ⟨Nat.le_of_ble_eq_true rfl, Nat.le_of_ble_eq_true rfl⟩) I (fun r_74 ph1 H locs hp I => ?_)
        obtain ⟨hp, rfl⟩ := hp
        have hp : r_74 = b2i (hasCr (a 5) p0) := hp
        subst hp
        have J_85_0 : ∀ (x1 : Int32) (H : Heap) (locs : List Loc) (ls : Array Slot), (hx1 : x1 = (b2i (hasCr (a 5) p0))) → g_I Γ (mG Γ mo ad (upd f 0 0) a rr ph) s H locs → lv_has ls 3 [(0, .ref mo), (1, .int p0), (2, .int p1)] → W p l e (g_rm 6 0 0) s m A below meth c H locs 0 0 Q (F0 m 85 ls [.int x1]) := by
          intro x1 H locs ls hx1 I hl
          subst hx1
          exact g_iret S hr hlk I dX5_holdOf_85 (Nat.le_of_ble_eq_true rfl) (Nat.le_of_ble_eq_true rfl) hQ ⟨_, rfl, (by (try simp only [p_5, p_21]); (try simp [hOf, p_5, p_21, s36_5])), (by (try simp only [p_5, p_21]); (try simp [hOf, p_5, p_21, s36_5]))⟩
        refine lv_if_eq (tgt := 84) hx hb dX5_holdOf_77 (by decide) (fun c_77 => ?_) (fun c_77 => ?_)
        · have p_77 := (b2i_eq0 _).mp c_77
          refine lv_iconst (v := 0) hx hb dX5_holdOf_84 (by decide) ?_
          exact J_85_0 0 _ _ _ (by simp [b2i, p_77]) I (lv_sub hl [0, 1, 2] rfl)
        · have p_77 := (b2i_ne0 _).mp c_77
          refine lv_iconst (v := 1) hx hb dX5_holdOf_80 (by decide) ?_
          refine lv_goto (tgt := 85) hx hb dX5_holdOf_81 (by decide) ?_
          exact J_85_0 1 _ _ _ (by simp [b2i, p_77]) I (lv_sub hl [0, 1, 2] rfl)
      by_cases s36_6 : p1 = 6
      · refine lv_tableIn (tgt := 86) hx hb dX5_holdOf_36 (by rw [s36_6]; decide) (by rw [s36_6]; decide) (by rw [s36_6]; rfl) (by decide) ?_
        refine lv_aload_n hx hb dX5_holdOf_86 rfl (lv_at hl 0 rfl) ?_
        refine lv_iload_n hx hb dX5_holdOf_87 rfl (lv_at hl 1 rfl) ?_
        refine g_ci (g_runV S hK I (As := [.int p0]) (rest := []) (met_X5_isBright l Γ mo ad (upd f 0 0) a rr ph p0 hw (hw.h20 hv)) (cwV 1 hts (lw_V q3126 q3128 qs65 q151 q3129) rfl rfl rfl (by decide +kernel) ⟨Nat.le_of_ble_eq_true rfl, Nat.le_of_ble_eq_true rfl⟩) (g_recv hK I (g_at.of mG_obj) (ci := 4) rfl) rfl hl.1 rfl (Nat.le_of_ble_eq_true rfl) dX5_holdOf_88 ⟨Nat.le_of_ble_eq_true rfl, Nat.le_of_ble_eq_true rfl⟩) I (fun r_88 ph1 H locs hp I => ?_)
        obtain ⟨hp, rfl⟩ := hp
        have hp : r_88 = b2i (isBr (a 5) p0) := hp
        subst hp
        have J_99_1 : ∀ (x2 : Int32) (H : Heap) (locs : List Loc) (ls : Array Slot), (hx2 : x2 = (b2i (isBr (a 5) p0))) → g_I Γ (mG Γ mo ad (upd f 0 0) a rr ph) s H locs → lv_has ls 3 [(0, .ref mo), (1, .int p0), (2, .int p1)] → W p l e (g_rm 6 0 0) s m A below meth c H locs 0 0 Q (F0 m 99 ls [.int x2]) := by
          intro x2 H locs ls hx2 I hl
          subst hx2
          exact g_iret S hr hlk I dX5_holdOf_99 (Nat.le_of_ble_eq_true rfl) (Nat.le_of_ble_eq_true rfl) hQ ⟨_, rfl, (by (try simp only [p_5, p_21]); (try simp [hOf, p_5, p_21, s36_6])), (by (try simp only [p_5, p_21]); (try simp [hOf, p_5, p_21, s36_6]))⟩
        refine lv_if_eq (tgt := 98) hx hb dX5_holdOf_91 (by decide) (fun c_91 => ?_) (fun c_91 => ?_)
        · have p_91 := (b2i_eq0 _).mp c_91
          refine lv_iconst (v := 0) hx hb dX5_holdOf_98 (by decide) ?_
          exact J_99_1 0 _ _ _ (by simp [b2i, p_91]) I (lv_sub hl [0, 1, 2] rfl)
        · have p_91 := (b2i_ne0 _).mp c_91
          refine lv_iconst (v := 1) hx hb dX5_holdOf_94 (by decide) ?_
          refine lv_goto (tgt := 99) hx hb dX5_holdOf_95 (by decide) ?_
          exact J_99_1 1 _ _ _ (by simp [b2i, p_91]) I (lv_sub hl [0, 1, 2] rfl)
      by_cases s36_7 : p1 = 7
      · refine lv_tableIn (tgt := 100) hx hb dX5_holdOf_36 (by rw [s36_7]; decide) (by rw [s36_7]; decide) (by rw [s36_7]; rfl) (by decide) ?_
        refine lv_aload_n hx hb dX5_holdOf_100 rfl (lv_at hl 0 rfl) ?_
        refine lv_iload_n hx hb dX5_holdOf_101 rfl (lv_at hl 1 rfl) ?_
        refine g_ci (g_runV S hK I (As := [.int p0]) (rest := []) (met_X5_climbersAt l Γ mo ad (upd f 0 0) a rr ph p0) (cwV 1 hts (lw_V q3141 q3143 qs68 q151 q3144) rfl rfl rfl (by decide +kernel) ⟨Nat.le_of_ble_eq_true rfl, Nat.le_of_ble_eq_true rfl⟩) (g_recv hK I (g_at.of mG_obj) (ci := 4) rfl) rfl hl.1 rfl (Nat.le_of_ble_eq_true rfl) dX5_holdOf_102 ⟨Nat.le_of_ble_eq_true rfl, Nat.le_of_ble_eq_true rfl⟩) I (fun r_102 ph1 H locs hp I => ?_)
        obtain ⟨hp, rfl⟩ := hp
        have hp : r_102 = cAt (a 5) p0 := hp
        subst hp
        exact g_iret S hr hlk I dX5_holdOf_105 (Nat.le_of_ble_eq_true rfl) (Nat.le_of_ble_eq_true rfl) hQ ⟨_, rfl, (by (try simp only [p_5, p_21]); (try simp [hOf, p_5, p_21, s36_7])), (by (try simp only [p_5, p_21]); (try simp [hOf, p_5, p_21, s36_7]))⟩
      by_cases s36_8 : p1 = 8
      · refine lv_tableIn (tgt := 106) hx hb dX5_holdOf_36 (by rw [s36_8]; decide) (by rw [s36_8]; decide) (by rw [s36_8]; rfl) (by decide) ?_
        refine lv_aload_n hx hb dX5_holdOf_106 rfl (lv_at hl 0 rfl) ?_
        refine lv_iload_n hx hb dX5_holdOf_107 rfl (lv_at hl 1 rfl) ?_
        refine g_ci (g_runV S hK I (As := [.int p0]) (rest := []) (met_X5_lampsAt l Γ mo ad (upd f 0 0) a rr ph p0 hw) (cwV 1 hts (lw_V q3145 q3147 qs69 q151 q3148) rfl rfl rfl (by decide +kernel) ⟨Nat.le_of_ble_eq_true rfl, Nat.le_of_ble_eq_true rfl⟩) (g_recv hK I (g_at.of mG_obj) (ci := 4) rfl) rfl hl.1 rfl (Nat.le_of_ble_eq_true rfl) dX5_holdOf_108 ⟨Nat.le_of_ble_eq_true rfl, Nat.le_of_ble_eq_true rfl⟩) I (fun r_108 ph1 H locs hp I => ?_)
        obtain ⟨hp, rfl⟩ := hp
        have hp : r_108 = lAt (a 5) p0 := hp
        subst hp
        exact g_iret S hr hlk I dX5_holdOf_111 (Nat.le_of_ble_eq_true rfl) (Nat.le_of_ble_eq_true rfl) hQ ⟨_, rfl, (by (try simp only [p_5, p_21]); (try simp [hOf, p_5, p_21, s36_8])), (by (try simp only [p_5, p_21]); (try simp [hOf, p_5, p_21, s36_8]))⟩
      by_cases s36_9 : p1 = 9
      · refine lv_tableIn (tgt := 112) hx hb dX5_holdOf_36 (by rw [s36_9]; decide) (by rw [s36_9]; decide) (by rw [s36_9]; rfl) (by decide) ?_
        refine lv_aload_n hx hb dX5_holdOf_112 rfl (lv_at hl 0 rfl) ?_
        refine lv_iload_n hx hb dX5_holdOf_113 rfl (lv_at hl 1 rfl) ?_
        refine g_ci (g_runV S hK I (As := [.int p0]) (rest := []) (met_X5_anchorsAt l Γ mo ad (upd f 0 0) a rr ph p0 hw) (cwV 1 hts (lw_V q3149 q3151 qs70 q151 q3152) rfl rfl rfl (by decide +kernel) ⟨Nat.le_of_ble_eq_true rfl, Nat.le_of_ble_eq_true rfl⟩) (g_recv hK I (g_at.of mG_obj) (ci := 4) rfl) rfl hl.1 rfl (Nat.le_of_ble_eq_true rfl) dX5_holdOf_114 ⟨Nat.le_of_ble_eq_true rfl, Nat.le_of_ble_eq_true rfl⟩) I (fun r_114 ph1 H locs hp I => ?_)
        obtain ⟨hp, rfl⟩ := hp
        have hp : r_114 = aAt (a 5) p0 := hp
        subst hp
        exact g_iret S hr hlk I dX5_holdOf_117 (Nat.le_of_ble_eq_true rfl) (Nat.le_of_ble_eq_true rfl) hQ ⟨_, rfl, (by (try simp only [p_5, p_21]); (try simp [hOf, p_5, p_21, s36_9])), (by (try simp only [p_5, p_21]); (try simp [hOf, p_5, p_21, s36_9]))⟩
      refine lv_tableOut (tgt := 118) hx hb dX5_holdOf_36 (by have q0 := lv_neT (a := 5) s36_5 rfl; have q1 := lv_neT (a := 6) s36_6 rfl; have q2 := lv_neT (a := 7) s36_7 rfl; have q3 := lv_neT (a := 8) s36_8 rfl; have q4 := lv_neT (a := 9) s36_9 rfl; omega) (by decide) ?_
      refine lv_aload_n hx hb dX5_holdOf_118 rfl (lv_at hl 0 rfl) ?_
      refine lv_iload_n hx hb dX5_holdOf_119 rfl (lv_at hl 1 rfl) ?_
      refine lv_iload_n hx hb dX5_holdOf_120 rfl (lv_at hl 2 rfl) ?_
      refine g_ci (g_runV S hK I (As := [.int p0, .int p1]) (rest := []) (met_X5_ofHold l Γ mo ad (upd f 0 0) a rr ph p0 p1 (hw.h20 hv) (h_5 p_21 s36_5 s36_6 s36_7 s36_8 s36_9)) (cwV 2 hts (lw_V q3064 q3066 qs53 q151 q3067) rfl rfl rfl (by decide +kernel) ⟨Nat.le_of_ble_eq_true rfl, Nat.le_of_ble_eq_true rfl⟩) (g_recv hK I (g_at.of mG_obj) (ci := 4) rfl) rfl hl.1 rfl (Nat.le_of_ble_eq_true rfl) dX5_holdOf_121 ⟨Nat.le_of_ble_eq_true rfl, Nat.le_of_ble_eq_true rfl⟩) I (fun r_121 ph1 H locs hp I => ?_)
      obtain ⟨hp, rfl⟩ := hp
      have hp : r_121 = hX (a 5) p0 p1.toNatClampNeg := hp
      subst hp
      exact g_iret S hr hlk I dX5_holdOf_124 (Nat.le_of_ble_eq_true rfl) (Nat.le_of_ble_eq_true rfl) hQ ⟨_, rfl, (by (try simp only [p_5, p_21]); (try simp [hOf, p_5, p_21, s36_5, s36_6, s36_7, s36_8, s36_9])), (by (try simp only [p_5, p_21]); (try simp [hOf, p_5, p_21, s36_5, s36_6, s36_7, s36_8, s36_9]))⟩
    · have p_21 := (b2i_eq0 _).mp c_21
      refine lv_aload_n hx hb dX5_holdOf_24 rfl (lv_at hl 0 rfl) ?_
      refine lv_iconst (v := 2) hx hb dX5_holdOf_25 (by decide) ?_
      refine g_ci (g_runV S hK I (As := [.int 2]) (rest := []) (met_X5_fails l Γ mo ad f a rr ph 2) (cwV 1 hts (lw_V q3056 q3058 qs51 q151 q3059) rfl rfl rfl (by decide +kernel) ⟨Nat.le_of_ble_eq_true rfl, Nat.le_of_ble_eq_true rfl⟩) (g_recv hK I (g_at.of mG_obj) (ci := 4) rfl) rfl hl.1 rfl (Nat.le_of_ble_eq_true rfl) dX5_holdOf_26 ⟨Nat.le_of_ble_eq_true rfl, Nat.le_of_ble_eq_true rfl⟩) I (fun r_26 ph1 H locs hp I => ?_)
      obtain ⟨hp, rfl⟩ := hp
      have hp : r_26 = 0 := hp
      subst hp
      have I : g_I Γ (mG Γ mo ad (upd f 0 2) a rr ph) s H locs := I
      exact g_iret S hr hlk I dX5_holdOf_29 (Nat.le_of_ble_eq_true rfl) (Nat.le_of_ble_eq_true rfl) hQ ⟨_, rfl, (by (try simp only [p_5, p_21]); (try simp [hOf, p_5, p_21])), (by (try simp only [p_5, p_21]); (try simp [hOf, p_5, p_21]))⟩
  · have p_5 := (b2i_eq0 _).mp c_5
    refine lv_aload_n hx hb dX5_holdOf_8 rfl (lv_at hl 0 rfl) ?_
    refine lv_iconst (v := 1) hx hb dX5_holdOf_9 (by decide) ?_
    refine g_ci (g_runV S hK I (As := [.int 1]) (rest := []) (met_X5_fails l Γ mo ad f a rr ph 1) (cwV 1 hts (lw_V q3056 q3058 qs51 q151 q3059) rfl rfl rfl (by decide +kernel) ⟨Nat.le_of_ble_eq_true rfl, Nat.le_of_ble_eq_true rfl⟩) (g_recv hK I (g_at.of mG_obj) (ci := 4) rfl) rfl hl.1 rfl (Nat.le_of_ble_eq_true rfl) dX5_holdOf_10 ⟨Nat.le_of_ble_eq_true rfl, Nat.le_of_ble_eq_true rfl⟩) I (fun r_10 ph1 H locs hp I => ?_)
    obtain ⟨hp, rfl⟩ := hp
    have hp : r_10 = 0 := hp
    subst hp
    have I : g_I Γ (mG Γ mo ad (upd f 0 1) a rr ph) s H locs := I
    exact g_iret S hr hlk I dX5_holdOf_13 (Nat.le_of_ble_eq_true rfl) (Nat.le_of_ble_eq_true rfl) hQ ⟨_, rfl, (by (try simp only [p_5]); (try simp [hOf, p_5])), (by (try simp only [p_5]); (try simp [hOf, p_5]))⟩

set_option maxHeartbeats 4000000 in
set_option maxRecDepth 100000 in
theorem met_X5_lampOf (l : Launch) (Γ : g_C) (mo : Nat) (ad : Nat → Nat) (f : Nat → Int32) (a : Nat → Nat → Int32) (rr : Nat → UInt32) (ph : g_H) (p0 : Int32) (p1 : Int32) (hw : WF (a 5)) : g_Met l yX5_lampOf (ws_ yX5_lampOf cX5_lampOf 3 (some .int)) (g_rm 6 0 0) Γ [.ref mo, .int p0, .int p1] (mG Γ mo ad f a rr ph) (g_oi (fun v ph' => v = (if isLa (a 5) p0 = false then 0 else if btw p1 0 4 = false then 0 else lOf (a 5) p0 p1) ∧ ph' = mG Γ mo ad (upd f 0 (if isLa (a 5) p0 = false then 1 else if btw p1 0 4 = false then 2 else 0)) a rr ph)) g_no := by
  refine g_start (y := yX5_lampOf) (cc := cX5_lampOf) (maxL := 3) (ret := (some .int)) (rm := g_rm 6 0 0) (by decide) (Nat.le_of_ble_eq_true rfl) ?_
  intro p e s m A below meth c ls Q hQ S hr hlk hex hnm hK I hl
  have hx := S.1
  have hb := S.2.1
  have hown := S.2.2.2.1
  have hts := S.2.2.2.2
  have S : CallFix p m c cX5_lampOf 3 s A lw_all "CrumblingWallModel" := S
  have hl : lv_has ls 3 [(0, .ref mo), (1, .int p0), (2, .int p1)] := hl
  refine lv_aload_n hx hb dX5_lampOf_0 rfl (lv_at hl 0 rfl) ?_
  refine lv_iload_n hx hb dX5_lampOf_1 rfl (lv_at hl 1 rfl) ?_
  refine g_ci (g_runV S hK I (As := [.int p0]) (rest := []) (met_X5_isLamp l Γ mo ad f a rr ph p0) (cwV 1 hts (lw_V q3165 q3167 qs72 q151 q3168) rfl rfl rfl (by decide +kernel) ⟨Nat.le_of_ble_eq_true rfl, Nat.le_of_ble_eq_true rfl⟩) (g_recv hK I (g_at.of mG_obj) (ci := 4) rfl) rfl hl.1 rfl (Nat.le_of_ble_eq_true rfl) dX5_lampOf_2 ⟨Nat.le_of_ble_eq_true rfl, Nat.le_of_ble_eq_true rfl⟩) I (fun r_2 ph1 H locs hp I => ?_)
  obtain ⟨hp, rfl⟩ := hp
  have hp : r_2 = b2i (isLa (a 5) p0) := hp
  subst hp
  refine lv_if_ne (tgt := 14) hx hb dX5_lampOf_5 (by decide) (fun c_5 => ?_) (fun c_5 => ?_)
  · have p_5 := (b2i_ne0 _).mp c_5
    have hv := (isLa_iff hw).mp p_5
    refine lv_iload_n hx hb dX5_lampOf_14 rfl (lv_at hl 2 rfl) ?_
    refine lv_iconst (v := 0) hx hb dX5_lampOf_15 (by decide) ?_
    refine lv_iconst (v := 4) hx hb dX5_lampOf_16 (by decide) ?_
    refine g_ci (g_runS S hK I (As := [.int p1, .int 0, .int 4]) (rest := []) (met_X5_isBetween l Γ (mG Γ mo ad f a rr ph) p1 0 4) (va_cwS 3 hts (lw_S q3053 q3054 q151 q3055) rfl rfl rfl (by decide +kernel) ⟨Nat.le_of_ble_eq_true rfl, Nat.le_of_ble_eq_true rfl⟩) rfl hl.1 rfl (Nat.le_of_ble_eq_true rfl) dX5_lampOf_17 ⟨Nat.le_of_ble_eq_true rfl, Nat.le_of_ble_eq_true rfl⟩) I (fun r_17 ph1 H locs hp I => ?_)
    obtain ⟨hp, rfl⟩ := hp
    have hp : r_17 = b2i (btw p1 0 4) := hp
    subst hp
    refine lv_if_ne (tgt := 29) hx hb dX5_lampOf_20 (by decide) (fun c_20 => ?_) (fun c_20 => ?_)
    · have p_20 := (b2i_ne0 _).mp c_20
      refine lv_aload_n hx hb dX5_lampOf_29 rfl (lv_at hl 0 rfl) ?_
      refine lv_iconst (v := 0) hx hb dX5_lampOf_30 (by decide) ?_
      refine g_put S hK I k_X5 (v := .int 0) mG_obj 0 (by decide) q2952 rfl rfl rfl rfl (Nat.le_of_ble_eq_true rfl) dX5_lampOf_31 (fun H locs I => ?_)
      have I := mI_f (f' := (upd f 0 0)) I rfl
      refine lv_iload_n hx hb dX5_lampOf_34 rfl (lv_at hl 2 rfl) ?_
      refine lv_if_ne (tgt := 46) hx hb dX5_lampOf_35 (by decide) (fun c_35 => ?_) (fun c_35 => ?_)
      · refine lv_aload_n hx hb dX5_lampOf_46 rfl (lv_at hl 0 rfl) ?_
        refine lv_iload_n hx hb dX5_lampOf_47 rfl (lv_at hl 1 rfl) ?_
        refine lv_iload_n hx hb dX5_lampOf_48 rfl (lv_at hl 2 rfl) ?_
        refine g_ci (g_runV S hK I (As := [.int p0, .int p1]) (rest := []) (met_X5_ofLamp l Γ mo ad (upd f 0 0) a rr ph p0 p1 (hw.l4 hv) (bt_4 p_20)) (cwV 2 hts (lw_V q3130 q3132 qs66 q151 q3133) rfl rfl rfl (by decide +kernel) ⟨Nat.le_of_ble_eq_true rfl, Nat.le_of_ble_eq_true rfl⟩) (g_recv hK I (g_at.of mG_obj) (ci := 4) rfl) rfl hl.1 rfl (Nat.le_of_ble_eq_true rfl) dX5_lampOf_49 ⟨Nat.le_of_ble_eq_true rfl, Nat.le_of_ble_eq_true rfl⟩) I (fun r_49 ph1 H locs hp I => ?_)
        obtain ⟨hp, rfl⟩ := hp
        have hp : r_49 = lX (a 5) p0 p1.toNatClampNeg := hp
        subst hp
        exact g_iret S hr hlk I dX5_lampOf_52 (Nat.le_of_ble_eq_true rfl) (Nat.le_of_ble_eq_true rfl) hQ ⟨_, rfl, (by (try simp only [p_5, p_20]); (try simp [lOf, p_5, p_20, c_35])), (by (try simp only [p_5, p_20]); (try simp [lOf, p_5, p_20, c_35]))⟩
      · refine lv_aload_n hx hb dX5_lampOf_38 rfl (lv_at hl 0 rfl) ?_
        refine lv_iload_n hx hb dX5_lampOf_39 rfl (lv_at hl 1 rfl) ?_
        refine g_ci (g_runV S hK I (As := [.int p0]) (rest := []) (met_X5_lampPlace l Γ mo ad (upd f 0 0) a rr ph p0 hw hv) (cwV 1 hts (lw_V q3137 q3139 qs67 q151 q3140) rfl rfl rfl (by decide +kernel) ⟨Nat.le_of_ble_eq_true rfl, Nat.le_of_ble_eq_true rfl⟩) (g_recv hK I (g_at.of mG_obj) (ci := 4) rfl) rfl hl.1 rfl (Nat.le_of_ble_eq_true rfl) dX5_lampOf_40 ⟨Nat.le_of_ble_eq_true rfl, Nat.le_of_ble_eq_true rfl⟩) I (fun r_40 ph1 H locs hp I => ?_)
        obtain ⟨hp, rfl⟩ := hp
        have hp : r_40 = lPl (a 5) p0 := hp
        subst hp
        refine lv_goto (tgt := 52) hx hb dX5_lampOf_43 (by decide) ?_
        exact g_iret S hr hlk I dX5_lampOf_52 (Nat.le_of_ble_eq_true rfl) (Nat.le_of_ble_eq_true rfl) hQ ⟨_, rfl, (by (try simp only [p_5, p_20]); (try simp [lOf, p_5, p_20, c_35])), (by (try simp only [p_5, p_20]); (try simp [lOf, p_5, p_20, c_35]))⟩
    · have p_20 := (b2i_eq0 _).mp c_20
      refine lv_aload_n hx hb dX5_lampOf_23 rfl (lv_at hl 0 rfl) ?_
      refine lv_iconst (v := 2) hx hb dX5_lampOf_24 (by decide) ?_
      refine g_ci (g_runV S hK I (As := [.int 2]) (rest := []) (met_X5_fails l Γ mo ad f a rr ph 2) (cwV 1 hts (lw_V q3056 q3058 qs51 q151 q3059) rfl rfl rfl (by decide +kernel) ⟨Nat.le_of_ble_eq_true rfl, Nat.le_of_ble_eq_true rfl⟩) (g_recv hK I (g_at.of mG_obj) (ci := 4) rfl) rfl hl.1 rfl (Nat.le_of_ble_eq_true rfl) dX5_lampOf_25 ⟨Nat.le_of_ble_eq_true rfl, Nat.le_of_ble_eq_true rfl⟩) I (fun r_25 ph1 H locs hp I => ?_)
      obtain ⟨hp, rfl⟩ := hp
      have hp : r_25 = 0 := hp
      subst hp
      have I : g_I Γ (mG Γ mo ad (upd f 0 2) a rr ph) s H locs := I
      exact g_iret S hr hlk I dX5_lampOf_28 (Nat.le_of_ble_eq_true rfl) (Nat.le_of_ble_eq_true rfl) hQ ⟨_, rfl, (by (try simp only [p_5, p_20]); (try simp [lOf, p_5, p_20])), (by (try simp only [p_5, p_20]); (try simp [lOf, p_5, p_20]))⟩
  · have p_5 := (b2i_eq0 _).mp c_5
    refine lv_aload_n hx hb dX5_lampOf_8 rfl (lv_at hl 0 rfl) ?_
    refine lv_iconst (v := 1) hx hb dX5_lampOf_9 (by decide) ?_
    refine g_ci (g_runV S hK I (As := [.int 1]) (rest := []) (met_X5_fails l Γ mo ad f a rr ph 1) (cwV 1 hts (lw_V q3056 q3058 qs51 q151 q3059) rfl rfl rfl (by decide +kernel) ⟨Nat.le_of_ble_eq_true rfl, Nat.le_of_ble_eq_true rfl⟩) (g_recv hK I (g_at.of mG_obj) (ci := 4) rfl) rfl hl.1 rfl (Nat.le_of_ble_eq_true rfl) dX5_lampOf_10 ⟨Nat.le_of_ble_eq_true rfl, Nat.le_of_ble_eq_true rfl⟩) I (fun r_10 ph1 H locs hp I => ?_)
    obtain ⟨hp, rfl⟩ := hp
    have hp : r_10 = 0 := hp
    subst hp
    have I : g_I Γ (mG Γ mo ad (upd f 0 1) a rr ph) s H locs := I
    exact g_iret S hr hlk I dX5_lampOf_13 (Nat.le_of_ble_eq_true rfl) (Nat.le_of_ble_eq_true rfl) hQ ⟨_, rfl, (by (try simp only [p_5]); (try simp [lOf, p_5])), (by (try simp only [p_5]); (try simp [lOf, p_5]))⟩

set_option maxHeartbeats 4000000 in
set_option maxRecDepth 100000 in
theorem met_X5_climberOf (l : Launch) (Γ : g_C) (mo : Nat) (ad : Nat → Nat) (f : Nat → Int32) (a : Nat → Nat → Int32) (rr : Nat → UInt32) (ph : g_H) (p0 : Int32) (p1 : Int32) (hw : WF (a 5)) : g_Met l yX5_climberOf (ws_ yX5_climberOf cX5_climberOf 3 (some .int)) (g_rm 6 0 0) Γ [.ref mo, .int p0, .int p1] (mG Γ mo ad f a rr ph) (g_oi (fun v ph' => v = (if isCl p0 = false then 0 else if btw p1 0 4 = false then 0 else cOf (a 5) p0 p1) ∧ ph' = mG Γ mo ad (upd f 0 (if isCl p0 = false then 1 else if btw p1 0 4 = false then 2 else 0)) a rr ph)) g_no := by
  refine g_start (y := yX5_climberOf) (cc := cX5_climberOf) (maxL := 3) (ret := (some .int)) (rm := g_rm 6 0 0) (by decide) (Nat.le_of_ble_eq_true rfl) ?_
  intro p e s m A below meth c ls Q hQ S hr hlk hex hnm hK I hl
  have hx := S.1
  have hb := S.2.1
  have hown := S.2.2.2.1
  have hts := S.2.2.2.2
  have S : CallFix p m c cX5_climberOf 3 s A lw_all "CrumblingWallModel" := S
  have hl : lv_has ls 3 [(0, .ref mo), (1, .int p0), (2, .int p1)] := hl
  refine lv_iload_n hx hb dX5_climberOf_0 rfl (lv_at hl 1 rfl) ?_
  refine g_ci (g_runS S hK I (As := [.int p0]) (rest := []) (met_X5_isClimber l Γ (mG Γ mo ad f a rr ph) p0) (va_cwS 1 hts (lw_S q3217 q3218 q151 q3219) rfl rfl rfl (by decide +kernel) ⟨Nat.le_of_ble_eq_true rfl, Nat.le_of_ble_eq_true rfl⟩) rfl hl.1 rfl (Nat.le_of_ble_eq_true rfl) dX5_climberOf_1 ⟨Nat.le_of_ble_eq_true rfl, Nat.le_of_ble_eq_true rfl⟩) I (fun r_1 ph1 H locs hp I => ?_)
  obtain ⟨hp, rfl⟩ := hp
  have hp : r_1 = b2i (isCl p0) := hp
  subst hp
  refine lv_if_ne (tgt := 13) hx hb dX5_climberOf_4 (by decide) (fun c_4 => ?_) (fun c_4 => ?_)
  · have p_4 := (b2i_ne0 _).mp c_4
    have hv := isCl_iff.mp p_4
    refine lv_iload_n hx hb dX5_climberOf_13 rfl (lv_at hl 2 rfl) ?_
    refine lv_iconst (v := 0) hx hb dX5_climberOf_14 (by decide) ?_
    refine lv_iconst (v := 4) hx hb dX5_climberOf_15 (by decide) ?_
    refine g_ci (g_runS S hK I (As := [.int p1, .int 0, .int 4]) (rest := []) (met_X5_isBetween l Γ (mG Γ mo ad f a rr ph) p1 0 4) (va_cwS 3 hts (lw_S q3053 q3054 q151 q3055) rfl rfl rfl (by decide +kernel) ⟨Nat.le_of_ble_eq_true rfl, Nat.le_of_ble_eq_true rfl⟩) rfl hl.1 rfl (Nat.le_of_ble_eq_true rfl) dX5_climberOf_16 ⟨Nat.le_of_ble_eq_true rfl, Nat.le_of_ble_eq_true rfl⟩) I (fun r_16 ph1 H locs hp I => ?_)
    obtain ⟨hp, rfl⟩ := hp
    have hp : r_16 = b2i (btw p1 0 4) := hp
    subst hp
    refine lv_if_ne (tgt := 28) hx hb dX5_climberOf_19 (by decide) (fun c_19 => ?_) (fun c_19 => ?_)
    · have p_19 := (b2i_ne0 _).mp c_19
      refine lv_aload_n hx hb dX5_climberOf_28 rfl (lv_at hl 0 rfl) ?_
      refine lv_iconst (v := 0) hx hb dX5_climberOf_29 (by decide) ?_
      refine g_put S hK I k_X5 (v := .int 0) mG_obj 0 (by decide) q2952 rfl rfl rfl rfl (Nat.le_of_ble_eq_true rfl) dX5_climberOf_30 (fun H locs I => ?_)
      have I := mI_f (f' := (upd f 0 0)) I rfl
      refine lv_iload_n hx hb dX5_climberOf_33 rfl (lv_at hl 2 rfl) ?_
      refine lv_iconst (v := 3) hx hb dX5_climberOf_34 (by decide) ?_
      refine lv_icmp_ge (tgt := 47) hx hb dX5_climberOf_35 (by decide) (fun c_35 => ?_) (fun c_35 => ?_)
      · have n_35 := Int32.not_lt.mpr c_35
        refine lv_iload_n hx hb dX5_climberOf_47 rfl (lv_at hl 2 rfl) ?_
        refine lv_iconst (v := 3) hx hb dX5_climberOf_48 (by decide) ?_
        refine lv_icmp_ne (tgt := 60) hx hb dX5_climberOf_49 (by decide) (fun c_49 => ?_) (fun c_49 => ?_)
        · refine lv_aload_n hx hb dX5_climberOf_60 rfl (lv_at hl 0 rfl) ?_
          refine lv_iload_n hx hb dX5_climberOf_61 rfl (lv_at hl 1 rfl) ?_
          refine g_ci (g_runV S hK I (As := [.int p0]) (rest := []) (met_X5_isSecure l Γ mo ad (upd f 0 0) a rr ph p0 hw hv) (cwV 1 hts (lw_V q3224 q3226 qs79 q151 q3227) rfl rfl rfl (by decide +kernel) ⟨Nat.le_of_ble_eq_true rfl, Nat.le_of_ble_eq_true rfl⟩) (g_recv hK I (g_at.of mG_obj) (ci := 4) rfl) rfl hl.1 rfl (Nat.le_of_ble_eq_true rfl) dX5_climberOf_62 ⟨Nat.le_of_ble_eq_true rfl, Nat.le_of_ble_eq_true rfl⟩) I (fun r_62 ph1 H locs hp I => ?_)
          obtain ⟨hp, rfl⟩ := hp
          have hp : r_62 = b2i (isSe (a 5) p0) := hp
          subst hp
          refine lv_if_eq (tgt := 72) hx hb dX5_climberOf_65 (by decide) (fun c_65 => ?_) (fun c_65 => ?_)
          · have p_65 := (b2i_eq0 _).mp c_65
            refine lv_iconst (v := 0) hx hb dX5_climberOf_72 (by decide) ?_
            exact g_iret S hr hlk I dX5_climberOf_73 (Nat.le_of_ble_eq_true rfl) (Nat.le_of_ble_eq_true rfl) hQ ⟨_, rfl, (by (try simp only [p_4, p_19, p_65]); (try simp [cOf, b2i, p_4, p_19, c_35, n_35, c_49, p_65])), (by (try simp only [p_4, p_19, p_65]); (try simp [cOf, b2i, p_4, p_19, c_35, n_35, c_49, p_65]))⟩
          · have p_65 := (b2i_ne0 _).mp c_65
            refine lv_iconst (v := 1) hx hb dX5_climberOf_68 (by decide) ?_
            refine lv_goto (tgt := 73) hx hb dX5_climberOf_69 (by decide) ?_
            exact g_iret S hr hlk I dX5_climberOf_73 (Nat.le_of_ble_eq_true rfl) (Nat.le_of_ble_eq_true rfl) hQ ⟨_, rfl, (by (try simp only [p_4, p_19, p_65]); (try simp [cOf, b2i, p_4, p_19, c_35, n_35, c_49, p_65])), (by (try simp only [p_4, p_19, p_65]); (try simp [cOf, b2i, p_4, p_19, c_35, n_35, c_49, p_65]))⟩
        · refine lv_aload_n hx hb dX5_climberOf_52 rfl (lv_at hl 0 rfl) ?_
          refine lv_iload_n hx hb dX5_climberOf_53 rfl (lv_at hl 1 rfl) ?_
          refine g_ci (g_runV S hK I (As := [.int p0]) (rest := []) (met_X5_carried l Γ mo ad (upd f 0 0) a rr ph p0 hw) (cwV 1 hts (lw_V q3220 q3222 qs78 q151 q3223) rfl rfl rfl (by decide +kernel) ⟨Nat.le_of_ble_eq_true rfl, Nat.le_of_ble_eq_true rfl⟩) (g_recv hK I (g_at.of mG_obj) (ci := 4) rfl) rfl hl.1 rfl (Nat.le_of_ble_eq_true rfl) dX5_climberOf_54 ⟨Nat.le_of_ble_eq_true rfl, Nat.le_of_ble_eq_true rfl⟩) I (fun r_54 ph1 H locs hp I => ?_)
          obtain ⟨hp, rfl⟩ := hp
          have hp : r_54 = carr (a 5) p0 := hp
          subst hp
          refine lv_goto (tgt := 73) hx hb dX5_climberOf_57 (by decide) ?_
          exact g_iret S hr hlk I dX5_climberOf_73 (Nat.le_of_ble_eq_true rfl) (Nat.le_of_ble_eq_true rfl) hQ ⟨_, rfl, (by (try simp only [p_4, p_19]); (try simp [cOf, b2i, p_4, p_19, c_35, n_35, c_49])), (by (try simp only [p_4, p_19]); (try simp [cOf, b2i, p_4, p_19, c_35, n_35, c_49]))⟩
      · have n_35 := Int32.not_le.mp c_35
        refine lv_aload_n hx hb dX5_climberOf_38 rfl (lv_at hl 0 rfl) ?_
        refine lv_iload_n hx hb dX5_climberOf_39 rfl (lv_at hl 1 rfl) ?_
        refine lv_iload_n hx hb dX5_climberOf_40 rfl (lv_at hl 2 rfl) ?_
        refine g_ci (g_runV S hK I (As := [.int p0, .int p1]) (rest := []) (met_X5_ofClimber l Γ mo ad (upd f 0 0) a rr ph p0 p1 hv (bt_3 (bt_4 p_19) c_35)) (cwV 2 hts (lw_V q3099 q3101 qs60 q151 q3102) rfl rfl rfl (by decide +kernel) ⟨Nat.le_of_ble_eq_true rfl, Nat.le_of_ble_eq_true rfl⟩) (g_recv hK I (g_at.of mG_obj) (ci := 4) rfl) rfl hl.1 rfl (Nat.le_of_ble_eq_true rfl) dX5_climberOf_41 ⟨Nat.le_of_ble_eq_true rfl, Nat.le_of_ble_eq_true rfl⟩) I (fun r_41 ph1 H locs hp I => ?_)
        obtain ⟨hp, rfl⟩ := hp
        have hp : r_41 = cX (a 5) p0 p1.toNatClampNeg := hp
        subst hp
        refine lv_goto (tgt := 73) hx hb dX5_climberOf_44 (by decide) ?_
        exact g_iret S hr hlk I dX5_climberOf_73 (Nat.le_of_ble_eq_true rfl) (Nat.le_of_ble_eq_true rfl) hQ ⟨_, rfl, (by (try simp only [p_4, p_19]); (try simp [cOf, b2i, p_4, p_19, c_35, n_35])), (by (try simp only [p_4, p_19]); (try simp [cOf, b2i, p_4, p_19, c_35, n_35]))⟩
    · have p_19 := (b2i_eq0 _).mp c_19
      refine lv_aload_n hx hb dX5_climberOf_22 rfl (lv_at hl 0 rfl) ?_
      refine lv_iconst (v := 2) hx hb dX5_climberOf_23 (by decide) ?_
      refine g_ci (g_runV S hK I (As := [.int 2]) (rest := []) (met_X5_fails l Γ mo ad f a rr ph 2) (cwV 1 hts (lw_V q3056 q3058 qs51 q151 q3059) rfl rfl rfl (by decide +kernel) ⟨Nat.le_of_ble_eq_true rfl, Nat.le_of_ble_eq_true rfl⟩) (g_recv hK I (g_at.of mG_obj) (ci := 4) rfl) rfl hl.1 rfl (Nat.le_of_ble_eq_true rfl) dX5_climberOf_24 ⟨Nat.le_of_ble_eq_true rfl, Nat.le_of_ble_eq_true rfl⟩) I (fun r_24 ph1 H locs hp I => ?_)
      obtain ⟨hp, rfl⟩ := hp
      have hp : r_24 = 0 := hp
      subst hp
      have I : g_I Γ (mG Γ mo ad (upd f 0 2) a rr ph) s H locs := I
      exact g_iret S hr hlk I dX5_climberOf_27 (Nat.le_of_ble_eq_true rfl) (Nat.le_of_ble_eq_true rfl) hQ ⟨_, rfl, (by (try simp only [p_4, p_19]); (try simp [cOf, b2i, p_4, p_19])), (by (try simp only [p_4, p_19]); (try simp [cOf, b2i, p_4, p_19]))⟩
  · have p_4 := (b2i_eq0 _).mp c_4
    refine lv_aload_n hx hb dX5_climberOf_7 rfl (lv_at hl 0 rfl) ?_
    refine lv_iconst (v := 1) hx hb dX5_climberOf_8 (by decide) ?_
    refine g_ci (g_runV S hK I (As := [.int 1]) (rest := []) (met_X5_fails l Γ mo ad f a rr ph 1) (cwV 1 hts (lw_V q3056 q3058 qs51 q151 q3059) rfl rfl rfl (by decide +kernel) ⟨Nat.le_of_ble_eq_true rfl, Nat.le_of_ble_eq_true rfl⟩) (g_recv hK I (g_at.of mG_obj) (ci := 4) rfl) rfl hl.1 rfl (Nat.le_of_ble_eq_true rfl) dX5_climberOf_9 ⟨Nat.le_of_ble_eq_true rfl, Nat.le_of_ble_eq_true rfl⟩) I (fun r_9 ph1 H locs hp I => ?_)
    obtain ⟨hp, rfl⟩ := hp
    have hp : r_9 = 0 := hp
    subst hp
    have I : g_I Γ (mG Γ mo ad (upd f 0 1) a rr ph) s H locs := I
    exact g_iret S hr hlk I dX5_climberOf_12 (Nat.le_of_ble_eq_true rfl) (Nat.le_of_ble_eq_true rfl) hQ ⟨_, rfl, (by (try simp only [p_4]); (try simp [cOf, b2i, p_4])), (by (try simp only [p_4]); (try simp [cOf, b2i, p_4]))⟩

set_option maxHeartbeats 4000000 in
set_option maxRecDepth 100000 in
theorem met_X5_mayNotAct (l : Launch) (Γ : g_C) (mo : Nat) (ad : Nat → Nat) (f : Nat → Int32) (a : Nat → Nat → Int32) (rr : Nat → UInt32) (ph : g_H) (p0 : Int32) (p1 : Int32) (h0 : vp_in p0 2) : g_Met l yX5_mayNotAct (ws_ yX5_mayNotAct cX5_mayNotAct 3 (some .boolean)) (g_rm 3 0 0) Γ [.ref mo, .int p0, .int p1] (mG Γ mo ad f a rr ph) (g_oi (fun v ph' => v = (b2i ((nAct (a 5) p0 (decide (¬ p1 = 0))).isSome)) ∧ ph' = mG Γ mo ad (m_hin f (nAct (a 5) p0 (decide (¬ p1 = 0)))) a rr ph)) g_no := by
  refine g_start (y := yX5_mayNotAct) (cc := cX5_mayNotAct) (maxL := 3) (ret := (some .boolean)) (rm := g_rm 3 0 0) (by decide) (Nat.le_of_ble_eq_true rfl) ?_
  intro p e s m A below meth c ls Q hQ S hr hlk hex hnm hK I hl
  have hx := S.1
  have hb := S.2.1
  have hown := S.2.2.2.1
  have hts := S.2.2.2.2
  have S : CallFix p m c cX5_mayNotAct 3 s A lw_all "CrumblingWallModel" := S
  have hl : lv_has ls 3 [(0, .ref mo), (1, .int p0), (2, .int p1)] := hl
  refine lv_aload_n hx hb dX5_mayNotAct_0 rfl (lv_at hl 0 rfl) ?_
  refine lv_iload_n hx hb dX5_mayNotAct_1 rfl (lv_at hl 1 rfl) ?_
  refine lv_iconst (v := 1) hx hb dX5_mayNotAct_2 (by decide) ?_
  refine g_ci (g_runV S hK I (As := [.int p0, .int 1]) (rest := []) (met_X5_ofClimber l Γ mo ad f a rr ph p0 1 h0 (vp_lit (by decide))) (cwV 2 hts (lw_V q3099 q3101 qs60 q151 q3102) rfl rfl rfl (by decide +kernel) ⟨Nat.le_of_ble_eq_true rfl, Nat.le_of_ble_eq_true rfl⟩) (g_recv hK I (g_at.of mG_obj) (ci := 4) rfl) rfl hl.1 rfl (Nat.le_of_ble_eq_true rfl) dX5_mayNotAct_3 ⟨Nat.le_of_ble_eq_true rfl, Nat.le_of_ble_eq_true rfl⟩) I (fun r_3 ph1 H locs hp I => ?_)
  obtain ⟨hp, rfl⟩ := hp
  have hp : r_3 = cX (a 5) p0 1 := hp
  subst hp
  refine lv_iconst (v := 2) hx hb dX5_mayNotAct_6 (by decide) ?_
  refine lv_icmp_ne (tgt := 19) hx hb dX5_mayNotAct_7 (by decide) (fun c_7 => ?_) (fun c_7 => ?_)
  · refine lv_iload_n hx hb dX5_mayNotAct_19 rfl (lv_at hl 2 rfl) ?_
    refine lv_if_eq (tgt := 47) hx hb dX5_mayNotAct_20 (by decide) (fun c_20 => ?_) (fun c_20 => ?_)
    · refine lv_iconst (v := 0) hx hb dX5_mayNotAct_47 (by decide) ?_
      exact g_zret S hr hlk I rfl dX5_mayNotAct_48 (Nat.le_of_ble_eq_true rfl) (Nat.le_of_ble_eq_true rfl) hQ ⟨_, rfl, (by (try simp [nAct, m_hin, b2i, c_7, c_20])), (by (try simp [nAct, m_hin, b2i, c_7, c_20]))⟩
    · refine lv_aload_n hx hb dX5_mayNotAct_23 rfl (lv_at hl 0 rfl) ?_
      refine lv_iload_n hx hb dX5_mayNotAct_24 rfl (lv_at hl 1 rfl) ?_
      refine lv_iconst (v := 1) hx hb dX5_mayNotAct_25 (by decide) ?_
      refine g_ci (g_runV S hK I (As := [.int p0, .int 1]) (rest := []) (met_X5_ofClimber l Γ mo ad f a rr ph p0 1 h0 (vp_lit (by decide))) (cwV 2 hts (lw_V q3099 q3101 qs60 q151 q3102) rfl rfl rfl (by decide +kernel) ⟨Nat.le_of_ble_eq_true rfl, Nat.le_of_ble_eq_true rfl⟩) (g_recv hK I (g_at.of mG_obj) (ci := 4) rfl) rfl hl.1 rfl (Nat.le_of_ble_eq_true rfl) dX5_mayNotAct_26 ⟨Nat.le_of_ble_eq_true rfl, Nat.le_of_ble_eq_true rfl⟩) I (fun r_26 ph1 H locs hp I => ?_)
      obtain ⟨hp, rfl⟩ := hp
      have hp : r_26 = cX (a 5) p0 1 := hp
      subst hp
      refine lv_iconst (v := 1) hx hb dX5_mayNotAct_29 (by decide) ?_
      refine lv_icmp_ne (tgt := 47) hx hb dX5_mayNotAct_30 (by decide) (fun c_30 => ?_) (fun c_30 => ?_)
      · refine lv_iconst (v := 0) hx hb dX5_mayNotAct_47 (by decide) ?_
        exact g_zret S hr hlk I rfl dX5_mayNotAct_48 (Nat.le_of_ble_eq_true rfl) (Nat.le_of_ble_eq_true rfl) hQ ⟨_, rfl, (by (try simp [nAct, m_hin, b2i, c_7, c_20, c_30])), (by (try simp [nAct, m_hin, b2i, c_7, c_20, c_30]))⟩
      · refine lv_aload_n hx hb dX5_mayNotAct_33 rfl (lv_at hl 0 rfl) ?_
        refine lv_bipush (v := 9) hx hb dX5_mayNotAct_34 (by decide) ?_
        refine lv_iconst (v := 0) hx hb dX5_mayNotAct_36 (by decide) ?_
        refine g_ci (g_runV S hK I (As := [.int 9, .int 0]) (rest := []) (met_X5_hinders l Γ mo ad f a rr ph 9 0) (cwV 2 hts (lw_V q3071 q3073 qs54 q151 q3074) rfl rfl rfl (by decide +kernel) ⟨Nat.le_of_ble_eq_true rfl, Nat.le_of_ble_eq_true rfl⟩) (g_recv hK I (g_at.of mG_obj) (ci := 4) rfl) rfl hl.1 rfl (Nat.le_of_ble_eq_true rfl) dX5_mayNotAct_37 ⟨Nat.le_of_ble_eq_true rfl, Nat.le_of_ble_eq_true rfl⟩) I (fun r_37 ph1 H locs hp I => ?_)
        obtain ⟨hp, rfl⟩ := hp
        have hp : r_37 = b2i true := hp
        subst hp
        have I : g_I Γ (mG Γ mo ad (upd (upd f 3 9) 4 0) a rr ph) s H locs := I
        refine lv_if_eq (tgt := 47) hx hb dX5_mayNotAct_40 (by decide) (fun q => absurd q (by decide)) (fun _ => ?_)
        refine lv_iconst (v := 1) hx hb dX5_mayNotAct_43 (by decide) ?_
        refine lv_goto (tgt := 48) hx hb dX5_mayNotAct_44 (by decide) ?_
        exact g_zret S hr hlk I rfl dX5_mayNotAct_48 (Nat.le_of_ble_eq_true rfl) (Nat.le_of_ble_eq_true rfl) hQ ⟨_, rfl, (by (try simp [nAct, m_hin, b2i, c_7, c_20, c_30])), (by (try simp [nAct, m_hin, b2i, c_7, c_20, c_30]))⟩
  · refine lv_aload_n hx hb dX5_mayNotAct_10 rfl (lv_at hl 0 rfl) ?_
    refine lv_iconst (v := 1) hx hb dX5_mayNotAct_11 (by decide) ?_
    refine lv_iconst (v := 0) hx hb dX5_mayNotAct_12 (by decide) ?_
    refine g_ci (g_runV S hK I (As := [.int 1, .int 0]) (rest := []) (met_X5_hinders l Γ mo ad f a rr ph 1 0) (cwV 2 hts (lw_V q3071 q3073 qs54 q151 q3074) rfl rfl rfl (by decide +kernel) ⟨Nat.le_of_ble_eq_true rfl, Nat.le_of_ble_eq_true rfl⟩) (g_recv hK I (g_at.of mG_obj) (ci := 4) rfl) rfl hl.1 rfl (Nat.le_of_ble_eq_true rfl) dX5_mayNotAct_13 ⟨Nat.le_of_ble_eq_true rfl, Nat.le_of_ble_eq_true rfl⟩) I (fun r_13 ph1 H locs hp I => ?_)
    obtain ⟨hp, rfl⟩ := hp
    have hp : r_13 = b2i true := hp
    subst hp
    have I : g_I Γ (mG Γ mo ad (upd (upd f 3 1) 4 0) a rr ph) s H locs := I
    refine lv_if_ne (tgt := 43) hx hb dX5_mayNotAct_16 (by decide) (fun _ => ?_) (fun q => absurd q (by decide))
    refine lv_iconst (v := 1) hx hb dX5_mayNotAct_43 (by decide) ?_
    refine lv_goto (tgt := 48) hx hb dX5_mayNotAct_44 (by decide) ?_
    exact g_zret S hr hlk I rfl dX5_mayNotAct_48 (Nat.le_of_ble_eq_true rfl) (Nat.le_of_ble_eq_true rfl) hQ ⟨_, rfl, (by (try simp [nAct, m_hin, b2i, c_7])), (by (try simp [nAct, m_hin, b2i, c_7]))⟩

set_option maxHeartbeats 4000000 in
set_option maxRecDepth 100000 in
theorem met_X5_mayNotClip (l : Launch) (Γ : g_C) (mo : Nat) (ad : Nat → Nat) (f : Nat → Int32) (a : Nat → Nat → Int32) (rr : Nat → UInt32) (ph : g_H)  (hw : WF (a 5)) : g_Met l yX5_mayNotClip (ws_ yX5_mayNotClip cX5_mayNotClip 3 (some .boolean)) (g_rm 4 0 0) Γ [.ref mo] (mG Γ mo ad f a rr ph) (g_oi (fun v ph' => v = (b2i ((nClip (a 5)).isSome)) ∧ ph' = mG Γ mo ad (m_hin f (nClip (a 5))) a rr ph)) g_no := by
  refine g_start (y := yX5_mayNotClip) (cc := cX5_mayNotClip) (maxL := 3) (ret := (some .boolean)) (rm := g_rm 4 0 0) (by decide) (Nat.le_of_ble_eq_true rfl) ?_
  intro p e s m A below meth c ls Q hQ S hr hlk hex hnm hK I hl
  have hx := S.1
  have hb := S.2.1
  have hown := S.2.2.2.1
  have hts := S.2.2.2.2
  have S : CallFix p m c cX5_mayNotClip 3 s A lw_all "CrumblingWallModel" := S
  have hl : lv_has ls 3 [(0, .ref mo)] := hl
  refine lv_aload_n hx hb dX5_mayNotClip_0 rfl (lv_at hl 0 rfl) ?_
  refine lv_iconst (v := 0) hx hb dX5_mayNotClip_1 (by decide) ?_
  refine g_ci (g_runV S hK I (As := [.int 0]) (rest := []) (met_X5_place l Γ mo ad f a rr ph 0 (vp_lit (by decide))) (cwV 1 hts (lw_V q3095 q3097 qs59 q151 q3098) rfl rfl rfl (by decide +kernel) ⟨Nat.le_of_ble_eq_true rfl, Nat.le_of_ble_eq_true rfl⟩) (g_recv hK I (g_at.of mG_obj) (ci := 4) rfl) rfl hl.1 rfl (Nat.le_of_ble_eq_true rfl) dX5_mayNotClip_2 ⟨Nat.le_of_ble_eq_true rfl, Nat.le_of_ble_eq_true rfl⟩) I (fun r_2 ph1 H locs hp I => ?_)
  obtain ⟨hp, rfl⟩ := hp
  have hp : r_2 = plc (a 5) 0 := hp
  subst hp
  refine lv_istore_n (lv' := [(1, .int (plc (a 5) 0)), (0, .ref mo)]) hx hb dX5_mayNotClip_5 rfl hl (by decide) rfl (fun ls hl => ?_)
  refine lv_aload_n hx hb dX5_mayNotClip_6 rfl (lv_at hl 1 rfl) ?_
  refine g_get S hK I k_X5 (v := .ref (ad 5)) (g_at.of mG_obj) 5 (by decide) q2957 rfl rfl dX5_mayNotClip_7 ?_
  refine lv_sipush (v := 131) hx hb dX5_mayNotClip_10 (by decide) ?_
  refine m_iald S hK I (f := (a 5)) (k := 131) (g_at.of mG_5) (vp_lit (by decide)) (by decide) dX5_mayNotClip_13 ?_
  refine lv_iconst (v := 1) hx hb dX5_mayNotClip_14 (by decide) ?_
  refine lv_isub hx hb dX5_mayNotClip_15 ?_
  refine lv_istore_n (lv' := [(2, .int (((a 5) 131) - 1)), (1, .int (plc (a 5) 0)), (0, .ref mo)]) hx hb dX5_mayNotClip_16 rfl hl (by decide) rfl (fun ls hl => ?_)
  refine lv_aload_n hx hb dX5_mayNotClip_17 rfl (lv_at hl 2 rfl) ?_
  refine lv_iconst (v := 0) hx hb dX5_mayNotClip_18 (by decide) ?_
  refine lv_iconst (v := 1) hx hb dX5_mayNotClip_19 (by decide) ?_
  refine g_ci (g_runV S hK I (As := [.int 0, .int 1]) (rest := []) (met_X5_mayNotAct l Γ mo ad f a rr ph 0 1 (vp_lit (by decide))) (cwV 2 hts (lw_V q3177 q3179 qs74 q151 q3180) rfl rfl rfl (by decide +kernel) ⟨Nat.le_of_ble_eq_true rfl, Nat.le_of_ble_eq_true rfl⟩) (g_recv hK I (g_at.of mG_obj) (ci := 4) rfl) rfl hl.1 rfl (Nat.le_of_ble_eq_true rfl) dX5_mayNotClip_20 ⟨Nat.le_of_ble_eq_true rfl, Nat.le_of_ble_eq_true rfl⟩) I (fun r_20 ph1 H locs hp I => ?_)
  obtain ⟨hp, rfl⟩ := hp
  have hp : r_20 = b2i ((nAct (a 5) 0 true).isSome) := hp
  subst hp
  have I : g_I Γ (mG Γ mo ad (m_hin f (nAct (a 5) 0 true)) a rr ph) s H locs := I
  refine lv_if_ne (tgt := 85) hx hb dX5_mayNotClip_23 (by decide) (fun c_23 => ?_) (fun c_23 => ?_)
  · have p_23 := (b2i_ne0 _).mp c_23
    obtain ⟨q_23, hq_23⟩ := wk_some p_23
    refine lv_iconst (v := 1) hx hb dX5_mayNotClip_85 (by decide) ?_
    refine lv_goto (tgt := 90) hx hb dX5_mayNotClip_86 (by decide) ?_
    exact g_zret S hr hlk I rfl dX5_mayNotClip_90 (Nat.le_of_ble_eq_true rfl) (Nat.le_of_ble_eq_true rfl) hQ ⟨_, rfl, (by (try simp only [p_23, hq_23]); (try simp [nClip, m_hin, b2i, p_23, hq_23])), (by (try simp only [p_23, hq_23]); (try simp [nClip, m_hin, b2i, p_23, hq_23]))⟩
  · have p_23 := (b2i_eq0 _).mp c_23
    have z_23 := wk_none p_23
    have I := mI_ef I (show _ = f from by rw [z_23]; rfl)
    refine lv_iload_n hx hb dX5_mayNotClip_26 rfl (lv_at hl 1 rfl) ?_
    refine lv_iconst (v := (-1)) hx hb dX5_mayNotClip_27 (by decide) ?_
    refine lv_icmp_ne (tgt := 41) hx hb dX5_mayNotClip_28 (by decide) (fun c_28 => ?_) (fun c_28 => ?_)
    · refine lv_iload_n hx hb dX5_mayNotClip_41 rfl (lv_at hl 0 rfl) ?_
      refine lv_if_lt (tgt := 69) hx hb dX5_mayNotClip_42 (by decide) (fun c_42 => ?_) (fun c_42 => ?_)
      · have n_42 := Int32.not_le.mpr c_42
        refine lv_iload_n hx hb dX5_mayNotClip_69 rfl (lv_at hl 0 rfl) ?_
        refine lv_bipush (v := 7) hx hb dX5_mayNotClip_70 (by decide) ?_
        refine lv_icmp_ne (tgt := 89) hx hb dX5_mayNotClip_72 (by decide) (fun c_72 => ?_) (fun c_72 => ?_)
        · refine lv_iconst (v := 0) hx hb dX5_mayNotClip_89 (by decide) ?_
          exact g_zret S hr hlk I rfl dX5_mayNotClip_90 (Nat.le_of_ble_eq_true rfl) (Nat.le_of_ble_eq_true rfl) hQ ⟨_, rfl, (by (try simp only [z_23]); (try simp [nClip, m_hin, b2i, z_23, c_28, c_42, n_42, c_72])), (by (try simp only [z_23]); (try simp [nClip, m_hin, b2i, z_23, c_28, c_42, n_42, c_72]))⟩
        · exact absurd c_42 (by rw [c_72]; decide)
      · have n_42 := Int32.not_lt.mp c_42
        refine lv_aload_n hx hb dX5_mayNotClip_45 rfl (lv_at hl 2 rfl) ?_
        refine g_get S hK I k_X5 (v := .ref (ad 5)) (g_at.of mG_obj) 5 (by decide) q2957 rfl rfl dX5_mayNotClip_46 ?_
        refine lv_sipush (v := 132) hx hb dX5_mayNotClip_49 (by decide) ?_
        refine lv_iload_n hx hb dX5_mayNotClip_52 rfl (lv_at hl 0 rfl) ?_
        refine lv_iadd hx hb dX5_mayNotClip_53 ?_
        refine m_iald S hK I (f := (a 5)) (k := (131 + nAn (a 5))) (g_at.of mG_5) (wA_last hw c_42).1 (wA_last hw c_42).2.1 dX5_mayNotClip_54 ?_
        refine lv_iload_n hx hb dX5_mayNotClip_55 rfl (lv_at hl 1 rfl) ?_
        refine lv_icmp_ne (tgt := 69) hx hb dX5_mayNotClip_56 (by decide) (fun c_56 => ?_) (fun c_56 => ?_)
        · refine lv_iload_n hx hb dX5_mayNotClip_69 rfl (lv_at hl 0 rfl) ?_
          refine lv_bipush (v := 7) hx hb dX5_mayNotClip_70 (by decide) ?_
          refine lv_icmp_ne (tgt := 89) hx hb dX5_mayNotClip_72 (by decide) (fun c_72 => ?_) (fun c_72 => ?_)
          · refine lv_iconst (v := 0) hx hb dX5_mayNotClip_89 (by decide) ?_
            exact g_zret S hr hlk I rfl dX5_mayNotClip_90 (Nat.le_of_ble_eq_true rfl) (Nat.le_of_ble_eq_true rfl) hQ ⟨_, rfl, (by (try simp only [z_23]); (try simp [nClip, m_hin, b2i, z_23, c_28, c_42, n_42, c_56, c_72])), (by (try simp only [z_23]); (try simp [nClip, m_hin, b2i, z_23, c_28, c_42, n_42, c_56, c_72]))⟩
          · refine lv_aload_n hx hb dX5_mayNotClip_75 rfl (lv_at hl 2 rfl) ?_
            refine lv_bipush (v := 12) hx hb dX5_mayNotClip_76 (by decide) ?_
            refine lv_iconst (v := 0) hx hb dX5_mayNotClip_78 (by decide) ?_
            refine g_ci (g_runV S hK I (As := [.int 12, .int 0]) (rest := []) (met_X5_hinders l Γ mo ad f a rr ph 12 0) (cwV 2 hts (lw_V q3071 q3073 qs54 q151 q3074) rfl rfl rfl (by decide +kernel) ⟨Nat.le_of_ble_eq_true rfl, Nat.le_of_ble_eq_true rfl⟩) (g_recv hK I (g_at.of mG_obj) (ci := 4) rfl) rfl hl.1 rfl (Nat.le_of_ble_eq_true rfl) dX5_mayNotClip_79 ⟨Nat.le_of_ble_eq_true rfl, Nat.le_of_ble_eq_true rfl⟩) I (fun r_79 ph1 H locs hp I => ?_)
            obtain ⟨hp, rfl⟩ := hp
            have hp : r_79 = b2i true := hp
            subst hp
            have I : g_I Γ (mG Γ mo ad (upd (upd f 3 12) 4 0) a rr ph) s H locs := I
            refine lv_if_eq (tgt := 89) hx hb dX5_mayNotClip_82 (by decide) (fun q => absurd q (by decide)) (fun _ => ?_)
            refine lv_iconst (v := 1) hx hb dX5_mayNotClip_85 (by decide) ?_
            refine lv_goto (tgt := 90) hx hb dX5_mayNotClip_86 (by decide) ?_
            exact g_zret S hr hlk I rfl dX5_mayNotClip_90 (Nat.le_of_ble_eq_true rfl) (Nat.le_of_ble_eq_true rfl) hQ ⟨_, rfl, (by (try simp only [z_23]); (try simp [nClip, m_hin, b2i, z_23, c_28, c_42, n_42, c_56, c_72])), (by (try simp only [z_23]); (try simp [nClip, m_hin, b2i, z_23, c_28, c_42, n_42, c_56, c_72]))⟩
        · refine lv_aload_n hx hb dX5_mayNotClip_59 rfl (lv_at hl 2 rfl) ?_
          refine lv_bipush (v := 11) hx hb dX5_mayNotClip_60 (by decide) ?_
          refine lv_iload_n hx hb dX5_mayNotClip_62 rfl (lv_at hl 1 rfl) ?_
          refine g_ci (g_runV S hK I (As := [.int 11, .int (plc (a 5) 0)]) (rest := []) (met_X5_hinders l Γ mo ad f a rr ph 11 (plc (a 5) 0)) (cwV 2 hts (lw_V q3071 q3073 qs54 q151 q3074) rfl rfl rfl (by decide +kernel) ⟨Nat.le_of_ble_eq_true rfl, Nat.le_of_ble_eq_true rfl⟩) (g_recv hK I (g_at.of mG_obj) (ci := 4) rfl) rfl hl.1 rfl (Nat.le_of_ble_eq_true rfl) dX5_mayNotClip_63 ⟨Nat.le_of_ble_eq_true rfl, Nat.le_of_ble_eq_true rfl⟩) I (fun r_63 ph1 H locs hp I => ?_)
          obtain ⟨hp, rfl⟩ := hp
          have hp : r_63 = b2i true := hp
          subst hp
          have I : g_I Γ (mG Γ mo ad (upd (upd f 3 11) 4 (plc (a 5) 0)) a rr ph) s H locs := I
          refine lv_if_ne (tgt := 85) hx hb dX5_mayNotClip_66 (by decide) (fun _ => ?_) (fun q => absurd q (by decide))
          refine lv_iconst (v := 1) hx hb dX5_mayNotClip_85 (by decide) ?_
          refine lv_goto (tgt := 90) hx hb dX5_mayNotClip_86 (by decide) ?_
          exact g_zret S hr hlk I rfl dX5_mayNotClip_90 (Nat.le_of_ble_eq_true rfl) (Nat.le_of_ble_eq_true rfl) hQ ⟨_, rfl, (by (try simp only [z_23]); (try simp [nClip, m_hin, b2i, z_23, c_28, c_42, n_42, c_56])), (by (try simp only [z_23]); (try simp [nClip, m_hin, b2i, z_23, c_28, c_42, n_42, c_56]))⟩
    · refine lv_aload_n hx hb dX5_mayNotClip_31 rfl (lv_at hl 2 rfl) ?_
      refine lv_bipush (v := 10) hx hb dX5_mayNotClip_32 (by decide) ?_
      refine lv_iconst (v := 0) hx hb dX5_mayNotClip_34 (by decide) ?_
      refine g_ci (g_runV S hK I (As := [.int 10, .int 0]) (rest := []) (met_X5_hinders l Γ mo ad f a rr ph 10 0) (cwV 2 hts (lw_V q3071 q3073 qs54 q151 q3074) rfl rfl rfl (by decide +kernel) ⟨Nat.le_of_ble_eq_true rfl, Nat.le_of_ble_eq_true rfl⟩) (g_recv hK I (g_at.of mG_obj) (ci := 4) rfl) rfl hl.1 rfl (Nat.le_of_ble_eq_true rfl) dX5_mayNotClip_35 ⟨Nat.le_of_ble_eq_true rfl, Nat.le_of_ble_eq_true rfl⟩) I (fun r_35 ph1 H locs hp I => ?_)
      obtain ⟨hp, rfl⟩ := hp
      have hp : r_35 = b2i true := hp
      subst hp
      have I : g_I Γ (mG Γ mo ad (upd (upd f 3 10) 4 0) a rr ph) s H locs := I
      refine lv_if_ne (tgt := 85) hx hb dX5_mayNotClip_38 (by decide) (fun _ => ?_) (fun q => absurd q (by decide))
      refine lv_iconst (v := 1) hx hb dX5_mayNotClip_85 (by decide) ?_
      refine lv_goto (tgt := 90) hx hb dX5_mayNotClip_86 (by decide) ?_
      exact g_zret S hr hlk I rfl dX5_mayNotClip_90 (Nat.le_of_ble_eq_true rfl) (Nat.le_of_ble_eq_true rfl) hQ ⟨_, rfl, (by (try simp only [z_23]); (try simp [nClip, m_hin, b2i, z_23, c_28])), (by (try simp only [z_23]); (try simp [nClip, m_hin, b2i, z_23, c_28]))⟩

set_option maxHeartbeats 4000000 in
set_option maxRecDepth 100000 in
theorem met_X5_mayNotUnclip (l : Launch) (Γ : g_C) (mo : Nat) (ad : Nat → Nat) (f : Nat → Int32) (a : Nat → Nat → Int32) (rr : Nat → UInt32) (ph : g_H) : g_Met l yX5_mayNotUnclip (ws_ yX5_mayNotUnclip cX5_mayNotUnclip 2 (some .boolean)) (g_rm 4 0 0) Γ [.ref mo] (mG Γ mo ad f a rr ph) (g_oi (fun v ph' => v = (b2i ((nUncl (a 5)).isSome)) ∧ ph' = mG Γ mo ad (m_hin f (nUncl (a 5))) a rr ph)) g_no := by
  refine g_start (y := yX5_mayNotUnclip) (cc := cX5_mayNotUnclip) (maxL := 2) (ret := (some .boolean)) (rm := g_rm 4 0 0) (by decide) (Nat.le_of_ble_eq_true rfl) ?_
  intro p e s m A below meth c ls Q hQ S hr hlk hex hnm hK I hl
  have hx := S.1
  have hb := S.2.1
  have hown := S.2.2.2.1
  have hts := S.2.2.2.2
  have S : CallFix p m c cX5_mayNotUnclip 2 s A lw_all "CrumblingWallModel" := S
  have hl : lv_has ls 2 [(0, .ref mo)] := hl
  refine lv_aload_n hx hb dX5_mayNotUnclip_0 rfl (lv_at hl 0 rfl) ?_
  refine lv_iconst (v := 1) hx hb dX5_mayNotUnclip_1 (by decide) ?_
  refine g_ci (g_runV S hK I (As := [.int 1]) (rest := []) (met_X5_place l Γ mo ad f a rr ph 1 (vp_lit (by decide))) (cwV 1 hts (lw_V q3095 q3097 qs59 q151 q3098) rfl rfl rfl (by decide +kernel) ⟨Nat.le_of_ble_eq_true rfl, Nat.le_of_ble_eq_true rfl⟩) (g_recv hK I (g_at.of mG_obj) (ci := 4) rfl) rfl hl.1 rfl (Nat.le_of_ble_eq_true rfl) dX5_mayNotUnclip_2 ⟨Nat.le_of_ble_eq_true rfl, Nat.le_of_ble_eq_true rfl⟩) I (fun r_2 ph1 H locs hp I => ?_)
  obtain ⟨hp, rfl⟩ := hp
  have hp : r_2 = plc (a 5) 1 := hp
  subst hp
  refine lv_istore_n (lv' := [(1, .int (plc (a 5) 1)), (0, .ref mo)]) hx hb dX5_mayNotUnclip_5 rfl hl (by decide) rfl (fun ls hl => ?_)
  refine lv_aload_n hx hb dX5_mayNotUnclip_6 rfl (lv_at hl 1 rfl) ?_
  refine lv_iconst (v := 1) hx hb dX5_mayNotUnclip_7 (by decide) ?_
  refine lv_iconst (v := 1) hx hb dX5_mayNotUnclip_8 (by decide) ?_
  refine g_ci (g_runV S hK I (As := [.int 1, .int 1]) (rest := []) (met_X5_mayNotAct l Γ mo ad f a rr ph 1 1 (vp_lit (by decide))) (cwV 2 hts (lw_V q3177 q3179 qs74 q151 q3180) rfl rfl rfl (by decide +kernel) ⟨Nat.le_of_ble_eq_true rfl, Nat.le_of_ble_eq_true rfl⟩) (g_recv hK I (g_at.of mG_obj) (ci := 4) rfl) rfl hl.1 rfl (Nat.le_of_ble_eq_true rfl) dX5_mayNotUnclip_9 ⟨Nat.le_of_ble_eq_true rfl, Nat.le_of_ble_eq_true rfl⟩) I (fun r_9 ph1 H locs hp I => ?_)
  obtain ⟨hp, rfl⟩ := hp
  have hp : r_9 = b2i ((nAct (a 5) 1 true).isSome) := hp
  subst hp
  have I : g_I Γ (mG Γ mo ad (m_hin f (nAct (a 5) 1 true)) a rr ph) s H locs := I
  refine lv_if_ne (tgt := 63) hx hb dX5_mayNotUnclip_12 (by decide) (fun c_12 => ?_) (fun c_12 => ?_)
  · have p_12 := (b2i_ne0 _).mp c_12
    obtain ⟨q_12, hq_12⟩ := wk_some p_12
    refine lv_iconst (v := 1) hx hb dX5_mayNotUnclip_63 (by decide) ?_
    refine lv_goto (tgt := 68) hx hb dX5_mayNotUnclip_64 (by decide) ?_
    exact g_zret S hr hlk I rfl dX5_mayNotUnclip_68 (Nat.le_of_ble_eq_true rfl) (Nat.le_of_ble_eq_true rfl) hQ ⟨_, rfl, (by (try simp only [p_12, hq_12]); (try simp [nUncl, m_hin, b2i, p_12, hq_12])), (by (try simp only [p_12, hq_12]); (try simp [nUncl, m_hin, b2i, p_12, hq_12]))⟩
  · have p_12 := (b2i_eq0 _).mp c_12
    have z_12 := wk_none p_12
    have I := mI_ef I (show _ = f from by rw [z_12]; rfl)
    refine lv_iload_n hx hb dX5_mayNotUnclip_15 rfl (lv_at hl 0 rfl) ?_
    refine lv_iconst (v := (-1)) hx hb dX5_mayNotUnclip_16 (by decide) ?_
    refine lv_icmp_ne (tgt := 30) hx hb dX5_mayNotUnclip_17 (by decide) (fun c_17 => ?_) (fun c_17 => ?_)
    · refine lv_aload_n hx hb dX5_mayNotUnclip_30 rfl (lv_at hl 1 rfl) ?_
      refine g_get S hK I k_X5 (v := .ref (ad 5)) (g_at.of mG_obj) 5 (by decide) q2957 rfl rfl dX5_mayNotUnclip_31 ?_
      refine lv_sipush (v := 131) hx hb dX5_mayNotUnclip_34 (by decide) ?_
      refine m_iald S hK I (f := (a 5)) (k := 131) (g_at.of mG_5) (vp_lit (by decide)) (by decide) dX5_mayNotUnclip_37 ?_
      refine lv_if_eq (tgt := 53) hx hb dX5_mayNotUnclip_38 (by decide) (fun c_38 => ?_) (fun c_38 => ?_)
      · refine lv_aload_n hx hb dX5_mayNotUnclip_53 rfl (lv_at hl 1 rfl) ?_
        refine lv_bipush (v := 11) hx hb dX5_mayNotUnclip_54 (by decide) ?_
        refine lv_iload_n hx hb dX5_mayNotUnclip_56 rfl (lv_at hl 0 rfl) ?_
        refine g_ci (g_runV S hK I (As := [.int 11, .int (plc (a 5) 1)]) (rest := []) (met_X5_hinders l Γ mo ad f a rr ph 11 (plc (a 5) 1)) (cwV 2 hts (lw_V q3071 q3073 qs54 q151 q3074) rfl rfl rfl (by decide +kernel) ⟨Nat.le_of_ble_eq_true rfl, Nat.le_of_ble_eq_true rfl⟩) (g_recv hK I (g_at.of mG_obj) (ci := 4) rfl) rfl hl.1 rfl (Nat.le_of_ble_eq_true rfl) dX5_mayNotUnclip_57 ⟨Nat.le_of_ble_eq_true rfl, Nat.le_of_ble_eq_true rfl⟩) I (fun r_57 ph1 H locs hp I => ?_)
        obtain ⟨hp, rfl⟩ := hp
        have hp : r_57 = b2i true := hp
        subst hp
        have I : g_I Γ (mG Γ mo ad (upd (upd f 3 11) 4 (plc (a 5) 1)) a rr ph) s H locs := I
        refine lv_if_eq (tgt := 67) hx hb dX5_mayNotUnclip_60 (by decide) (fun q => absurd q (by decide)) (fun _ => ?_)
        refine lv_iconst (v := 1) hx hb dX5_mayNotUnclip_63 (by decide) ?_
        refine lv_goto (tgt := 68) hx hb dX5_mayNotUnclip_64 (by decide) ?_
        exact g_zret S hr hlk I rfl dX5_mayNotUnclip_68 (Nat.le_of_ble_eq_true rfl) (Nat.le_of_ble_eq_true rfl) hQ ⟨_, rfl, (by (try simp only [z_12]); (try simp [nUncl, m_hin, b2i, z_12, c_17, c_38])), (by (try simp only [z_12]); (try simp [nUncl, m_hin, b2i, z_12, c_17, c_38]))⟩
      · refine lv_aload_n hx hb dX5_mayNotUnclip_41 rfl (lv_at hl 1 rfl) ?_
        refine g_get S hK I k_X5 (v := .ref (ad 5)) (g_at.of mG_obj) 5 (by decide) q2957 rfl rfl dX5_mayNotUnclip_42 ?_
        refine lv_sipush (v := 132) hx hb dX5_mayNotUnclip_45 (by decide) ?_
        refine m_iald S hK I (f := (a 5)) (k := 132) (g_at.of mG_5) (vp_lit (by decide)) (by decide) dX5_mayNotUnclip_48 ?_
        refine lv_iload_n hx hb dX5_mayNotUnclip_49 rfl (lv_at hl 0 rfl) ?_
        refine lv_icmp_eq (tgt := 67) hx hb dX5_mayNotUnclip_50 (by decide) (fun c_50 => ?_) (fun c_50 => ?_)
        · refine lv_iconst (v := 0) hx hb dX5_mayNotUnclip_67 (by decide) ?_
          exact g_zret S hr hlk I rfl dX5_mayNotUnclip_68 (Nat.le_of_ble_eq_true rfl) (Nat.le_of_ble_eq_true rfl) hQ ⟨_, rfl, (by (try simp only [z_12]); (try simp [nUncl, m_hin, b2i, z_12, c_17, c_38, c_50])), (by (try simp only [z_12]); (try simp [nUncl, m_hin, b2i, z_12, c_17, c_38, c_50]))⟩
        · refine lv_aload_n hx hb dX5_mayNotUnclip_53 rfl (lv_at hl 1 rfl) ?_
          refine lv_bipush (v := 11) hx hb dX5_mayNotUnclip_54 (by decide) ?_
          refine lv_iload_n hx hb dX5_mayNotUnclip_56 rfl (lv_at hl 0 rfl) ?_
          refine g_ci (g_runV S hK I (As := [.int 11, .int (plc (a 5) 1)]) (rest := []) (met_X5_hinders l Γ mo ad f a rr ph 11 (plc (a 5) 1)) (cwV 2 hts (lw_V q3071 q3073 qs54 q151 q3074) rfl rfl rfl (by decide +kernel) ⟨Nat.le_of_ble_eq_true rfl, Nat.le_of_ble_eq_true rfl⟩) (g_recv hK I (g_at.of mG_obj) (ci := 4) rfl) rfl hl.1 rfl (Nat.le_of_ble_eq_true rfl) dX5_mayNotUnclip_57 ⟨Nat.le_of_ble_eq_true rfl, Nat.le_of_ble_eq_true rfl⟩) I (fun r_57 ph1 H locs hp I => ?_)
          obtain ⟨hp, rfl⟩ := hp
          have hp : r_57 = b2i true := hp
          subst hp
          have I : g_I Γ (mG Γ mo ad (upd (upd f 3 11) 4 (plc (a 5) 1)) a rr ph) s H locs := I
          refine lv_if_eq (tgt := 67) hx hb dX5_mayNotUnclip_60 (by decide) (fun q => absurd q (by decide)) (fun _ => ?_)
          refine lv_iconst (v := 1) hx hb dX5_mayNotUnclip_63 (by decide) ?_
          refine lv_goto (tgt := 68) hx hb dX5_mayNotUnclip_64 (by decide) ?_
          exact g_zret S hr hlk I rfl dX5_mayNotUnclip_68 (Nat.le_of_ble_eq_true rfl) (Nat.le_of_ble_eq_true rfl) hQ ⟨_, rfl, (by (try simp only [z_12]); (try simp [nUncl, m_hin, b2i, z_12, c_17, c_38, c_50])), (by (try simp only [z_12]); (try simp [nUncl, m_hin, b2i, z_12, c_17, c_38, c_50]))⟩
    · refine lv_aload_n hx hb dX5_mayNotUnclip_20 rfl (lv_at hl 1 rfl) ?_
      refine lv_bipush (v := 10) hx hb dX5_mayNotUnclip_21 (by decide) ?_
      refine lv_iconst (v := 0) hx hb dX5_mayNotUnclip_23 (by decide) ?_
      refine g_ci (g_runV S hK I (As := [.int 10, .int 0]) (rest := []) (met_X5_hinders l Γ mo ad f a rr ph 10 0) (cwV 2 hts (lw_V q3071 q3073 qs54 q151 q3074) rfl rfl rfl (by decide +kernel) ⟨Nat.le_of_ble_eq_true rfl, Nat.le_of_ble_eq_true rfl⟩) (g_recv hK I (g_at.of mG_obj) (ci := 4) rfl) rfl hl.1 rfl (Nat.le_of_ble_eq_true rfl) dX5_mayNotUnclip_24 ⟨Nat.le_of_ble_eq_true rfl, Nat.le_of_ble_eq_true rfl⟩) I (fun r_24 ph1 H locs hp I => ?_)
      obtain ⟨hp, rfl⟩ := hp
      have hp : r_24 = b2i true := hp
      subst hp
      have I : g_I Γ (mG Γ mo ad (upd (upd f 3 10) 4 0) a rr ph) s H locs := I
      refine lv_if_ne (tgt := 63) hx hb dX5_mayNotUnclip_27 (by decide) (fun _ => ?_) (fun q => absurd q (by decide))
      refine lv_iconst (v := 1) hx hb dX5_mayNotUnclip_63 (by decide) ?_
      refine lv_goto (tgt := 68) hx hb dX5_mayNotUnclip_64 (by decide) ?_
      exact g_zret S hr hlk I rfl dX5_mayNotUnclip_68 (Nat.le_of_ble_eq_true rfl) (Nat.le_of_ble_eq_true rfl) hQ ⟨_, rfl, (by (try simp only [z_12]); (try simp [nUncl, m_hin, b2i, z_12, c_17])), (by (try simp only [z_12]); (try simp [nUncl, m_hin, b2i, z_12, c_17]))⟩

set_option maxHeartbeats 4000000 in
set_option maxRecDepth 100000 in
theorem met_X5_liesWith (l : Launch) (Γ : g_C) (mo : Nat) (ad : Nat → Nat) (f : Nat → Int32) (a : Nat → Nat → Int32) (rr : Nat → UInt32) (ph : g_H) (p0 : Int32) (p1 : Int32) (h0 : vp_in p0 2) (h1 : vp_in p1 4) : g_Met l yX5_liesWith (ws_ yX5_liesWith cX5_liesWith 3 (some .boolean)) (g_rm 3 0 0) Γ [.ref mo, .int p0, .int p1] (mG Γ mo ad f a rr ph) (g_oi (fun v ph' => v = (b2i (lies (a 5) p0 p1)) ∧ ph' = mG Γ mo ad f a rr ph)) g_no := by
  refine g_start (y := yX5_liesWith) (cc := cX5_liesWith) (maxL := 3) (ret := (some .boolean)) (rm := g_rm 3 0 0) (by decide) (Nat.le_of_ble_eq_true rfl) ?_
  intro p e s m A below meth c ls Q hQ S hr hlk hex hnm hK I hl
  have hx := S.1
  have hb := S.2.1
  have hown := S.2.2.2.1
  have hts := S.2.2.2.2
  have S : CallFix p m c cX5_liesWith 3 s A lw_all "CrumblingWallModel" := S
  have hl : lv_has ls 3 [(0, .ref mo), (1, .int p0), (2, .int p1)] := hl
  refine lv_aload_n hx hb dX5_liesWith_0 rfl (lv_at hl 0 rfl) ?_
  refine lv_iload_n hx hb dX5_liesWith_1 rfl (lv_at hl 2 rfl) ?_
  refine lv_iconst (v := 1) hx hb dX5_liesWith_2 (by decide) ?_
  refine g_ci (g_runV S hK I (As := [.int p1, .int 1]) (rest := []) (met_X5_ofLamp l Γ mo ad f a rr ph p1 1 h1 (vp_lit (by decide))) (cwV 2 hts (lw_V q3130 q3132 qs66 q151 q3133) rfl rfl rfl (by decide +kernel) ⟨Nat.le_of_ble_eq_true rfl, Nat.le_of_ble_eq_true rfl⟩) (g_recv hK I (g_at.of mG_obj) (ci := 4) rfl) rfl hl.1 rfl (Nat.le_of_ble_eq_true rfl) dX5_liesWith_3 ⟨Nat.le_of_ble_eq_true rfl, Nat.le_of_ble_eq_true rfl⟩) I (fun r_3 ph1 H locs hp I => ?_)
  obtain ⟨hp, rfl⟩ := hp
  have hp : r_3 = lX (a 5) p1 1 := hp
  subst hp
  refine lv_if_ge (tgt := 27) hx hb dX5_liesWith_6 (by decide) (fun c_6 => ?_) (fun c_6 => ?_)
  · have n_6 := Int32.not_lt.mpr c_6
    refine lv_iconst (v := 0) hx hb dX5_liesWith_27 (by decide) ?_
    exact g_zret S hr hlk I rfl dX5_liesWith_28 (Nat.le_of_ble_eq_true rfl) (Nat.le_of_ble_eq_true rfl) hQ ⟨_, rfl, (by (try simp [lies, b2i, c_6, n_6])), rfl⟩
  · have n_6 := Int32.not_le.mp c_6
    refine lv_aload_n hx hb dX5_liesWith_9 rfl (lv_at hl 0 rfl) ?_
    refine lv_iload_n hx hb dX5_liesWith_10 rfl (lv_at hl 2 rfl) ?_
    refine lv_iconst (v := 0) hx hb dX5_liesWith_11 (by decide) ?_
    refine g_ci (g_runV S hK I (As := [.int p1, .int 0]) (rest := []) (met_X5_ofLamp l Γ mo ad f a rr ph p1 0 h1 (vp_lit (by decide))) (cwV 2 hts (lw_V q3130 q3132 qs66 q151 q3133) rfl rfl rfl (by decide +kernel) ⟨Nat.le_of_ble_eq_true rfl, Nat.le_of_ble_eq_true rfl⟩) (g_recv hK I (g_at.of mG_obj) (ci := 4) rfl) rfl hl.1 rfl (Nat.le_of_ble_eq_true rfl) dX5_liesWith_12 ⟨Nat.le_of_ble_eq_true rfl, Nat.le_of_ble_eq_true rfl⟩) I (fun r_12 ph1 H locs hp I => ?_)
    obtain ⟨hp, rfl⟩ := hp
    have hp : r_12 = lX (a 5) p1 0 := hp
    subst hp
    refine lv_aload_n hx hb dX5_liesWith_15 rfl (lv_at hl 0 rfl) ?_
    refine lv_iload_n hx hb dX5_liesWith_16 rfl (lv_at hl 1 rfl) ?_
    refine g_ci (g_runV S hK I (As := [.int p0]) (rest := [.int (lX (a 5) p1 0)]) (met_X5_place l Γ mo ad f a rr ph p0 h0) (cwV 1 hts (lw_V q3095 q3097 qs59 q151 q3098) rfl rfl rfl (by decide +kernel) ⟨Nat.le_of_ble_eq_true rfl, Nat.le_of_ble_eq_true rfl⟩) (g_recv hK I (g_at.of mG_obj) (ci := 4) rfl) rfl hl.1 rfl (Nat.le_of_ble_eq_true rfl) dX5_liesWith_17 ⟨Nat.le_of_ble_eq_true rfl, Nat.le_of_ble_eq_true rfl⟩) I (fun r_17 ph1 H locs hp I => ?_)
    obtain ⟨hp, rfl⟩ := hp
    have hp : r_17 = plc (a 5) p0 := hp
    subst hp
    refine lv_icmp_ne (tgt := 27) hx hb dX5_liesWith_20 (by decide) (fun c_20 => ?_) (fun c_20 => ?_)
    · refine lv_iconst (v := 0) hx hb dX5_liesWith_27 (by decide) ?_
      exact g_zret S hr hlk I rfl dX5_liesWith_28 (Nat.le_of_ble_eq_true rfl) (Nat.le_of_ble_eq_true rfl) hQ ⟨_, rfl, (by (try simp [lies, b2i, c_6, n_6, c_20])), rfl⟩
    · refine lv_iconst (v := 1) hx hb dX5_liesWith_23 (by decide) ?_
      refine lv_goto (tgt := 28) hx hb dX5_liesWith_24 (by decide) ?_
      exact g_zret S hr hlk I rfl dX5_liesWith_28 (Nat.le_of_ble_eq_true rfl) (Nat.le_of_ble_eq_true rfl) hQ ⟨_, rfl, (by (try simp [lies, b2i, c_6, n_6, c_20])), rfl⟩

set_option maxHeartbeats 4000000 in
set_option maxRecDepth 100000 in
theorem met_X5_mayNotTake (l : Launch) (Γ : g_C) (mo : Nat) (ad : Nat → Nat) (f : Nat → Int32) (a : Nat → Nat → Int32) (rr : Nat → UInt32) (ph : g_H) (p0 : Int32) (p1 : Int32) (hw : WF (a 5)) (h0 : vp_in p0 2) (h1 : vp_in p1 4) : g_Met l yX5_mayNotTake (ws_ yX5_mayNotTake cX5_mayNotTake 3 (some .boolean)) (g_rm 5 0 0) Γ [.ref mo, .int p0, .int p1] (mG Γ mo ad f a rr ph) (g_oi (fun v ph' => v = (b2i ((nTake (a 5) p0 p1).isSome)) ∧ ph' = mG Γ mo ad (m_hin f (nTake (a 5) p0 p1)) a rr ph)) g_no := by
  refine g_start (y := yX5_mayNotTake) (cc := cX5_mayNotTake) (maxL := 3) (ret := (some .boolean)) (rm := g_rm 5 0 0) (by decide) (Nat.le_of_ble_eq_true rfl) ?_
  intro p e s m A below meth c ls Q hQ S hr hlk hex hnm hK I hl
  have hx := S.1
  have hb := S.2.1
  have hown := S.2.2.2.1
  have hts := S.2.2.2.2
  have S : CallFix p m c cX5_mayNotTake 3 s A lw_all "CrumblingWallModel" := S
  have hl : lv_has ls 3 [(0, .ref mo), (1, .int p0), (2, .int p1)] := hl
  refine lv_aload_n hx hb dX5_mayNotTake_0 rfl (lv_at hl 0 rfl) ?_
  refine lv_iload_n hx hb dX5_mayNotTake_1 rfl (lv_at hl 1 rfl) ?_
  refine lv_iconst (v := 0) hx hb dX5_mayNotTake_2 (by decide) ?_
  refine g_ci (g_runV S hK I (As := [.int p0, .int 0]) (rest := []) (met_X5_mayNotAct l Γ mo ad f a rr ph p0 0 h0) (cwV 2 hts (lw_V q3177 q3179 qs74 q151 q3180) rfl rfl rfl (by decide +kernel) ⟨Nat.le_of_ble_eq_true rfl, Nat.le_of_ble_eq_true rfl⟩) (g_recv hK I (g_at.of mG_obj) (ci := 4) rfl) rfl hl.1 rfl (Nat.le_of_ble_eq_true rfl) dX5_mayNotTake_3 ⟨Nat.le_of_ble_eq_true rfl, Nat.le_of_ble_eq_true rfl⟩) I (fun r_3 ph1 H locs hp I => ?_)
  obtain ⟨hp, rfl⟩ := hp
  have hp : r_3 = b2i ((nAct (a 5) p0 false).isSome) := hp
  subst hp
  have I : g_I Γ (mG Γ mo ad (m_hin f (nAct (a 5) p0 false)) a rr ph) s H locs := I
  refine lv_if_ne (tgt := 50) hx hb dX5_mayNotTake_6 (by decide) (fun c_6 => ?_) (fun c_6 => ?_)
  · have p_6 := (b2i_ne0 _).mp c_6
    obtain ⟨q_6, hq_6⟩ := wk_some p_6
    refine lv_iconst (v := 1) hx hb dX5_mayNotTake_50 (by decide) ?_
    refine lv_goto (tgt := 55) hx hb dX5_mayNotTake_51 (by decide) ?_
    exact g_zret S hr hlk I rfl dX5_mayNotTake_55 (Nat.le_of_ble_eq_true rfl) (Nat.le_of_ble_eq_true rfl) hQ ⟨_, rfl, (by (try simp only [p_6, hq_6]); (try simp [nTake, m_hin, b2i, p_6, hq_6])), (by (try simp only [p_6, hq_6]); (try simp [nTake, m_hin, b2i, p_6, hq_6]))⟩
  · have p_6 := (b2i_eq0 _).mp c_6
    have z_6 := wk_none p_6
    have I := mI_ef I (show _ = f from by rw [z_6]; rfl)
    refine lv_aload_n hx hb dX5_mayNotTake_9 rfl (lv_at hl 0 rfl) ?_
    refine lv_iload_n hx hb dX5_mayNotTake_10 rfl (lv_at hl 1 rfl) ?_
    refine lv_iload_n hx hb dX5_mayNotTake_11 rfl (lv_at hl 2 rfl) ?_
    refine g_ci (g_runV S hK I (As := [.int p0, .int p1]) (rest := []) (met_X5_liesWith l Γ mo ad f a rr ph p0 p1 h0 h1) (cwV 2 hts (lw_V q3344 q3346 qs100 q151 q3347) rfl rfl rfl (by decide +kernel) ⟨Nat.le_of_ble_eq_true rfl, Nat.le_of_ble_eq_true rfl⟩) (g_recv hK I (g_at.of mG_obj) (ci := 4) rfl) rfl hl.1 rfl (Nat.le_of_ble_eq_true rfl) dX5_mayNotTake_12 ⟨Nat.le_of_ble_eq_true rfl, Nat.le_of_ble_eq_true rfl⟩) I (fun r_12 ph1 H locs hp I => ?_)
    obtain ⟨hp, rfl⟩ := hp
    have hp : r_12 = b2i (lies (a 5) p0 p1) := hp
    subst hp
    refine lv_if_ne (tgt := 28) hx hb dX5_mayNotTake_15 (by decide) (fun c_15 => ?_) (fun c_15 => ?_)
    · have p_15 := (b2i_ne0 _).mp c_15
      refine lv_aload_n hx hb dX5_mayNotTake_28 rfl (lv_at hl 0 rfl) ?_
      refine lv_iload_n hx hb dX5_mayNotTake_29 rfl (lv_at hl 1 rfl) ?_
      refine g_ci (g_runV S hK I (As := [.int p0]) (rest := []) (met_X5_carried l Γ mo ad f a rr ph p0 hw) (cwV 1 hts (lw_V q3220 q3222 qs78 q151 q3223) rfl rfl rfl (by decide +kernel) ⟨Nat.le_of_ble_eq_true rfl, Nat.le_of_ble_eq_true rfl⟩) (g_recv hK I (g_at.of mG_obj) (ci := 4) rfl) rfl hl.1 rfl (Nat.le_of_ble_eq_true rfl) dX5_mayNotTake_30 ⟨Nat.le_of_ble_eq_true rfl, Nat.le_of_ble_eq_true rfl⟩) I (fun r_30 ph1 H locs hp I => ?_)
      obtain ⟨hp, rfl⟩ := hp
      have hp : r_30 = carr (a 5) p0 := hp
      subst hp
      refine g_ci (g_runS S hK I (As := [.int (carr (a 5) p0)]) (rest := []) (met_X5_bits l Γ (mG Γ mo ad f a rr ph) (carr (a 5) p0)) (va_cwS 1 hts (lw_S q3240 q3241 q151 q3242) rfl rfl rfl (by decide +kernel) ⟨Nat.le_of_ble_eq_true rfl, Nat.le_of_ble_eq_true rfl⟩) rfl hl.1 rfl (Nat.le_of_ble_eq_true rfl) dX5_mayNotTake_33 ⟨Nat.le_of_ble_eq_true rfl, Nat.le_of_ble_eq_true rfl⟩) I (fun r_33 ph1 H locs hp I => ?_)
      obtain ⟨hp, rfl⟩ := hp
      have hp : r_33 = bits (carr (a 5) p0) := hp
      subst hp
      refine lv_iconst (v := 2) hx hb dX5_mayNotTake_36 (by decide) ?_
      refine lv_icmp_ne (tgt := 54) hx hb dX5_mayNotTake_37 (by decide) (fun c_37 => ?_) (fun c_37 => ?_)
      · refine lv_iconst (v := 0) hx hb dX5_mayNotTake_54 (by decide) ?_
        exact g_zret S hr hlk I rfl dX5_mayNotTake_55 (Nat.le_of_ble_eq_true rfl) (Nat.le_of_ble_eq_true rfl) hQ ⟨_, rfl, (by (try simp only [z_6, p_15]); (try simp [nTake, m_hin, b2i, z_6, p_15, c_37])), (by (try simp only [z_6, p_15]); (try simp [nTake, m_hin, b2i, z_6, p_15, c_37]))⟩
      · refine lv_aload_n hx hb dX5_mayNotTake_40 rfl (lv_at hl 0 rfl) ?_
        refine lv_bipush (v := 14) hx hb dX5_mayNotTake_41 (by decide) ?_
        refine lv_iconst (v := 0) hx hb dX5_mayNotTake_43 (by decide) ?_
        refine g_ci (g_runV S hK I (As := [.int 14, .int 0]) (rest := []) (met_X5_hinders l Γ mo ad f a rr ph 14 0) (cwV 2 hts (lw_V q3071 q3073 qs54 q151 q3074) rfl rfl rfl (by decide +kernel) ⟨Nat.le_of_ble_eq_true rfl, Nat.le_of_ble_eq_true rfl⟩) (g_recv hK I (g_at.of mG_obj) (ci := 4) rfl) rfl hl.1 rfl (Nat.le_of_ble_eq_true rfl) dX5_mayNotTake_44 ⟨Nat.le_of_ble_eq_true rfl, Nat.le_of_ble_eq_true rfl⟩) I (fun r_44 ph1 H locs hp I => ?_)
        obtain ⟨hp, rfl⟩ := hp
        have hp : r_44 = b2i true := hp
        subst hp
        have I : g_I Γ (mG Γ mo ad (upd (upd f 3 14) 4 0) a rr ph) s H locs := I
        refine lv_if_eq (tgt := 54) hx hb dX5_mayNotTake_47 (by decide) (fun q => absurd q (by decide)) (fun _ => ?_)
        refine lv_iconst (v := 1) hx hb dX5_mayNotTake_50 (by decide) ?_
        refine lv_goto (tgt := 55) hx hb dX5_mayNotTake_51 (by decide) ?_
        exact g_zret S hr hlk I rfl dX5_mayNotTake_55 (Nat.le_of_ble_eq_true rfl) (Nat.le_of_ble_eq_true rfl) hQ ⟨_, rfl, (by (try simp only [z_6, p_15]); (try simp [nTake, m_hin, b2i, z_6, p_15, c_37])), (by (try simp only [z_6, p_15]); (try simp [nTake, m_hin, b2i, z_6, p_15, c_37]))⟩
    · have p_15 := (b2i_eq0 _).mp c_15
      refine lv_aload_n hx hb dX5_mayNotTake_18 rfl (lv_at hl 0 rfl) ?_
      refine lv_bipush (v := 13) hx hb dX5_mayNotTake_19 (by decide) ?_
      refine lv_iload_n hx hb dX5_mayNotTake_21 rfl (lv_at hl 2 rfl) ?_
      refine g_ci (g_runV S hK I (As := [.int 13, .int p1]) (rest := []) (met_X5_hinders l Γ mo ad f a rr ph 13 p1) (cwV 2 hts (lw_V q3071 q3073 qs54 q151 q3074) rfl rfl rfl (by decide +kernel) ⟨Nat.le_of_ble_eq_true rfl, Nat.le_of_ble_eq_true rfl⟩) (g_recv hK I (g_at.of mG_obj) (ci := 4) rfl) rfl hl.1 rfl (Nat.le_of_ble_eq_true rfl) dX5_mayNotTake_22 ⟨Nat.le_of_ble_eq_true rfl, Nat.le_of_ble_eq_true rfl⟩) I (fun r_22 ph1 H locs hp I => ?_)
      obtain ⟨hp, rfl⟩ := hp
      have hp : r_22 = b2i true := hp
      subst hp
      have I : g_I Γ (mG Γ mo ad (upd (upd f 3 13) 4 p1) a rr ph) s H locs := I
      refine lv_if_ne (tgt := 50) hx hb dX5_mayNotTake_25 (by decide) (fun _ => ?_) (fun q => absurd q (by decide))
      refine lv_iconst (v := 1) hx hb dX5_mayNotTake_50 (by decide) ?_
      refine lv_goto (tgt := 55) hx hb dX5_mayNotTake_51 (by decide) ?_
      exact g_zret S hr hlk I rfl dX5_mayNotTake_55 (Nat.le_of_ble_eq_true rfl) (Nat.le_of_ble_eq_true rfl) hQ ⟨_, rfl, (by (try simp only [z_6, p_15]); (try simp [nTake, m_hin, b2i, z_6, p_15])), (by (try simp only [z_6, p_15]); (try simp [nTake, m_hin, b2i, z_6, p_15]))⟩

set_option maxHeartbeats 4000000 in
set_option maxRecDepth 100000 in
theorem met_X5_mayNotPut (l : Launch) (Γ : g_C) (mo : Nat) (ad : Nat → Nat) (f : Nat → Int32) (a : Nat → Nat → Int32) (rr : Nat → UInt32) (ph : g_H) (p0 : Int32) (p1 : Int32) (h0 : vp_in p0 2) (h1 : vp_in p1 4) : g_Met l yX5_mayNotPut (ws_ yX5_mayNotPut cX5_mayNotPut 3 (some .boolean)) (g_rm 5 0 0) Γ [.ref mo, .int p0, .int p1] (mG Γ mo ad f a rr ph) (g_oi (fun v ph' => v = (b2i ((nPut (a 5) p0 p1).isSome)) ∧ ph' = mG Γ mo ad (m_hin f (nPut (a 5) p0 p1)) a rr ph)) g_no := by
  refine g_start (y := yX5_mayNotPut) (cc := cX5_mayNotPut) (maxL := 3) (ret := (some .boolean)) (rm := g_rm 5 0 0) (by decide) (Nat.le_of_ble_eq_true rfl) ?_
  intro p e s m A below meth c ls Q hQ S hr hlk hex hnm hK I hl
  have hx := S.1
  have hb := S.2.1
  have hown := S.2.2.2.1
  have hts := S.2.2.2.2
  have S : CallFix p m c cX5_mayNotPut 3 s A lw_all "CrumblingWallModel" := S
  have hl : lv_has ls 3 [(0, .ref mo), (1, .int p0), (2, .int p1)] := hl
  refine lv_aload_n hx hb dX5_mayNotPut_0 rfl (lv_at hl 0 rfl) ?_
  refine lv_iload_n hx hb dX5_mayNotPut_1 rfl (lv_at hl 1 rfl) ?_
  refine lv_iconst (v := 1) hx hb dX5_mayNotPut_2 (by decide) ?_
  refine g_ci (g_runV S hK I (As := [.int p0, .int 1]) (rest := []) (met_X5_mayNotAct l Γ mo ad f a rr ph p0 1 h0) (cwV 2 hts (lw_V q3177 q3179 qs74 q151 q3180) rfl rfl rfl (by decide +kernel) ⟨Nat.le_of_ble_eq_true rfl, Nat.le_of_ble_eq_true rfl⟩) (g_recv hK I (g_at.of mG_obj) (ci := 4) rfl) rfl hl.1 rfl (Nat.le_of_ble_eq_true rfl) dX5_mayNotPut_3 ⟨Nat.le_of_ble_eq_true rfl, Nat.le_of_ble_eq_true rfl⟩) I (fun r_3 ph1 H locs hp I => ?_)
  obtain ⟨hp, rfl⟩ := hp
  have hp : r_3 = b2i ((nAct (a 5) p0 true).isSome) := hp
  subst hp
  have I : g_I Γ (mG Γ mo ad (m_hin f (nAct (a 5) p0 true)) a rr ph) s H locs := I
  refine lv_if_ne (tgt := 29) hx hb dX5_mayNotPut_6 (by decide) (fun c_6 => ?_) (fun c_6 => ?_)
  · have p_6 := (b2i_ne0 _).mp c_6
    obtain ⟨q_6, hq_6⟩ := wk_some p_6
    refine lv_iconst (v := 1) hx hb dX5_mayNotPut_29 (by decide) ?_
    refine lv_goto (tgt := 34) hx hb dX5_mayNotPut_30 (by decide) ?_
    exact g_zret S hr hlk I rfl dX5_mayNotPut_34 (Nat.le_of_ble_eq_true rfl) (Nat.le_of_ble_eq_true rfl) hQ ⟨_, rfl, (by (try simp only [p_6, hq_6]); (try simp [nPut, m_hin, b2i, p_6, hq_6])), (by (try simp only [p_6, hq_6]); (try simp [nPut, m_hin, b2i, p_6, hq_6]))⟩
  · have p_6 := (b2i_eq0 _).mp c_6
    have z_6 := wk_none p_6
    have I := mI_ef I (show _ = f from by rw [z_6]; rfl)
    refine lv_aload_n hx hb dX5_mayNotPut_9 rfl (lv_at hl 0 rfl) ?_
    refine lv_iload_n hx hb dX5_mayNotPut_10 rfl (lv_at hl 2 rfl) ?_
    refine lv_iconst (v := 1) hx hb dX5_mayNotPut_11 (by decide) ?_
    refine g_ci (g_runV S hK I (As := [.int p1, .int 1]) (rest := []) (met_X5_ofLamp l Γ mo ad f a rr ph p1 1 h1 (vp_lit (by decide))) (cwV 2 hts (lw_V q3130 q3132 qs66 q151 q3133) rfl rfl rfl (by decide +kernel) ⟨Nat.le_of_ble_eq_true rfl, Nat.le_of_ble_eq_true rfl⟩) (g_recv hK I (g_at.of mG_obj) (ci := 4) rfl) rfl hl.1 rfl (Nat.le_of_ble_eq_true rfl) dX5_mayNotPut_12 ⟨Nat.le_of_ble_eq_true rfl, Nat.le_of_ble_eq_true rfl⟩) I (fun r_12 ph1 H locs hp I => ?_)
    obtain ⟨hp, rfl⟩ := hp
    have hp : r_12 = lX (a 5) p1 1 := hp
    subst hp
    refine lv_iload_n hx hb dX5_mayNotPut_15 rfl (lv_at hl 1 rfl) ?_
    refine lv_icmp_eq (tgt := 33) hx hb dX5_mayNotPut_16 (by decide) (fun c_16 => ?_) (fun c_16 => ?_)
    · refine lv_iconst (v := 0) hx hb dX5_mayNotPut_33 (by decide) ?_
      exact g_zret S hr hlk I rfl dX5_mayNotPut_34 (Nat.le_of_ble_eq_true rfl) (Nat.le_of_ble_eq_true rfl) hQ ⟨_, rfl, (by (try simp only [z_6]); (try simp [nPut, m_hin, b2i, z_6, c_16])), (by (try simp only [z_6]); (try simp [nPut, m_hin, b2i, z_6, c_16]))⟩
    · refine lv_aload_n hx hb dX5_mayNotPut_19 rfl (lv_at hl 0 rfl) ?_
      refine lv_bipush (v := 13) hx hb dX5_mayNotPut_20 (by decide) ?_
      refine lv_iload_n hx hb dX5_mayNotPut_22 rfl (lv_at hl 2 rfl) ?_
      refine g_ci (g_runV S hK I (As := [.int 13, .int p1]) (rest := []) (met_X5_hinders l Γ mo ad f a rr ph 13 p1) (cwV 2 hts (lw_V q3071 q3073 qs54 q151 q3074) rfl rfl rfl (by decide +kernel) ⟨Nat.le_of_ble_eq_true rfl, Nat.le_of_ble_eq_true rfl⟩) (g_recv hK I (g_at.of mG_obj) (ci := 4) rfl) rfl hl.1 rfl (Nat.le_of_ble_eq_true rfl) dX5_mayNotPut_23 ⟨Nat.le_of_ble_eq_true rfl, Nat.le_of_ble_eq_true rfl⟩) I (fun r_23 ph1 H locs hp I => ?_)
      obtain ⟨hp, rfl⟩ := hp
      have hp : r_23 = b2i true := hp
      subst hp
      have I : g_I Γ (mG Γ mo ad (upd (upd f 3 13) 4 p1) a rr ph) s H locs := I
      refine lv_if_eq (tgt := 33) hx hb dX5_mayNotPut_26 (by decide) (fun q => absurd q (by decide)) (fun _ => ?_)
      refine lv_iconst (v := 1) hx hb dX5_mayNotPut_29 (by decide) ?_
      refine lv_goto (tgt := 34) hx hb dX5_mayNotPut_30 (by decide) ?_
      exact g_zret S hr hlk I rfl dX5_mayNotPut_34 (Nat.le_of_ble_eq_true rfl) (Nat.le_of_ble_eq_true rfl) hQ ⟨_, rfl, (by (try simp only [z_6]); (try simp [nPut, m_hin, b2i, z_6, c_16])), (by (try simp only [z_6]); (try simp [nPut, m_hin, b2i, z_6, c_16]))⟩

set_option maxHeartbeats 4000000 in
set_option maxRecDepth 100000 in
theorem met_X5_mayNotLight (l : Launch) (Γ : g_C) (mo : Nat) (ad : Nat → Nat) (f : Nat → Int32) (a : Nat → Nat → Int32) (rr : Nat → UInt32) (ph : g_H) (p0 : Int32) (p1 : Int32) (h0 : vp_in p0 2) (h1 : vp_in p1 4) : g_Met l yX5_mayNotLight (ws_ yX5_mayNotLight cX5_mayNotLight 4 (some .boolean)) (g_rm 5 0 0) Γ [.ref mo, .int p0, .int p1] (mG Γ mo ad f a rr ph) (g_oi (fun v ph' => v = (b2i ((nLight (a 5) p0 p1).isSome)) ∧ ph' = mG Γ mo ad (m_hin f (nLight (a 5) p0 p1)) a rr ph)) g_no := by
  refine g_start (y := yX5_mayNotLight) (cc := cX5_mayNotLight) (maxL := 4) (ret := (some .boolean)) (rm := g_rm 5 0 0) (by decide) (Nat.le_of_ble_eq_true rfl) ?_
  intro p e s m A below meth c ls Q hQ S hr hlk hex hnm hK I hl
  have hx := S.1
  have hb := S.2.1
  have hown := S.2.2.2.1
  have hts := S.2.2.2.2
  have S : CallFix p m c cX5_mayNotLight 4 s A lw_all "CrumblingWallModel" := S
  have hl : lv_has ls 4 [(0, .ref mo), (1, .int p0), (2, .int p1)] := hl
  refine lv_aload_n hx hb dX5_mayNotLight_0 rfl (lv_at hl 0 rfl) ?_
  refine lv_iload_n hx hb dX5_mayNotLight_1 rfl (lv_at hl 2 rfl) ?_
  refine lv_iconst (v := 1) hx hb dX5_mayNotLight_2 (by decide) ?_
  refine g_ci (g_runV S hK I (As := [.int p1, .int 1]) (rest := []) (met_X5_ofLamp l Γ mo ad f a rr ph p1 1 h1 (vp_lit (by decide))) (cwV 2 hts (lw_V q3130 q3132 qs66 q151 q3133) rfl rfl rfl (by decide +kernel) ⟨Nat.le_of_ble_eq_true rfl, Nat.le_of_ble_eq_true rfl⟩) (g_recv hK I (g_at.of mG_obj) (ci := 4) rfl) rfl hl.1 rfl (Nat.le_of_ble_eq_true rfl) dX5_mayNotLight_3 ⟨Nat.le_of_ble_eq_true rfl, Nat.le_of_ble_eq_true rfl⟩) I (fun r_3 ph1 H locs hp I => ?_)
  obtain ⟨hp, rfl⟩ := hp
  have hp : r_3 = lX (a 5) p1 1 := hp
  subst hp
  refine lv_iload_n hx hb dX5_mayNotLight_6 rfl (lv_at hl 1 rfl) ?_
  have J_24_0 : ∀ (x1 : Int32) (H : Heap) (locs : List Loc) (ls : Array Slot), (hx1 : x1 = (b2i (decide (lX (a 5) p1 1 = p0) || lies (a 5) p0 p1))) → g_I Γ (mG Γ mo ad f a rr ph) s H locs → lv_has ls 4 [(0, .ref mo), (1, .int p0), (2, .int p1)] → W p l e (g_rm 5 0 0) s m A below meth c H locs 0 0 Q (F0 m 24 ls [.int x1]) := by
    intro x1 H locs ls hx1 I hl
    subst hx1
    refine lv_istore_n (lv' := [(3, .int (b2i (decide (lX (a 5) p1 1 = p0) || lies (a 5) p0 p1))), (0, .ref mo), (1, .int p0), (2, .int p1)]) hx hb dX5_mayNotLight_24 rfl hl (by decide) rfl (fun ls hl => ?_)
    refine lv_aload_n hx hb dX5_mayNotLight_25 rfl (lv_at hl 1 rfl) ?_
    refine lv_iload_n hx hb dX5_mayNotLight_26 rfl (lv_at hl 2 rfl) ?_
    refine lv_iconst (v := 0) hx hb dX5_mayNotLight_27 (by decide) ?_
    refine g_ci (g_runV S hK I (As := [.int p0, .int 0]) (rest := []) (met_X5_mayNotAct l Γ mo ad f a rr ph p0 0 h0) (cwV 2 hts (lw_V q3177 q3179 qs74 q151 q3180) rfl rfl rfl (by decide +kernel) ⟨Nat.le_of_ble_eq_true rfl, Nat.le_of_ble_eq_true rfl⟩) (g_recv hK I (g_at.of mG_obj) (ci := 4) rfl) rfl hl.1 rfl (Nat.le_of_ble_eq_true rfl) dX5_mayNotLight_28 ⟨Nat.le_of_ble_eq_true rfl, Nat.le_of_ble_eq_true rfl⟩) I (fun r_28 ph1 H locs hp I => ?_)
    obtain ⟨hp, rfl⟩ := hp
    have hp : r_28 = b2i ((nAct (a 5) p0 false).isSome) := hp
    subst hp
    have I : g_I Γ (mG Γ mo ad (m_hin f (nAct (a 5) p0 false)) a rr ph) s H locs := I
    refine lv_if_ne (tgt := 76) hx hb dX5_mayNotLight_31 (by decide) (fun c_31 => ?_) (fun c_31 => ?_)
    · have p_31 := (b2i_ne0 _).mp c_31
      obtain ⟨q_31, hq_31⟩ := wk_some p_31
      refine lv_iconst (v := 1) hx hb dX5_mayNotLight_76 (by decide) ?_
      refine lv_goto (tgt := 81) hx hb dX5_mayNotLight_77 (by decide) ?_
      exact g_zret S hr hlk I rfl dX5_mayNotLight_81 (Nat.le_of_ble_eq_true rfl) (Nat.le_of_ble_eq_true rfl) hQ ⟨_, rfl, (by (try simp only [p_31, hq_31]); (try simp [nLight, m_hin, b2i, p_31, hq_31])), (by (try simp only [p_31, hq_31]); (try simp [nLight, m_hin, b2i, p_31, hq_31]))⟩
    · have p_31 := (b2i_eq0 _).mp c_31
      have z_31 := wk_none p_31
      have I := mI_ef I (show _ = f from by rw [z_31]; rfl)
      refine lv_iload_n hx hb dX5_mayNotLight_34 rfl (lv_at hl 0 rfl) ?_
      refine lv_if_ne (tgt := 48) hx hb dX5_mayNotLight_35 (by decide) (fun c_35 => ?_) (fun c_35 => ?_)
      · have p_35 := (b2i_ne0 _).mp c_35
        refine lv_aload_n hx hb dX5_mayNotLight_48 rfl (lv_at hl 1 rfl) ?_
        refine lv_iload_n hx hb dX5_mayNotLight_49 rfl (lv_at hl 3 rfl) ?_
        refine lv_iconst (v := 4) hx hb dX5_mayNotLight_50 (by decide) ?_
        refine g_ci (g_runV S hK I (As := [.int p1, .int 4]) (rest := []) (met_X5_ofLamp l Γ mo ad f a rr ph p1 4 h1 (vp_lit (by decide))) (cwV 2 hts (lw_V q3130 q3132 qs66 q151 q3133) rfl rfl rfl (by decide +kernel) ⟨Nat.le_of_ble_eq_true rfl, Nat.le_of_ble_eq_true rfl⟩) (g_recv hK I (g_at.of mG_obj) (ci := 4) rfl) rfl hl.1 rfl (Nat.le_of_ble_eq_true rfl) dX5_mayNotLight_51 ⟨Nat.le_of_ble_eq_true rfl, Nat.le_of_ble_eq_true rfl⟩) I (fun r_51 ph1 H locs hp I => ?_)
        obtain ⟨hp, rfl⟩ := hp
        have hp : r_51 = lX (a 5) p1 4 := hp
        subst hp
        refine lv_if_ne (tgt := 80) hx hb dX5_mayNotLight_54 (by decide) (fun c_54 => ?_) (fun c_54 => ?_)
        · refine lv_iconst (v := 0) hx hb dX5_mayNotLight_80 (by decide) ?_
          exact g_zret S hr hlk I rfl dX5_mayNotLight_81 (Nat.le_of_ble_eq_true rfl) (Nat.le_of_ble_eq_true rfl) hQ ⟨_, rfl, (by (try simp only [z_31, p_35]); (try simp [nLight, m_hin, b2i, z_31, p_35, c_54])), (by (try simp only [z_31, p_35]); (try simp [nLight, m_hin, b2i, z_31, p_35, c_54]))⟩
        · refine lv_aload_n hx hb dX5_mayNotLight_57 rfl (lv_at hl 1 rfl) ?_
          refine lv_iload_n hx hb dX5_mayNotLight_58 rfl (lv_at hl 3 rfl) ?_
          refine lv_iconst (v := 3) hx hb dX5_mayNotLight_59 (by decide) ?_
          refine g_ci (g_runV S hK I (As := [.int p1, .int 3]) (rest := []) (met_X5_ofLamp l Γ mo ad f a rr ph p1 3 h1 (vp_lit (by decide))) (cwV 2 hts (lw_V q3130 q3132 qs66 q151 q3133) rfl rfl rfl (by decide +kernel) ⟨Nat.le_of_ble_eq_true rfl, Nat.le_of_ble_eq_true rfl⟩) (g_recv hK I (g_at.of mG_obj) (ci := 4) rfl) rfl hl.1 rfl (Nat.le_of_ble_eq_true rfl) dX5_mayNotLight_60 ⟨Nat.le_of_ble_eq_true rfl, Nat.le_of_ble_eq_true rfl⟩) I (fun r_60 ph1 H locs hp I => ?_)
          obtain ⟨hp, rfl⟩ := hp
          have hp : r_60 = lX (a 5) p1 3 := hp
          subst hp
          refine lv_if_ne (tgt := 80) hx hb dX5_mayNotLight_63 (by decide) (fun c_63 => ?_) (fun c_63 => ?_)
          · refine lv_iconst (v := 0) hx hb dX5_mayNotLight_80 (by decide) ?_
            exact g_zret S hr hlk I rfl dX5_mayNotLight_81 (Nat.le_of_ble_eq_true rfl) (Nat.le_of_ble_eq_true rfl) hQ ⟨_, rfl, (by (try simp only [z_31, p_35]); (try simp [nLight, m_hin, b2i, z_31, p_35, c_54, c_63])), (by (try simp only [z_31, p_35]); (try simp [nLight, m_hin, b2i, z_31, p_35, c_54, c_63]))⟩
          · refine lv_aload_n hx hb dX5_mayNotLight_66 rfl (lv_at hl 1 rfl) ?_
            refine lv_bipush (v := 15) hx hb dX5_mayNotLight_67 (by decide) ?_
            refine lv_iconst (v := 0) hx hb dX5_mayNotLight_69 (by decide) ?_
            refine g_ci (g_runV S hK I (As := [.int 15, .int 0]) (rest := []) (met_X5_hinders l Γ mo ad f a rr ph 15 0) (cwV 2 hts (lw_V q3071 q3073 qs54 q151 q3074) rfl rfl rfl (by decide +kernel) ⟨Nat.le_of_ble_eq_true rfl, Nat.le_of_ble_eq_true rfl⟩) (g_recv hK I (g_at.of mG_obj) (ci := 4) rfl) rfl hl.1 rfl (Nat.le_of_ble_eq_true rfl) dX5_mayNotLight_70 ⟨Nat.le_of_ble_eq_true rfl, Nat.le_of_ble_eq_true rfl⟩) I (fun r_70 ph1 H locs hp I => ?_)
            obtain ⟨hp, rfl⟩ := hp
            have hp : r_70 = b2i true := hp
            subst hp
            have I : g_I Γ (mG Γ mo ad (upd (upd f 3 15) 4 0) a rr ph) s H locs := I
            refine lv_if_eq (tgt := 80) hx hb dX5_mayNotLight_73 (by decide) (fun q => absurd q (by decide)) (fun _ => ?_)
            refine lv_iconst (v := 1) hx hb dX5_mayNotLight_76 (by decide) ?_
            refine lv_goto (tgt := 81) hx hb dX5_mayNotLight_77 (by decide) ?_
            exact g_zret S hr hlk I rfl dX5_mayNotLight_81 (Nat.le_of_ble_eq_true rfl) (Nat.le_of_ble_eq_true rfl) hQ ⟨_, rfl, (by (try simp only [z_31, p_35]); (try simp [nLight, m_hin, b2i, z_31, p_35, c_54, c_63])), (by (try simp only [z_31, p_35]); (try simp [nLight, m_hin, b2i, z_31, p_35, c_54, c_63]))⟩
      · have p_35 := (b2i_eq0 _).mp c_35
        refine lv_aload_n hx hb dX5_mayNotLight_38 rfl (lv_at hl 1 rfl) ?_
        refine lv_bipush (v := 13) hx hb dX5_mayNotLight_39 (by decide) ?_
        refine lv_iload_n hx hb dX5_mayNotLight_41 rfl (lv_at hl 3 rfl) ?_
        refine g_ci (g_runV S hK I (As := [.int 13, .int p1]) (rest := []) (met_X5_hinders l Γ mo ad f a rr ph 13 p1) (cwV 2 hts (lw_V q3071 q3073 qs54 q151 q3074) rfl rfl rfl (by decide +kernel) ⟨Nat.le_of_ble_eq_true rfl, Nat.le_of_ble_eq_true rfl⟩) (g_recv hK I (g_at.of mG_obj) (ci := 4) rfl) rfl hl.1 rfl (Nat.le_of_ble_eq_true rfl) dX5_mayNotLight_42 ⟨Nat.le_of_ble_eq_true rfl, Nat.le_of_ble_eq_true rfl⟩) I (fun r_42 ph1 H locs hp I => ?_)
        obtain ⟨hp, rfl⟩ := hp
        have hp : r_42 = b2i true := hp
        subst hp
        have I : g_I Γ (mG Γ mo ad (upd (upd f 3 13) 4 p1) a rr ph) s H locs := I
        refine lv_if_ne (tgt := 76) hx hb dX5_mayNotLight_45 (by decide) (fun _ => ?_) (fun q => absurd q (by decide))
        refine lv_iconst (v := 1) hx hb dX5_mayNotLight_76 (by decide) ?_
        refine lv_goto (tgt := 81) hx hb dX5_mayNotLight_77 (by decide) ?_
        exact g_zret S hr hlk I rfl dX5_mayNotLight_81 (Nat.le_of_ble_eq_true rfl) (Nat.le_of_ble_eq_true rfl) hQ ⟨_, rfl, (by (try simp only [z_31, p_35]); (try simp [nLight, m_hin, b2i, z_31, p_35])), (by (try simp only [z_31, p_35]); (try simp [nLight, m_hin, b2i, z_31, p_35]))⟩
  refine lv_icmp_eq (tgt := 19) hx hb dX5_mayNotLight_7 (by decide) (fun c_7 => ?_) (fun c_7 => ?_)
  · refine lv_iconst (v := 1) hx hb dX5_mayNotLight_19 (by decide) ?_
    refine lv_goto (tgt := 24) hx hb dX5_mayNotLight_20 (by decide) ?_
    exact J_24_0 1 _ _ _ (by simp [b2i, c_7]) I (lv_sub hl [0, 1, 2] rfl)
  · refine lv_aload_n hx hb dX5_mayNotLight_10 rfl (lv_at hl 0 rfl) ?_
    refine lv_iload_n hx hb dX5_mayNotLight_11 rfl (lv_at hl 1 rfl) ?_
    refine lv_iload_n hx hb dX5_mayNotLight_12 rfl (lv_at hl 2 rfl) ?_
    refine g_ci (g_runV S hK I (As := [.int p0, .int p1]) (rest := []) (met_X5_liesWith l Γ mo ad f a rr ph p0 p1 h0 h1) (cwV 2 hts (lw_V q3344 q3346 qs100 q151 q3347) rfl rfl rfl (by decide +kernel) ⟨Nat.le_of_ble_eq_true rfl, Nat.le_of_ble_eq_true rfl⟩) (g_recv hK I (g_at.of mG_obj) (ci := 4) rfl) rfl hl.1 rfl (Nat.le_of_ble_eq_true rfl) dX5_mayNotLight_13 ⟨Nat.le_of_ble_eq_true rfl, Nat.le_of_ble_eq_true rfl⟩) I (fun r_13 ph1 H locs hp I => ?_)
    obtain ⟨hp, rfl⟩ := hp
    have hp : r_13 = b2i (lies (a 5) p0 p1) := hp
    subst hp
    refine lv_if_eq (tgt := 23) hx hb dX5_mayNotLight_16 (by decide) (fun c_16 => ?_) (fun c_16 => ?_)
    · have p_16 := (b2i_eq0 _).mp c_16
      refine lv_iconst (v := 0) hx hb dX5_mayNotLight_23 (by decide) ?_
      exact J_24_0 0 _ _ _ (by simp [b2i, c_7, p_16]) I (lv_sub hl [0, 1, 2] rfl)
    · have p_16 := (b2i_ne0 _).mp c_16
      refine lv_iconst (v := 1) hx hb dX5_mayNotLight_19 (by decide) ?_
      refine lv_goto (tgt := 24) hx hb dX5_mayNotLight_20 (by decide) ?_
      exact J_24_0 1 _ _ _ (by simp [b2i, c_7, p_16]) I (lv_sub hl [0, 1, 2] rfl)


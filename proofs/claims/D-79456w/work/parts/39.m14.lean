/-! THE REFERENCE: least rests, least moves -/
set_option maxRecDepth 100000
theorem b_int {x : Nat} (hx : x ≤ 100) : (nI x - 1).toInt = (x : Int) - 1 := by
  have h := lf_int (x := x) (d := 0) (l := 0) hx (by decide) (by decide)
  rw [show nI x - 1 - nI 0 - nI 0 = nI x - 1 from by rw [show nI 0 = 0 from rfl, Int32.sub_zero, Int32.sub_zero]] at h
  rw [h]
  omega
theorem lf_val {x d l : Nat} (hx : x ≤ 100) (hd : d ≤ 100) (hl : l ≤ 100) (h : d + l < x) : nI x - 1 - nI d - nI l = nI (x - (d + l)) - 1 := by
  refine Int32.toInt_inj.mp ?_
  rw [lf_int hx hd hl, b_int (by omega)]
  omega
theorem sp_snd {w : m_w} {L : Nat} {P : Nat → Nat → Prop} {B : Nat → Nat} {i j : Nat} (hC : mvC1 w L P) (h : snd w P B) (hi : i ≤ nN w) (hj : j ≤ nN w) (hy : wyN w i j = true) (hd : dN w i j + L < B i) : snd w P (uN B j (B i - (dN w i j + L))) := by
  intro k hk g hg
  unfold uN at hg
  by_cases e : k = j
  · rw [if_pos e] at hg
    subst e
    have h1 := hC i (B i - 1) k (h i hi (B i - 1) (by omega)) hi hj hy (by omega)
    rw [show B i - 1 - (dN w i k + L) = g by omega] at h1
    exact h1
  · rw [if_neg e] at hg
    exact h k hk g hg
theorem sp_ge {B B3 : Nat → Nat} {j v : Nat} (h : ∀ i, i ≤ 20 → B i ≤ B3 i) (hv : B3 j < v) : ∀ i, i ≤ 20 → B i ≤ uN B3 j v i := by
  intro i hi
  have := h i hi
  unfold uN
  by_cases e : i = j
  · subst e; rw [if_pos rfl]; omega
  · rw [if_neg e]; exact this
set_option maxHeartbeats 4000000 in
set_option maxRecDepth 100000 in
theorem met_X5_spreads (l : Launch) (Γ : g_C) (mo : Nat) (ad : Nat → Nat) (f : Nat → Int32) (a : Nat → Nat → Int32) (rr : Nat → UInt32) (ph : g_H) (L : Nat) (B : Nat → Nat) (P : Nat → Nat → Prop)  (p0 : Int32) (hw : WF (a 5)) (hL0 : p0 = nI L) (hL20 : L ≤ 20) (hB : bOk (a 14) B) (hS : snd (a 5) P B) (hC : mvC1 (a 5) L P) : g_Met l yX5_spreads (ws_ yX5_spreads cX5_spreads 6 none) (g_rm 6 0 0) Γ [.ref mo, .int p0] (mG Γ mo ad f a rr ph) (g_ov (fun ph' => ∃ b' B', ph' = mG Γ mo ad f (va_up a 14 b') rr ph ∧ bOk b' B' ∧ snd (a 5) P B' ∧ (∀ i, i ≤ 20 → B i ≤ B' i) ∧ stab (a 5) L B')) g_no := by
  refine g_start (y := yX5_spreads) (cc := cX5_spreads) (maxL := 6) (ret := none) (rm := g_rm 6 0 0) (by decide) (Nat.le_of_ble_eq_true rfl) ?_
  intro p e s m A below meth c ls Q hQ S hr hlk hex hnm hK I hl
  have hx := S.1
  have hb := S.2.1
  have hown := S.2.2.2.1
  have hts := S.2.2.2.2
  have S : CallFix p m c cX5_spreads 6 s A lw_all "CrumblingWallModel" := S
  have hl : lv_has ls 6 [(0, .ref mo), (1, .int p0)] := hl
  have hN20 := hw.1.2
  refine lv_iconst (v := 1) hx hb dX5_spreads_0 (by decide) ?_
  refine lv_istore_n (lv' := [(2, .int 1), (0, .ref mo), (1, .int p0)]) hx hb dX5_spreads_1 rfl hl (by decide) rfl (fun ls hl => ?_)
  have I := mI_ea I (va_upI a 14 (v := a 14) rfl).symm
  have L_2 : ∀ (d2 : Nat) (b1 : Nat → Int32) (B1 : Nat → Nat) (m1 : Bool), (hB1 : bOk b1 B1) → (hs1 : snd (a 5) P B1) → (hg1 : ∀ i, i ≤ 20 → B i ≤ B1 i) → (hst1 : m1 = false → stab (a 5) L B1) → (sT B1 21) + (if m1 = true then 1 else 0) < d2 → ∀ (H : Heap) (locs : List Loc) (ls : Array Slot), g_I Γ (mG Γ mo ad f (va_up a 14 b1) rr ph) s H locs → lv_has ls 6 [(0, .ref mo), (1, .int p0), (2, .int (b2i m1))] → W p l e (g_rm 6 0 0) s m A below meth c H locs 0 0 Q (F0 m 2 ls []) := by
    intro d2
    induction d2 with
    | zero => intro b1 B1 m1 hB1 hs1 hg1 hst1 hd; exact absurd hd (Nat.not_lt_zero _)
    | succ d2 ih2 =>
      intro b1 B1 m1 hB1 hs1 hg1 hst1 hd2 H locs ls I hl
      refine lv_iload_n hx hb dX5_spreads_2 rfl (lv_at hl 2 rfl) ?_
      refine lv_if_eq (tgt := 128) hx hb dX5_spreads_3 (by decide) (fun c_3 => ?_) (fun c_3 => ?_)
      · have p_3 := (b2i_eq0 _).mp c_3
        exact g_vret S hr hlk I dX5_spreads_128 (Nat.le_of_ble_eq_true rfl) (Nat.le_of_ble_eq_true rfl) hQ ⟨rfl, ⟨b1, B1, rfl, hB1, hs1, hg1, hst1 p_3⟩⟩
      · have p_3 := (b2i_ne0 _).mp c_3
        refine lv_iconst (v := 0) hx hb dX5_spreads_6 (by decide) ?_
        refine lv_istore_n (lv' := [(2, .int 0), (0, .ref mo), (1, .int p0)]) hx hb dX5_spreads_7 rfl hl (by decide) rfl (fun ls hl => ?_)
        refine lv_iconst (v := (-1)) hx hb dX5_spreads_8 (by decide) ?_
        refine lv_istore_n (lv' := [(3, .int (-1)), (2, .int 0), (0, .ref mo), (1, .int p0)]) hx hb dX5_spreads_9 rfl hl (by decide) rfl (fun ls hl => ?_)
        have L_10 : ∀ (d10 : Nat) (b2 : Nat → Int32) (B2 : Nat → Nat) (m2 : Bool) (i : Nat), (hB2 : bOk b2 B2) → (hs2 : snd (a 5) P B2) → (hg2 : ∀ i, i ≤ 20 → B i ≤ B2 i) → (hT2 : (sT B2 21) + (if m2 = true then 1 else 0) ≤ (sT B1 21)) → (hi : i ≤ nN (a 5) + 1) → (hst2 : m2 = false → ∀ i9, i9 < i → ∀ j9, j9 ≤ nN (a 5) → stA (a 5) L B2 i9 j9) → nN (a 5) + 1 - i < d10 → ∀ (H : Heap) (locs : List Loc) (ls : Array Slot), g_I Γ (mG Γ mo ad f (va_up a 14 b2) rr ph) s H locs → lv_has ls 6 [(0, .ref mo), (1, .int p0), (2, .int (b2i m2)), (3, .int (pI i))] → W p l e (g_rm 6 0 0) s m A below meth c H locs 0 0 Q (F0 m 10 ls []) := by
          intro d10
          induction d10 with
          | zero => intro b2 B2 m2 i hB2 hs2 hg2 hT2 hi hst2 hd; exact absurd hd (Nat.not_lt_zero _)
          | succ d10 ih10 =>
            intro b2 B2 m2 i hB2 hs2 hg2 hT2 hi hst2 hd10 H locs ls I hl
            refine lv_iload_n hx hb dX5_spreads_10 rfl (lv_at hl 3 rfl) ?_
            refine lv_aload_n hx hb dX5_spreads_11 rfl (lv_at hl 0 rfl) ?_
            refine g_get S hK I k_X5 (v := .ref (ad 5)) (g_at.of mG_obj) 5 (by decide) q2957 rfl rfl dX5_spreads_12 ?_
            refine lv_iconst (v := 0) hx hb dX5_spreads_15 (by decide) ?_
            refine m_iald S hK I (f := (a 5)) (k := 0) (g_at.of mG_5) (vp_lit (by decide)) (by decide) dX5_spreads_16 ?_
            refine lv_icmp_ge (tgt := 125) hx hb dX5_spreads_17 (by decide) (fun c_17 => ?_) (fun c_17 => ?_)
            · have n_17 := Int32.not_lt.mpr c_17
              have hiN := (pI_lt hw (i := i) (by omega)).mp c_17
              have hie : i = nN (a 5) + 1 := by omega
              refine lv_goto (tgt := 2) hx hb dX5_spreads_125 (by decide) ?_
              exact ih2 b2 B2 m2 hB2 hs2 hg2 (fun q i hi j hj => hst2 q i (by omega) j hj) (by rw [p_3, if_pos rfl] at hd2; omega) _ _ _ I (lv_sub hl [0, 1, 2] rfl)
            · have n_17 := Int32.not_le.mp c_17
              have hin : i + 1 ≤ nN (a 5) + 1 := by have := mt (pI_lt hw (i := i) (by omega)).mpr c_17; omega
              have hi20 : i ≤ 20 := by omega
              refine lv_iconst (v := (-1)) hx hb dX5_spreads_20 (by decide) ?_
              refine lv_istore (lv' := [(4, .int (-1)), (0, .ref mo), (1, .int p0), (2, .int (b2i m2)), (3, .int (pI i))]) hx hb dX5_spreads_21 hl (by decide) rfl (fun ls hl => ?_)
              have L_23 : ∀ (d23 : Nat) (b3 : Nat → Int32) (B3 : Nat → Nat) (m3 : Bool) (j : Nat), (hB3 : bOk b3 B3) → (hs3 : snd (a 5) P B3) → (hg3 : ∀ i, i ≤ 20 → B i ≤ B3 i) → (hT3 : (sT B3 21) + (if m3 = true then 1 else 0) ≤ (sT B1 21)) → (hj : j ≤ nN (a 5) + 1) → (hst3 : m3 = false → (∀ i9, i9 < i → ∀ j9, j9 ≤ nN (a 5) → stA (a 5) L B3 i9 j9) ∧ ∀ j9, j9 < j → stA (a 5) L B3 i j9) → nN (a 5) + 1 - j < d23 → ∀ (H : Heap) (locs : List Loc) (ls : Array Slot), g_I Γ (mG Γ mo ad f (va_up a 14 b3) rr ph) s H locs → lv_has ls 6 [(0, .ref mo), (1, .int p0), (2, .int (b2i m3)), (3, .int (pI i)), (4, .int (pI j))] → W p l e (g_rm 6 0 0) s m A below meth c H locs 0 0 Q (F0 m 23 ls []) := by
                intro d23
                induction d23 with
                | zero => intro b3 B3 m3 j hB3 hs3 hg3 hT3 hj hst3 hd; exact absurd hd (Nat.not_lt_zero _)
                | succ d23 ih23 =>
                  intro b3 B3 m3 j hB3 hs3 hg3 hT3 hj hst3 hd23 H locs ls I hl
                  refine lv_iload hx hb dX5_spreads_23 (lv_at hl 4 rfl) ?_
                  refine lv_aload_n hx hb dX5_spreads_25 rfl (lv_at hl 0 rfl) ?_
                  refine g_get S hK I k_X5 (v := .ref (ad 5)) (g_at.of mG_obj) 5 (by decide) q2957 rfl rfl dX5_spreads_26 ?_
                  refine lv_iconst (v := 0) hx hb dX5_spreads_29 (by decide) ?_
                  refine m_iald S hK I (f := (a 5)) (k := 0) (g_at.of mG_5) (vp_lit (by decide)) (by decide) dX5_spreads_30 ?_
                  refine lv_icmp_ge (tgt := 119) hx hb dX5_spreads_31 (by decide) (fun c_31 => ?_) (fun c_31 => ?_)
                  · have n_31 := Int32.not_lt.mpr c_31
                    have hjN := (pI_lt hw (i := j) (by omega)).mp c_31
                    have hje : j = nN (a 5) + 1 := by omega
                    refine lv_iinc (v := pI (i + 1)) (lv' := [(3, .int (pI (i + 1))), (0, .ref mo), (1, .int p0), (2, .int (b2i m3)), (4, .int (pI j))]) hx hb dX5_spreads_119 hl (k := 3) rfl (pI_1 i) (by decide) rfl (fun ls hl => ?_)
                    refine lv_goto (tgt := 10) hx hb dX5_spreads_122 (by decide) ?_
                    exact ih10 b3 B3 m3 (i + 1) hB3 hs3 hg3 hT3 hin (fun q i9 h9 j9 g9 => (Nat.lt_succ_iff_lt_or_eq.mp h9).elim (fun z => (hst3 q).1 i9 z j9 g9) (fun z => by subst z; exact (hst3 q).2 j9 (by omega))) (by omega) _ _ _ I (lv_sub hl [1, 2, 3, 0] rfl)
                  · have n_31 := Int32.not_le.mp c_31
                    have hjn : j + 1 ≤ nN (a 5) + 1 := by have := mt (pI_lt hw (i := j) (by omega)).mpr c_31; omega
                    have hj20 : j ≤ 20 := by omega
                    have hj9 : j ≤ nN (a 5) := by omega
                    have hBi := (hB3 i hi20).2
                    have hBj := (hB3 j hj20).2
                    refine lv_aload_n hx hb dX5_spreads_34 rfl (lv_at hl 0 rfl) ?_
                    refine g_get S hK I k_X5 (v := .ref (ad 14)) (g_at.of mG_obj) 14 (by decide) q2966 rfl rfl dX5_spreads_35 ?_
                    refine lv_iload_n hx hb dX5_spreads_38 rfl (lv_at hl 3 rfl) ?_
                    refine lv_iconst (v := 1) hx hb dX5_spreads_39 (by decide) ?_
                    refine lv_iadd hx hb dX5_spreads_40 ?_
                    refine m_iald S hK I (f := b3) (k := i) (g_at.of mG_14) (pI_ix hi20).1 (pI_ix hi20).2 dX5_spreads_41 ?_
                    refine lv_if_lt (tgt := 113) hx hb dX5_spreads_42 (by decide) (fun c_42 => ?_) (fun c_42 => ?_)
                    · have n_42 := Int32.not_le.mpr c_42
                      have hbi : nI (B3 i) - 1 < 0 := by rw [← (hB3 i hi20).1]; exact c_42
                      refine lv_iinc (v := pI (j + 1)) (lv' := [(4, .int (pI (j + 1))), (0, .ref mo), (1, .int p0), (2, .int (b2i m3)), (3, .int (pI i))]) hx hb dX5_spreads_113 hl (k := 4) rfl (pI_1 j) (by decide) rfl (fun ls hl => ?_)
                      refine lv_goto (tgt := 23) hx hb dX5_spreads_116 (by decide) ?_
                      exact ih23 b3 B3 m3 (j + 1) hB3 hs3 hg3 hT3 hjn (fun q => ⟨(hst3 q).1, fun j9 h9 => (Nat.lt_succ_iff_lt_or_eq.mp h9).elim ((hst3 q).2 j9) (fun z => by subst z; exact (fun _ q => by have := (b_neg (by omega)).mp hbi; omega))⟩) (by omega) _ _ _ I (lv_sub hl [1, 2, 3, 4, 0] rfl)
                    · have n_42 := Int32.not_lt.mp c_42
                      have hbp : 0 < B3 i := by have q := mt (b_neg (n := B3 i) (by omega)).mpr; rw [← (hB3 i hi20).1] at q; exact Nat.pos_of_ne_zero (fun z => c_42 ((show b3 i < 0 ↔ B3 i = 0 by rw [(hB3 i hi20).1]; exact b_neg (by omega)).mpr z))
                      refine lv_aload_n hx hb dX5_spreads_45 rfl (lv_at hl 0 rfl) ?_
                      refine lv_iload_n hx hb dX5_spreads_46 rfl (lv_at hl 3 rfl) ?_
                      refine lv_iload hx hb dX5_spreads_47 (lv_at hl 4 rfl) ?_
                      refine g_ci (g_runV S hK I (As := [.int (pI i), .int (pI j)]) (rest := []) (met_X5_isWay l Γ mo ad f (va_up a 14 b3) rr ph (pI i) (pI j) hw (pI_ok hw (by omega)) (pI_ok hw (by omega))) (cwV 2 hts (lw_V q3324 q3326 qs97 q151 q3327) rfl rfl rfl (by decide +kernel) ⟨Nat.le_of_ble_eq_true rfl, Nat.le_of_ble_eq_true rfl⟩) (g_recv hK I (g_at.of mG_obj) (ci := 4) rfl) rfl hl.1 rfl (Nat.le_of_ble_eq_true rfl) dX5_spreads_49 ⟨Nat.le_of_ble_eq_true rfl, Nat.le_of_ble_eq_true rfl⟩) I (fun r_49 ph1 H locs hp I => ?_)
                      obtain ⟨hp, rfl⟩ := hp
                      have hp : r_49 = b2i (isWy (a 5) (pI i) (pI j)) := hp
                      subst hp
                      refine lv_if_ne (tgt := 58) hx hb dX5_spreads_52 (by decide) (fun c_52 => ?_) (fun c_52 => ?_)
                      · have p_52 := (b2i_ne0 _).mp c_52
                        have hw0 : wyN (a 5) i j = true := p_52
                        have hD := dN_eq hw (i := i) (j := j) (by omega) hj9
                        refine lv_aload_n hx hb dX5_spreads_58 rfl (lv_at hl 0 rfl) ?_
                        refine g_get S hK I k_X5 (v := .ref (ad 14)) (g_at.of mG_obj) 14 (by decide) q2966 rfl rfl dX5_spreads_59 ?_
                        refine lv_iload_n hx hb dX5_spreads_62 rfl (lv_at hl 3 rfl) ?_
                        refine lv_iconst (v := 1) hx hb dX5_spreads_63 (by decide) ?_
                        refine lv_iadd hx hb dX5_spreads_64 ?_
                        refine m_iald S hK I (f := b3) (k := i) (g_at.of mG_14) (pI_ix hi20).1 (pI_ix hi20).2 dX5_spreads_65 ?_
                        refine lv_aload_n hx hb dX5_spreads_66 rfl (lv_at hl 0 rfl) ?_
                        refine lv_iload_n hx hb dX5_spreads_67 rfl (lv_at hl 3 rfl) ?_
                        refine lv_iload hx hb dX5_spreads_68 (lv_at hl 4 rfl) ?_
                        refine g_ci (g_runV S hK I (As := [.int (pI i), .int (pI j)]) (rest := [.int (b3 i)]) (met_X5_distance l Γ mo ad f (va_up a 14 b3) rr ph (pI i) (pI j) (br_isPl hw (pI_ok hw (by omega))) (br_isPl hw (pI_ok hw (by omega)))) (cwV 2 hts (lw_V q3107 q3109 qs62 q151 q3110) rfl rfl rfl (by decide +kernel) ⟨Nat.le_of_ble_eq_true rfl, Nat.le_of_ble_eq_true rfl⟩) (g_recv hK I (g_at.of mG_obj) (ci := 4) rfl) rfl hl.1 rfl (Nat.le_of_ble_eq_true rfl) dX5_spreads_70 ⟨Nat.le_of_ble_eq_true rfl, Nat.le_of_ble_eq_true rfl⟩) I (fun r_70 ph1 H locs hp I => ?_)
                        obtain ⟨hp, rfl⟩ := hp
                        have hp : r_70 = dst (a 5) (pI i) (pI j) := hp
                        subst hp
                        rw [show (dst (a 5) (pI i) (pI j)) = nI (dN (a 5) i j) from hD.1]
                        refine lv_isub hx hb dX5_spreads_73 ?_
                        refine lv_iload_n hx hb dX5_spreads_74 rfl (lv_at hl 1 rfl) ?_
                        refine lv_isub hx hb dX5_spreads_75 ?_
                        refine lv_istore (lv' := [(5, .int (((b3 i) - (nI (dN (a 5) i j))) - p0)), (0, .ref mo), (1, .int p0), (2, .int (b2i m3)), (3, .int (pI i)), (4, .int (pI j))]) hx hb dX5_spreads_76 hl (by decide) rfl (fun ls hl => ?_)
                        refine lv_iload hx hb dX5_spreads_78 (lv_at hl 0 rfl) ?_
                        refine lv_aload_n hx hb dX5_spreads_80 rfl (lv_at hl 1 rfl) ?_
                        refine g_get S hK I k_X5 (v := .ref (ad 14)) (g_at.of mG_obj) 14 (by decide) q2966 rfl rfl dX5_spreads_81 ?_
                        refine lv_iload hx hb dX5_spreads_84 (lv_at hl 5 rfl) ?_
                        refine lv_iconst (v := 1) hx hb dX5_spreads_86 (by decide) ?_
                        refine lv_iadd hx hb dX5_spreads_87 ?_
                        refine m_iald S hK I (f := b3) (k := j) (g_at.of mG_14) (pI_ix hj20).1 (pI_ix hj20).2 dX5_spreads_88 ?_
                        refine lv_icmp_le (tgt := 113) hx hb dX5_spreads_89 (by decide) (fun c_89 => ?_) (fun c_89 => ?_)
                        · have n_89 := Int32.not_lt.mpr c_89
                          have hle : B3 i - (dN (a 5) i j + L) ≤ B3 j := by
                            rw [hL0, (hB3 i hi20).1, (hB3 j hj20).1, Int32.le_iff_toInt_le, lf_int (by omega) (by omega) (by omega), b_int (by omega)] at c_89
                            omega
                          refine lv_iinc (v := pI (j + 1)) (lv' := [(4, .int (pI (j + 1))), (5, .int (((b3 i) - (nI (dN (a 5) i j))) - p0)), (0, .ref mo), (1, .int p0), (2, .int (b2i m3)), (3, .int (pI i))]) hx hb dX5_spreads_113 hl (k := 5) rfl (pI_1 j) (by decide) rfl (fun ls hl => ?_)
                          refine lv_goto (tgt := 23) hx hb dX5_spreads_116 (by decide) ?_
                          exact ih23 b3 B3 m3 (j + 1) hB3 hs3 hg3 hT3 hjn (fun q => ⟨(hst3 q).1, fun j9 h9 => (Nat.lt_succ_iff_lt_or_eq.mp h9).elim ((hst3 q).2 j9) (fun z => by subst z; exact (fun _ _ => hle))⟩) (by omega) _ _ _ I (lv_sub hl [2, 3, 4, 5, 0] rfl)
                        · have n_89 := Int32.not_le.mp c_89
                          have hbj0 : (B3 j : Int) - 1 < (B3 i : Int) - 1 - dN (a 5) i j - L := by
                            have q := Int32.not_le.mp c_89
                            rw [hL0, (hB3 i hi20).1, (hB3 j hj20).1, Int32.lt_iff_toInt_lt, lf_int (by omega) (by omega) (by omega), b_int (by omega)] at q
                            exact q
                          refine lv_iload hx hb dX5_spreads_92 (lv_at hl 0 rfl) ?_
                          refine lv_if_ge (tgt := 100) hx hb dX5_spreads_94 (by decide) (fun c_94 => ?_) (fun c_94 => ?_)
                          · have n_94 := Int32.not_lt.mpr c_94
                            have hdl : dN (a 5) i j + L < B3 i := by
                              have q := c_94
                              rw [hL0, (hB3 i hi20).1, Int32.le_iff_toInt_le, lf_int (by omega) (by omega) (by omega)] at q
                              have : (0 : Int32).toInt = 0 := rfl
                              omega
                            have hbj : B3 j < B3 i - (dN (a 5) i j + L) := by omega
                            have hLV : b3 i - nI (dN (a 5) i j) - p0 = nI (B3 i - (dN (a 5) i j + L)) - 1 := by rw [hL0, (hB3 i hi20).1]; exact lf_val (by omega) (by omega) (by omega) (by omega)
                            refine lv_aload_n hx hb dX5_spreads_100 rfl (lv_at hl 1 rfl) ?_
                            refine g_get S hK I k_X5 (v := .ref (ad 14)) (g_at.of mG_obj) 14 (by decide) q2966 rfl rfl dX5_spreads_101 ?_
                            refine lv_iload hx hb dX5_spreads_104 (lv_at hl 5 rfl) ?_
                            refine lv_iconst (v := 1) hx hb dX5_spreads_106 (by decide) ?_
                            refine lv_iadd hx hb dX5_spreads_107 ?_
                            refine lv_iload hx hb dX5_spreads_108 (lv_at hl 0 rfl) ?_
                            refine m_iast S hK I (f := b3) (k := j) mG_14 (pI_ix hj20).1 (pI_ix hj20).2 dX5_spreads_110 (fun H locs I => ?_)
                            have I := mI_14 I
                            rw [bx_uu] at I
                            refine lv_iconst (v := 1) hx hb dX5_spreads_111 (by decide) ?_
                            refine lv_istore_n (lv' := [(2, .int 1), (5, .int (((b3 i) - (nI (dN (a 5) i j))) - p0)), (0, .ref mo), (1, .int p0), (3, .int (pI i)), (4, .int (pI j))]) hx hb dX5_spreads_112 rfl hl (by decide) rfl (fun ls hl => ?_)
                            refine lv_iinc (v := pI (j + 1)) (lv' := [(4, .int (pI (j + 1))), (2, .int 1), (5, .int (((b3 i) - (nI (dN (a 5) i j))) - p0)), (0, .ref mo), (1, .int p0), (3, .int (pI i))]) hx hb dX5_spreads_113 hl (k := 5) rfl (pI_1 j) (by decide) rfl (fun ls hl => ?_)
                            refine lv_goto (tgt := 23) hx hb dX5_spreads_116 (by decide) ?_
                            exact ih23 (upd b3 j (b3 i - nI (dN (a 5) i j) - p0)) (uN B3 j (B3 i - (dN (a 5) i j + L))) true (j + 1) (hB3.up hLV (by have := (hB3 i hi20).2; omega)) (sp_snd hC hs3 (by omega) hj9 hw0 hdl) (sp_ge hg3 hbj) (by have := sT_lt (B := B3) (j := j) (v := B3 i - (dN (a 5) i j + L)) (n := 21) (by omega) hbj (by have := (hB3 i hi20).2; omega); rw [if_pos rfl]; omega) hjn (fun q => absurd q (by decide)) (by omega) _ _ _ I (lv_sub hl [3, 4, 1, 5, 0] rfl)
                          · have n_94 := Int32.not_le.mp c_94
                            have hlt : ¬ dN (a 5) i j + L < B3 i := by
                              have q := Int32.not_le.mp c_94
                              rw [hL0, (hB3 i hi20).1, Int32.lt_iff_toInt_lt, lf_int (by omega) (by omega) (by omega)] at q
                              have : (0 : Int32).toInt = 0 := rfl
                              omega
                            refine lv_goto (tgt := 113) hx hb dX5_spreads_97 (by decide) ?_
                            refine lv_iinc (v := pI (j + 1)) (lv' := [(4, .int (pI (j + 1))), (5, .int (((b3 i) - (nI (dN (a 5) i j))) - p0)), (0, .ref mo), (1, .int p0), (2, .int (b2i m3)), (3, .int (pI i))]) hx hb dX5_spreads_113 hl (k := 5) rfl (pI_1 j) (by decide) rfl (fun ls hl => ?_)
                            refine lv_goto (tgt := 23) hx hb dX5_spreads_116 (by decide) ?_
                            exact ih23 b3 B3 m3 (j + 1) hB3 hs3 hg3 hT3 hjn (fun q => ⟨(hst3 q).1, fun j9 h9 => (Nat.lt_succ_iff_lt_or_eq.mp h9).elim ((hst3 q).2 j9) (fun z => by subst z; exact (fun _ q => absurd q hlt))⟩) (by omega) _ _ _ I (lv_sub hl [2, 3, 4, 5, 0] rfl)
                      · have p_52 := (b2i_eq0 _).mp c_52
                        refine lv_goto (tgt := 113) hx hb dX5_spreads_55 (by decide) ?_
                        refine lv_iinc (v := pI (j + 1)) (lv' := [(4, .int (pI (j + 1))), (0, .ref mo), (1, .int p0), (2, .int (b2i m3)), (3, .int (pI i))]) hx hb dX5_spreads_113 hl (k := 4) rfl (pI_1 j) (by decide) rfl (fun ls hl => ?_)
                        refine lv_goto (tgt := 23) hx hb dX5_spreads_116 (by decide) ?_
                        exact ih23 b3 B3 m3 (j + 1) hB3 hs3 hg3 hT3 hjn (fun q => ⟨(hst3 q).1, fun j9 h9 => (Nat.lt_succ_iff_lt_or_eq.mp h9).elim ((hst3 q).2 j9) (fun z => by subst z; exact (fun q _ => absurd (show wyN (a 5) i j9 = true from q) (by rw [show wyN (a 5) i j9 = false from p_52]; decide)))⟩) (by omega) _ _ _ I (lv_sub hl [1, 2, 3, 4, 0] rfl)
              exact L_23 _ b2 B2 m2 0 hB2 hs2 hg2 hT2 (Nat.zero_le _) (fun q => ⟨hst2 q, fun j9 h9 => absurd h9 (Nat.not_lt_zero _)⟩) (Nat.lt_succ_self _) _ _ _ I (lv_sub hl [1, 2, 3, 4, 0] rfl)
        exact L_10 _ b1 B1 false 0 hB1 hs1 hg1 (by rw [if_neg (by decide)]; exact Nat.le_refl _) (Nat.zero_le _) (fun _ i hi => absurd hi (Nat.not_lt_zero _)) (Nat.lt_succ_self _) _ _ _ I (lv_sub hl [2, 3, 1, 0] rfl)
  exact L_2 _ (a 14) B true hB hS (fun i hi => Nat.le_refl _) (fun q => absurd q (by decide)) (Nat.lt_succ_self _) _ _ _ I (lv_sub hl [1, 2, 0] rfl)


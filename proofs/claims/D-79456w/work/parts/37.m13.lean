/-! THE REFERENCE: plans: goes on, tries, runs -/
set_option maxRecDepth 100000
set_option maxHeartbeats 4000000 in
set_option maxRecDepth 100000 in
theorem met_X5_goesOn (l : Launch) (Γ : g_C) (mo : Nat) (ad : Nat → Nat) (f : Nat → Int32) (a : Nat → Nat → Int32) (rr : Nat → UInt32) (ph : g_H)  (hw : WF (a 5)) (hG : okG f a) : g_Met l yX5_goesOn (ws_ yX5_goesOn cX5_goesOn 2 (some .int)) (g_rm 11 0 0) Γ [.ref mo] (mG Γ mo ad f a rr ph) (g_oi (fun v ph' => v = (nI (gs f a).1) ∧ ph' = mG Γ mo ad (F4 f (gs f a).2.2.2 (nI (gs f a).2.2.1.2.2) (gs f a).2.1) (va_up (va_up a 12 ((gs f a).2.2.1.2.1)) 5 ((gs f a).2.2.1.1)) rr ph)) g_no := by
  refine g_start (y := yX5_goesOn) (cc := cX5_goesOn) (maxL := 2) (ret := (some .int)) (rm := g_rm 11 0 0) (by decide) (Nat.le_of_ble_eq_true rfl) ?_
  intro p e s m A below meth c ls Q hQ S hr hlk hex hnm hK I hl
  have hx := S.1
  have hb := S.2.1
  have hown := S.2.2.2.1
  have hts := S.2.2.2.2
  have S : CallFix p m c cX5_goesOn 2 s A lw_all "CrumblingWallModel" := S
  have hl : lv_has ls 2 [(0, .ref mo)] := hl
  have hG30 := hG.2.1.2
  refine lv_aload_n hx hb dX5_goesOn_0 rfl (lv_at hl 0 rfl) ?_
  refine lv_iconst (v := 0) hx hb dX5_goesOn_1 (by decide) ?_
  refine g_put S hK I k_X5 (v := .int 0) mG_obj 29 (by decide) q2981 rfl rfl rfl rfl (Nat.le_of_ble_eq_true rfl) dX5_goesOn_2 (fun H locs I => ?_)
  have I := mI_f (f' := (upd f 29 0)) I rfl
  refine lv_iconst (v := 0) hx hb dX5_goesOn_5 (by decide) ?_
  refine lv_istore_n (lv' := [(1, .int 0), (0, .ref mo)]) hx hb dX5_goesOn_6 rfl hl (by decide) rfl (fun ls hl => ?_)
  have I := mI_ef I (show (upd f 29 0) = F4 f (f 3, f 4) (nI (a 5, a 12, nCr f).2.2) 0 from F4_id hG.1.1)
  have I := mI_ea I (show a = va_up (va_up a 12 (a 12)) 5 (a 5) from by rw [va_upI a 12 rfl, va_upI a 5 rfl])
  have L_7 : ∀ (d : Nat) (v : Nat) (k : Nat) (T : m_fl) (y : Int32 × Int32) (x : Int32), (hE : (if x = 0 then gsF (a 22) (a 23) (a 24) v k T y else (k, x, T, y)) = (gs f a)) → (hW : WF T.1) → (hC9 : T.2.2 ≤ 9) → (hv : v + k = tS f) → (if x = 0 then v + 1 else 0) < d → ∀ (H : Heap) (locs : List Loc) (ls : Array Slot), g_I Γ (mG Γ mo ad (F4 f y (nI T.2.2) x) (va_up (va_up a 12 T.2.1) 5 T.1) rr ph) s H locs → lv_has ls 2 [(0, .ref mo), (1, .int (nI k))] → W p l e (g_rm 11 0 0) s m A below meth c H locs 0 0 Q (F0 m 7 ls []) := by
    intro d
    induction d with
    | zero => intro v k T y x hE hW hC9 hv hd; exact absurd hd (Nat.not_lt_zero _)
    | succ d ih =>
      intro v k T y x hE hW hC9 hv hd H locs ls I hl
      refine lv_iload_n hx hb dX5_goesOn_7 rfl (lv_at hl 1 rfl) ?_
      refine lv_aload_n hx hb dX5_goesOn_8 rfl (lv_at hl 0 rfl) ?_
      refine g_get S hK I k_X5 (v := .int ((F4 f y (nI T.2.2) x) 27)) (g_at.of mG_obj) 27 (by decide) q2979 rfl rfl dX5_goesOn_9 ?_
      refine lv_icmp_ge (tgt := 76) hx hb dX5_goesOn_12 (by decide) (fun c_12 => ?_) (fun c_12 => ?_)
      · have n_12 := Int32.not_lt.mpr c_12
        have e12 : f 27 ≤ nI k := c_12
        have eG : (k, x, T, y) = (gs f a) := by
          by_cases h : x = 0
          · subst h
            rw [hG.2.1.1, nI_leI (by omega) (by omega)] at e12
            obtain rfl : v = 0 := by omega
            exact (if_pos rfl).symm.trans hE
          · exact (if_neg h).symm.trans hE
        refine lv_iload_n hx hb dX5_goesOn_76 rfl (lv_at hl 1 rfl) ?_
        exact g_iret S hr hlk I dX5_goesOn_77 (Nat.le_of_ble_eq_true rfl) (Nat.le_of_ble_eq_true rfl) hQ ⟨_, rfl, (by rw [← eG]), (by rw [← eG])⟩
      · have n_12 := Int32.not_le.mp c_12
        refine lv_aload_n hx hb dX5_goesOn_15 rfl (lv_at hl 0 rfl) ?_
        refine g_get S hK I k_X5 (v := .int ((F4 f y (nI T.2.2) x) 29)) (g_at.of mG_obj) 29 (by decide) q2981 rfl rfl dX5_goesOn_16 ?_
        refine lv_if_ne (tgt := 76) hx hb dX5_goesOn_19 (by decide) (fun c_19 => ?_) (fun c_19 => ?_)
        · have c_19 : ¬ x = 0 := c_19
          have eG : (k, x, T, y) = (gs f a) := (if_neg c_19).symm.trans hE
          refine lv_iload_n hx hb dX5_goesOn_76 rfl (lv_at hl 1 rfl) ?_
          exact g_iret S hr hlk I dX5_goesOn_77 (Nat.le_of_ble_eq_true rfl) (Nat.le_of_ble_eq_true rfl) hQ ⟨_, rfl, (by rw [← eG]), (by rw [← eG])⟩
        · have c_19 : x = 0 := c_19
          subst c_19
          have c_12 : ¬ f 27 ≤ nI k := c_12
          rw [hG.2.1.1, nI_leI (by omega) (by omega)] at c_12
          obtain ⟨v, rfl⟩ : ∃ j, v = j + 1 := ⟨v - 1, by omega⟩
          have hE0 : gsF (a 22) (a 23) (a 24) (v + 1) k T y = (gs f a) := (if_pos rfl).symm.trans hE
          have hk31 : vp_in (nI k) 31 := vp_in_nI (by omega) (by decide)
          have hd0 : 0 < d := by rw [if_pos rfl] at hd; omega
          refine lv_aload_n hx hb dX5_goesOn_22 rfl (lv_at hl 0 rfl) ?_
          refine lv_iload_n hx hb dX5_goesOn_23 rfl (lv_at hl 1 rfl) ?_
          refine g_ci (g_runV S hK I (As := [.int (nI k)]) (rest := []) (met_X5_isTold l Γ mo ad (F4 f y (nI T.2.2) 0) (va_up (va_up a 12 T.2.1) 5 T.1) rr ph (nI k) hk31) (cwV 1 hts (lw_V q3443 q3445 qs112 q151 q3446) rfl rfl rfl (by decide +kernel) ⟨Nat.le_of_ble_eq_true rfl, Nat.le_of_ble_eq_true rfl⟩) (g_recv hK I (g_at.of mG_obj) (ci := 4) rfl) rfl hl.1 rfl (Nat.le_of_ble_eq_true rfl) dX5_goesOn_24 ⟨Nat.le_of_ble_eq_true rfl, Nat.le_of_ble_eq_true rfl⟩) I (fun r_24 ph1 H locs hp I => ?_)
          obtain ⟨hp, rfl⟩ := hp
          have hp : r_24 = b2i (tld T.1 ((a 22) (nI k).toNatClampNeg) ((a 24) (nI k).toNatClampNeg)) := hp
          subst hp
          rw [show (nI k).toNatClampNeg = k from (nI_clamp (by omega))]
          refine lv_if_ne (tgt := 38) hx hb dX5_goesOn_27 (by decide) (fun c_27 => ?_) (fun c_27 => ?_)
          · have p_27 := (b2i_ne0 _).mp c_27
            have hS0 := okS_of hW (hG.2.2 k (by omega)) p_27
            refine lv_aload_n hx hb dX5_goesOn_38 rfl (lv_at hl 0 rfl) ?_
            refine lv_iload_n hx hb dX5_goesOn_39 rfl (lv_at hl 1 rfl) ?_
            refine g_ci (g_runV S hK I (As := [.int (nI k)]) (rest := []) (met_X5_mayNot l Γ mo ad (F4 f y (nI T.2.2) 0) (va_up (va_up a 12 T.2.1) 5 T.1) rr ph (nI k) hW hk31 (show okS T.1 (a 22 (nI k).toNatClampNeg) (a 23 (nI k).toNatClampNeg) (a 24 (nI k).toNatClampNeg) by rw [show (nI k).toNatClampNeg = k from (nI_clamp (by omega))]; exact hS0)) (cwV 1 hts (lw_V q3447 q3449 qs113 q151 q3450) rfl rfl rfl (by decide +kernel) ⟨Nat.le_of_ble_eq_true rfl, Nat.le_of_ble_eq_true rfl⟩) (g_recv hK I (g_at.of mG_obj) (ci := 4) rfl) rfl hl.1 rfl (Nat.le_of_ble_eq_true rfl) dX5_goesOn_40 ⟨Nat.le_of_ble_eq_true rfl, Nat.le_of_ble_eq_true rfl⟩) I (fun r_40 ph1 H locs hp I => ?_)
            obtain ⟨hp, rfl⟩ := hp
            have hp : r_40 = b2i ((nDo T.1 ((a 22) (nI k).toNatClampNeg) ((a 23) (nI k).toNatClampNeg) ((a 24) (nI k).toNatClampNeg)).isSome) := hp
            subst hp
            have I : g_I Γ (mG Γ mo ad (m_hin (F4 f y (nI T.2.2) 0) (nDo T.1 ((a 22) (nI k).toNatClampNeg) ((a 23) (nI k).toNatClampNeg) ((a 24) (nI k).toNatClampNeg))) (va_up (va_up a 12 T.2.1) 5 T.1) rr ph) s H locs := I
            rw [show (nI k).toNatClampNeg = k from (nI_clamp (by omega))]
            refine lv_if_eq (tgt := 54) hx hb dX5_goesOn_43 (by decide) (fun c_43 => ?_) (fun c_43 => ?_)
            · have p_43 := (b2i_eq0 _).mp c_43
              have z_43 := wk_none p_43
              have I := mI_ef I (show (m_hin (F4 f y (nI T.2.2) 0) (nDo T.1 ((a 22) (nI k).toNatClampNeg) ((a 23) (nI k).toNatClampNeg) ((a 24) (nI k).toNatClampNeg))) = (F4 f y (nI T.2.2) 0) from by rw [show (nI k).toNatClampNeg = k from (nI_clamp (by omega))]; show m_hin _ (nDo T.1 (a 22 k) (a 23 k) (a 24 k)) = _; rw [z_43]; rfl)
              have hS : okS T.1 (a 22 k) (a 23 k) (a 24 k) := okS_of hW (hG.2.2 k (by omega)) p_27
              have hD := doF_ok hW hS z_43 hC9
              refine lv_aload_n hx hb dX5_goesOn_54 rfl (lv_at hl 0 rfl) ?_
              refine lv_iload_n hx hb dX5_goesOn_55 rfl (lv_at hl 1 rfl) ?_
              refine g_ci (g_runV S hK I (As := [.int (nI k)]) (rest := []) (met_X5_harms l Γ mo ad (F4 f y (nI T.2.2) 0) (va_up (va_up a 12 T.2.1) 5 T.1) rr ph (nI k) hW hk31 (show okS T.1 (a 22 (nI k).toNatClampNeg) (a 23 (nI k).toNatClampNeg) (a 24 (nI k).toNatClampNeg) by rw [show (nI k).toNatClampNeg = k from (nI_clamp (by omega))]; exact hS) (show nDo T.1 (a 22 (nI k).toNatClampNeg) (a 23 (nI k).toNatClampNeg) (a 24 (nI k).toNatClampNeg) = none by rw [show (nI k).toNatClampNeg = k from (nI_clamp (by omega))]; exact z_43) (by rw [F4_cr (by omega)]; exact F4_at13) (by rw [F4_cr (by omega)]; exact hC9)) (cwV 1 hts (lw_V q3451 q3453 qs114 q151 q3454) rfl rfl rfl (by decide +kernel) ⟨Nat.le_of_ble_eq_true rfl, Nat.le_of_ble_eq_true rfl⟩) (g_recv hK I (g_at.of mG_obj) (ci := 4) rfl) rfl hl.1 rfl (Nat.le_of_ble_eq_true rfl) dX5_goesOn_56 ⟨Nat.le_of_ble_eq_true rfl, Nat.le_of_ble_eq_true rfl⟩) I (fun r_56 ph1 H locs hp I => ?_)
              obtain ⟨hp, rfl⟩ := hp
              have hp : r_56 = b2i ((hrm T.1 (doF (T.1, T.2.1, nCr (F4 f y (nI T.2.2) 0)) ((a 22) (nI k).toNatClampNeg) ((a 23) (nI k).toNatClampNeg) ((a 24) (nI k).toNatClampNeg)).1).isSome) := hp
              subst hp
              have I : g_I Γ (mG Γ mo ad (m_hin (upd (F4 f y (nI T.2.2) 0) 13 (nI (doF (T.1, T.2.1, nCr (F4 f y (nI T.2.2) 0)) ((a 22) (nI k).toNatClampNeg) ((a 23) (nI k).toNatClampNeg) ((a 24) (nI k).toNatClampNeg)).2.2)) (hrm T.1 (doF (T.1, T.2.1, nCr (F4 f y (nI T.2.2) 0)) ((a 22) (nI k).toNatClampNeg) ((a 23) (nI k).toNatClampNeg) ((a 24) (nI k).toNatClampNeg)).1)) (va_up (va_up (va_up (va_up a 12 T.2.1) 5 T.1) 12 ((doF (T.1, T.2.1, nCr (F4 f y (nI T.2.2) 0)) ((a 22) (nI k).toNatClampNeg) ((a 23) (nI k).toNatClampNeg) ((a 24) (nI k).toNatClampNeg)).2.1)) 5 ((doF (T.1, T.2.1, nCr (F4 f y (nI T.2.2) 0)) ((a 22) (nI k).toNatClampNeg) ((a 23) (nI k).toNatClampNeg) ((a 24) (nI k).toNatClampNeg)).1)) rr ph) s H locs := I
              have eN : (doF (T.1, T.2.1, nCr (F4 f y (nI T.2.2) 0)) ((a 22) (nI k).toNatClampNeg) ((a 23) (nI k).toNatClampNeg) ((a 24) (nI k).toNatClampNeg)) = (doF T (a 22 k) (a 23 k) (a 24 k)) := by rw [F4_cr (by omega), show (nI k).toNatClampNeg = k from (nI_clamp (by omega))]
              rw [eN]
              have I := mI_ef I (show (m_hin (upd (F4 f y (nI T.2.2) 0) 13 (nI (doF (T.1, T.2.1, nCr (F4 f y (nI T.2.2) 0)) ((a 22) (nI k).toNatClampNeg) ((a 23) (nI k).toNatClampNeg) ((a 24) (nI k).toNatClampNeg)).2.2)) (hrm T.1 (doF (T.1, T.2.1, nCr (F4 f y (nI T.2.2) 0)) ((a 22) (nI k).toNatClampNeg) ((a 23) (nI k).toNatClampNeg) ((a 24) (nI k).toNatClampNeg)).1)) = m_hin (F4 f y (nI (doF T (a 22 k) (a 23 k) (a 24 k)).2.2) 0) (hrm T.1 (doF T (a 22 k) (a 23 k) (a 24 k)).1) from by rw [eN, F4_13])
              have I := mI_ea I (show (va_up (va_up (va_up (va_up a 12 T.2.1) 5 T.1) 12 ((doF (T.1, T.2.1, nCr (F4 f y (nI T.2.2) 0)) ((a 22) (nI k).toNatClampNeg) ((a 23) (nI k).toNatClampNeg) ((a 24) (nI k).toNatClampNeg)).2.1)) 5 ((doF (T.1, T.2.1, nCr (F4 f y (nI T.2.2) 0)) ((a 22) (nI k).toNatClampNeg) ((a 23) (nI k).toNatClampNeg) ((a 24) (nI k).toNatClampNeg)).1)) = (va_up (va_up a 12 ((doF T (a 22 k) (a 23 k) (a 24 k)).2.1)) 5 ((doF T (a 22 k) (a 23 k) (a 24 k)).1)) from by rw [eN]; exact va_4)
              refine lv_if_eq (tgt := 70) hx hb dX5_goesOn_59 (by decide) (fun c_59 => ?_) (fun c_59 => ?_)
              · have p_59 := (b2i_eq0 _).mp c_59
                have z_59 := wk_none p_59
                have I := mI_ef I (show (m_hin (F4 f y (nI (doF T (a 22 k) (a 23 k) (a 24 k)).2.2) 0) (hrm T.1 (doF T (a 22 k) (a 23 k) (a 24 k)).1)) = (F4 f y (nI (doF T (a 22 k) (a 23 k) (a 24 k)).2.2) 0) from by rw [z_59]; rfl)
                refine lv_iinc (v := nI (k + 1)) (lv' := [(1, .int (nI (k + 1))), (0, .ref mo)]) hx hb dX5_goesOn_70 hl (k := 1) rfl (nI_1 k) (by decide) rfl (fun ls hl => ?_)
                refine lv_goto (tgt := 7) hx hb dX5_goesOn_73 (by decide) ?_
                exact ih v (k + 1) (doF T (a 22 k) (a 23 k) (a 24 k)) y 0 (((if_pos rfl).trans (by rw [gsF, if_neg (by rw [p_27]; decide), z_43]; dsimp only; rw [z_59])).trans hE0) hD.1 hD.2.2.1 (by omega) (by rw [if_pos rfl]; rw [if_pos rfl] at hd; omega) _ _ _ I (lv_sub hl [1, 0] rfl)
              · have p_59 := (b2i_ne0 _).mp c_59
                obtain ⟨q_59, hq_59⟩ := wk_some p_59
                have I := mI_ef I (show (m_hin (F4 f y (nI (doF T (a 22 k) (a 23 k) (a 24 k)).2.2) 0) (hrm T.1 (doF T (a 22 k) (a 23 k) (a 24 k)).1)) = (F4 f q_59 (nI (doF T (a 22 k) (a 23 k) (a 24 k)).2.2) 0) from by rw [hq_59]; exact F4_hin)
                refine lv_aload_n hx hb dX5_goesOn_62 rfl (lv_at hl 0 rfl) ?_
                refine lv_iconst (v := 2) hx hb dX5_goesOn_63 (by decide) ?_
                refine g_put S hK I k_X5 (v := .int 2) mG_obj 29 (by decide) q2981 rfl rfl rfl rfl (Nat.le_of_ble_eq_true rfl) dX5_goesOn_64 (fun H locs I => ?_)
                have I := mI_f (f' := (upd (F4 f q_59 (nI (doF T (a 22 k) (a 23 k) (a 24 k)).2.2) 0) 29 2)) I rfl
                have I := mI_ef I (show (upd (F4 f q_59 (nI (doF T (a 22 k) (a 23 k) (a 24 k)).2.2) 0) 29 2) = (F4 f q_59 (nI (doF T (a 22 k) (a 23 k) (a 24 k)).2.2) 2) from F4_29)
                refine lv_goto (tgt := 7) hx hb dX5_goesOn_67 (by decide) ?_
                exact ih (v + 1) k (doF T (a 22 k) (a 23 k) (a 24 k)) q_59 2 (((if_neg (show ¬ (2 : Int32) = 0 by decide)).trans (by rw [gsF, if_neg (by rw [p_27]; decide), z_43]; dsimp only; rw [hq_59])).trans hE0) hD.1 hD.2.2.1 hv (by rw [if_neg (by decide)]; exact hd0) _ _ _ I (lv_sub hl [0, 1] rfl)
            · have p_43 := (b2i_ne0 _).mp c_43
              obtain ⟨q_43, hq_43⟩ := wk_some p_43
              have I := mI_ef I (show (m_hin (F4 f y (nI T.2.2) 0) (nDo T.1 ((a 22) (nI k).toNatClampNeg) ((a 23) (nI k).toNatClampNeg) ((a 24) (nI k).toNatClampNeg))) = (F4 f q_43 (nI T.2.2) 0) from by rw [show (nI k).toNatClampNeg = k from (nI_clamp (by omega))]; show m_hin _ (nDo T.1 (a 22 k) (a 23 k) (a 24 k)) = _; rw [hq_43]; exact F4_hin)
              refine lv_aload_n hx hb dX5_goesOn_46 rfl (lv_at hl 0 rfl) ?_
              refine lv_iconst (v := 2) hx hb dX5_goesOn_47 (by decide) ?_
              refine g_put S hK I k_X5 (v := .int 2) mG_obj 29 (by decide) q2981 rfl rfl rfl rfl (Nat.le_of_ble_eq_true rfl) dX5_goesOn_48 (fun H locs I => ?_)
              have I := mI_f (f' := (upd (F4 f q_43 (nI T.2.2) 0) 29 2)) I rfl
              have I := mI_ef I (show (upd (F4 f q_43 (nI T.2.2) 0) 29 2) = (F4 f q_43 (nI T.2.2) 2) from F4_29)
              refine lv_goto (tgt := 7) hx hb dX5_goesOn_51 (by decide) ?_
              exact ih (v + 1) k T q_43 2 (((if_neg (show ¬ (2 : Int32) = 0 by decide)).trans (by rw [gsF, if_neg (by rw [p_27]; decide), hq_43])).trans hE0) hW hC9 hv (by rw [if_neg (by decide)]; exact hd0) _ _ _ I (lv_sub hl [0, 1] rfl)
          · have p_27 := (b2i_eq0 _).mp c_27
            refine lv_aload_n hx hb dX5_goesOn_30 rfl (lv_at hl 0 rfl) ?_
            refine lv_iconst (v := 1) hx hb dX5_goesOn_31 (by decide) ?_
            refine g_put S hK I k_X5 (v := .int 1) mG_obj 29 (by decide) q2981 rfl rfl rfl rfl (Nat.le_of_ble_eq_true rfl) dX5_goesOn_32 (fun H locs I => ?_)
            have I := mI_f (f' := (upd (F4 f y (nI T.2.2) 0) 29 1)) I rfl
            have I := mI_ef I (show (upd (F4 f y (nI T.2.2) 0) 29 1) = (F4 f y (nI T.2.2) 1) from F4_29)
            refine lv_goto (tgt := 7) hx hb dX5_goesOn_35 (by decide) ?_
            exact ih (v + 1) k T y 1 (((if_neg (show ¬ (1 : Int32) = 0 by decide)).trans (by rw [gsF, if_pos p_27])).trans hE0) hW hC9 hv (by rw [if_neg (by decide)]; exact hd0) _ _ _ I (lv_sub hl [0, 1] rfl)
  exact L_7 _ (tS f) 0 (a 5, a 12, nCr f) (f 3, f 4) 0 rfl hw hG.1.2 (Nat.add_zero _) (Nat.lt_succ_self _) _ _ _ I (lv_sub hl [1, 0] rfl)

set_option maxHeartbeats 4000000 in
set_option maxRecDepth 100000 in
theorem met_X5_tries (l : Launch) (Γ : g_C) (mo : Nat) (ad : Nat → Nat) (f : Nat → Int32) (a : Nat → Nat → Int32) (rr : Nat → UInt32) (ph : g_H)  (hw : WF (a 5)) (hL : okL f) (hC : f 13 = nI (nCr f)) (hC9 : nCr f ≤ 9) : g_Met l yX5_tries (ws_ yX5_tries cX5_tries 2 (some .int)) (g_rm 12 0 0) Γ [.ref mo] (mG Γ mo ad f a rr ph) (g_oi (fun v ph' => v = (if rdB f a = false then 0 else nI (gs (upd (rdW f a) 0 0) (ntA (rdA f a))).1) ∧ ph' = mG Γ mo ad (if rdB f a = false then upd (rdW f a) 0 1 else goF (upd (rdW f a) 0 0) (gs (upd (rdW f a) 0 0) (ntA (rdA f a)))) (if rdB f a = false then rdA f a else trA f a (gs (upd (rdW f a) 0 0) (ntA (rdA f a)))) rr ph)) g_no := by
  refine g_start (y := yX5_tries) (cc := cX5_tries) (maxL := 2) (ret := (some .int)) (rm := g_rm 12 0 0) (by decide) (Nat.le_of_ble_eq_true rfl) ?_
  intro p e s m A below meth c ls Q hQ S hr hlk hex hnm hK I hl
  have hx := S.1
  have hb := S.2.1
  have hown := S.2.2.2.1
  have hts := S.2.2.2.2
  have S : CallFix p m c cX5_tries 2 s A lw_all "CrumblingWallModel" := S
  have hl : lv_has ls 2 [(0, .ref mo)] := hl
  refine lv_aload_n hx hb dX5_tries_0 rfl (lv_at hl 0 rfl) ?_
  refine g_ci (g_runV S hK I (As := []) (rest := []) (met_X5_readsPlan l Γ mo ad f a rr ph hL) (cwV 0 hts (lw_V q3415 q3417 qs105 q151 q3418) rfl rfl rfl (by decide +kernel) ⟨Nat.le_of_ble_eq_true rfl, Nat.le_of_ble_eq_true rfl⟩) (g_recv hK I (g_at.of mG_obj) (ci := 4) rfl) rfl hl.1 rfl (Nat.le_of_ble_eq_true rfl) dX5_tries_1 ⟨Nat.le_of_ble_eq_true rfl, Nat.le_of_ble_eq_true rfl⟩) I (fun r_1 ph1 H locs hp I => ?_)
  obtain ⟨hp, rfl⟩ := hp
  have hp : r_1 = b2i (rdB f a) := hp
  subst hp
  have I : g_I Γ (mG Γ mo ad (rdW f a) (va_up (va_up (va_up a 22 ((rdR f a).2.2.1)) 23 ((rdR f a).2.2.2.1)) 24 ((rdR f a).2.2.2.2)) rr ph) s H locs := I
  refine lv_if_ne (tgt := 13) hx hb dX5_tries_4 (by decide) (fun c_4 => ?_) (fun c_4 => ?_)
  · have p_4 := (b2i_ne0 _).mp c_4
    refine lv_aload_n hx hb dX5_tries_13 rfl (lv_at hl 0 rfl) ?_
    refine lv_iconst (v := 0) hx hb dX5_tries_14 (by decide) ?_
    refine g_put S hK I k_X5 (v := .int 0) mG_obj 0 (by decide) q2952 rfl rfl rfl rfl (Nat.le_of_ble_eq_true rfl) dX5_tries_15 (fun H locs I => ?_)
    have I := mI_f (f' := (upd (rdW f a) 0 0)) I rfl
    refine lv_aload_n hx hb dX5_tries_18 rfl (lv_at hl 0 rfl) ?_
    refine g_cv (g_runV S hK I (As := []) (rest := []) (met_X5_notes l Γ mo ad (upd (rdW f a) 0 0) (va_up (va_up (va_up a 22 ((rdR f a).2.2.1)) 23 ((rdR f a).2.2.2.1)) 24 ((rdR f a).2.2.2.2)) rr ph ) (cwV 0 hts (lw_V q3079 q3081 qs56 q151 q3082) rfl rfl rfl (by decide +kernel) ⟨Nat.le_of_ble_eq_true rfl, Nat.le_of_ble_eq_true rfl⟩) (g_recv hK I (g_at.of mG_obj) (ci := 4) rfl) rfl hl.1 rfl (Nat.le_of_ble_eq_true rfl) dX5_tries_19 ⟨Nat.le_of_ble_eq_true rfl, Nat.le_of_ble_eq_true rfl⟩) I (fun ph1 H locs hp I => ?_)
    subst hp
    have I : g_I Γ (mG Γ mo ad (upd (rdW f a) 0 0) (va_up (va_up (va_up (va_up a 22 ((rdR f a).2.2.1)) 23 ((rdR f a).2.2.2.1)) 24 ((rdR f a).2.2.2.2)) 8 (va_cpy (a 5) (a 8) 0 0 170)) rr ph) s H locs := I
    have I : g_I Γ (mG Γ mo ad (upd (rdW f a) 0 0) (ntA (rdA f a)) rr ph) s H locs := I
    refine lv_aload_n hx hb dX5_tries_22 rfl (lv_at hl 0 rfl) ?_
    refine g_ci (g_runV S hK I (As := []) (rest := []) (met_X5_goesOn l Γ mo ad (upd (rdW f a) 0 0) (ntA (rdA f a)) rr ph hw (rd_okG hL hC hC9 rfl rfl)) (cwV 0 hts (lw_V q3439 q3441 qs111 q151 q3442) rfl rfl rfl (by decide +kernel) ⟨Nat.le_of_ble_eq_true rfl, Nat.le_of_ble_eq_true rfl⟩) (g_recv hK I (g_at.of mG_obj) (ci := 4) rfl) rfl hl.1 rfl (Nat.le_of_ble_eq_true rfl) dX5_tries_23 ⟨Nat.le_of_ble_eq_true rfl, Nat.le_of_ble_eq_true rfl⟩) I (fun r_23 ph1 H locs hp I => ?_)
    obtain ⟨hp, rfl⟩ := hp
    have hp : r_23 = nI (gs (upd (rdW f a) 0 0) (ntA (rdA f a))).1 := hp
    subst hp
    have I : g_I Γ (mG Γ mo ad (F4 (upd (rdW f a) 0 0) (gs (upd (rdW f a) 0 0) (ntA (rdA f a))).2.2.2 (nI (gs (upd (rdW f a) 0 0) (ntA (rdA f a))).2.2.1.2.2) (gs (upd (rdW f a) 0 0) (ntA (rdA f a))).2.1) (va_up (va_up (ntA (rdA f a)) 12 ((gs (upd (rdW f a) 0 0) (ntA (rdA f a))).2.2.1.2.1)) 5 ((gs (upd (rdW f a) 0 0) (ntA (rdA f a))).2.2.1.1)) rr ph) s H locs := I
    refine lv_istore_n (lv' := [(1, .int (nI (gs (upd (rdW f a) 0 0) (ntA (rdA f a))).1)), (0, .ref mo)]) hx hb dX5_tries_26 rfl hl (by decide) rfl (fun ls hl => ?_)
    refine lv_aload_n hx hb dX5_tries_27 rfl (lv_at hl 1 rfl) ?_
    refine g_cv (g_runV S hK I (As := []) (rest := []) (met_X5_goesBack l Γ mo ad (F4 (upd (rdW f a) 0 0) (gs (upd (rdW f a) 0 0) (ntA (rdA f a))).2.2.2 (nI (gs (upd (rdW f a) 0 0) (ntA (rdA f a))).2.2.1.2.2) (gs (upd (rdW f a) 0 0) (ntA (rdA f a))).2.1) (va_up (va_up (ntA (rdA f a)) 12 ((gs (upd (rdW f a) 0 0) (ntA (rdA f a))).2.2.1.2.1)) 5 ((gs (upd (rdW f a) 0 0) (ntA (rdA f a))).2.2.1.1)) rr ph ) (cwV 0 hts (lw_V q3459 q3461 qs116 q151 q3462) rfl rfl rfl (by decide +kernel) ⟨Nat.le_of_ble_eq_true rfl, Nat.le_of_ble_eq_true rfl⟩) (g_recv hK I (g_at.of mG_obj) (ci := 4) rfl) rfl hl.1 rfl (Nat.le_of_ble_eq_true rfl) dX5_tries_28 ⟨Nat.le_of_ble_eq_true rfl, Nat.le_of_ble_eq_true rfl⟩) I (fun ph1 H locs hp I => ?_)
    subst hp
    rw [bx_uu] at I
    have I : g_I Γ (mG Γ mo ad (F4 (upd (rdW f a) 0 0) (gs (upd (rdW f a) 0 0) (ntA (rdA f a))).2.2.2 (nI (gs (upd (rdW f a) 0 0) (ntA (rdA f a))).2.2.1.2.2) (gs (upd (rdW f a) 0 0) (ntA (rdA f a))).2.1) (va_up (va_up (ntA (rdA f a)) 12 ((gs (upd (rdW f a) 0 0) (ntA (rdA f a))).2.2.1.2.1)) 5 (va_cpy ((ntA (rdA f a)) 8) ((gs (upd (rdW f a) 0 0) (ntA (rdA f a))).2.2.1.1) 0 0 170)) rr ph) s H locs := I
    refine lv_iload_n hx hb dX5_tries_31 rfl (lv_at hl 0 rfl) ?_
    exact g_iret S hr hlk I dX5_tries_32 (Nat.le_of_ble_eq_true rfl) (Nat.le_of_ble_eq_true rfl) hQ ⟨_, rfl, (if_neg (by rw [p_4]; decide)).symm, (mG_c (if_neg (by rw [p_4]; decide)).symm (if_neg (by rw [p_4]; decide)).symm)⟩
  · have p_4 := (b2i_eq0 _).mp c_4
    refine lv_aload_n hx hb dX5_tries_7 rfl (lv_at hl 0 rfl) ?_
    refine lv_iconst (v := 1) hx hb dX5_tries_8 (by decide) ?_
    refine g_ci (g_runV S hK I (As := [.int 1]) (rest := []) (met_X5_fails l Γ mo ad (rdW f a) (va_up (va_up (va_up a 22 ((rdR f a).2.2.1)) 23 ((rdR f a).2.2.2.1)) 24 ((rdR f a).2.2.2.2)) rr ph 1) (cwV 1 hts (lw_V q3056 q3058 qs51 q151 q3059) rfl rfl rfl (by decide +kernel) ⟨Nat.le_of_ble_eq_true rfl, Nat.le_of_ble_eq_true rfl⟩) (g_recv hK I (g_at.of mG_obj) (ci := 4) rfl) rfl hl.1 rfl (Nat.le_of_ble_eq_true rfl) dX5_tries_9 ⟨Nat.le_of_ble_eq_true rfl, Nat.le_of_ble_eq_true rfl⟩) I (fun r_9 ph1 H locs hp I => ?_)
    obtain ⟨hp, rfl⟩ := hp
    have hp : r_9 = 0 := hp
    subst hp
    have I : g_I Γ (mG Γ mo ad (upd (rdW f a) 0 1) (va_up (va_up (va_up a 22 ((rdR f a).2.2.1)) 23 ((rdR f a).2.2.2.1)) 24 ((rdR f a).2.2.2.2)) rr ph) s H locs := I
    exact g_iret S hr hlk I dX5_tries_12 (Nat.le_of_ble_eq_true rfl) (Nat.le_of_ble_eq_true rfl) hQ ⟨_, rfl, (if_pos p_4).symm, (mG_c (if_pos p_4).symm (if_pos p_4).symm)⟩

set_option maxHeartbeats 4000000 in
set_option maxRecDepth 100000 in
theorem met_X5_run (l : Launch) (Γ : g_C) (mo : Nat) (ad : Nat → Nat) (f : Nat → Int32) (a : Nat → Nat → Int32) (rr : Nat → UInt32) (ph : g_H)  (hw : WF (a 5)) (hU : okU f) (hL : okL f) (hC : f 13 = nI (nCr f)) (hC9 : nCr f ≤ 9) : g_Met l yX5_run (ws_ yX5_run cX5_run 1 (some .int)) (g_rm 12 0 0) Γ [.ref mo] (mG Γ mo ad f a rr ph) (g_oi (fun v ph' => v = (if rdB f a = false then 0 else if (gs (rdW f a) (ntA (rdA f a))).2.1 = 0 then (rdW f a) 27 else 0) ∧ ph' = mG Γ mo ad (if rdB f a = false then upd (rdW f a) 0 1 else if (gs (rdW f a) (ntA (rdA f a))).2.1 = 0 then remF (upd (goF (rdW f a) (gs (rdW f a) (ntA (rdA f a)))) 0 0) else if (gs (rdW f a) (ntA (rdA f a))).2.1 = 1 then upd (goF (rdW f a) (gs (rdW f a) (ntA (rdA f a)))) 0 2 else m_ref (goF (rdW f a) (gs (rdW f a) (ntA (rdA f a)))) 3) (if rdB f a = false then rdA f a else if (gs (rdW f a) (ntA (rdA f a))).2.1 = 0 then ruA f a (gs (rdW f a) (ntA (rdA f a))) else trA f a (gs (rdW f a) (ntA (rdA f a)))) rr ph)) g_no := by
  refine g_start (y := yX5_run) (cc := cX5_run) (maxL := 1) (ret := (some .int)) (rm := g_rm 12 0 0) (by decide) (Nat.le_of_ble_eq_true rfl) ?_
  intro p e s m A below meth c ls Q hQ S hr hlk hex hnm hK I hl
  have hx := S.1
  have hb := S.2.1
  have hown := S.2.2.2.1
  have hts := S.2.2.2.2
  have S : CallFix p m c cX5_run 1 s A lw_all "CrumblingWallModel" := S
  have hl : lv_has ls 1 [(0, .ref mo)] := hl
  refine lv_aload_n hx hb dX5_run_0 rfl (lv_at hl 0 rfl) ?_
  refine g_ci (g_runV S hK I (As := []) (rest := []) (met_X5_readsPlan l Γ mo ad f a rr ph hL) (cwV 0 hts (lw_V q3415 q3417 qs105 q151 q3418) rfl rfl rfl (by decide +kernel) ⟨Nat.le_of_ble_eq_true rfl, Nat.le_of_ble_eq_true rfl⟩) (g_recv hK I (g_at.of mG_obj) (ci := 4) rfl) rfl hl.1 rfl (Nat.le_of_ble_eq_true rfl) dX5_run_1 ⟨Nat.le_of_ble_eq_true rfl, Nat.le_of_ble_eq_true rfl⟩) I (fun r_1 ph1 H locs hp I => ?_)
  obtain ⟨hp, rfl⟩ := hp
  have hp : r_1 = b2i (rdB f a) := hp
  subst hp
  have I : g_I Γ (mG Γ mo ad (rdW f a) (va_up (va_up (va_up a 22 ((rdR f a).2.2.1)) 23 ((rdR f a).2.2.2.1)) 24 ((rdR f a).2.2.2.2)) rr ph) s H locs := I
  refine lv_if_ne (tgt := 13) hx hb dX5_run_4 (by decide) (fun c_4 => ?_) (fun c_4 => ?_)
  · have p_4 := (b2i_ne0 _).mp c_4
    refine lv_aload_n hx hb dX5_run_13 rfl (lv_at hl 0 rfl) ?_
    refine g_cv (g_runV S hK I (As := []) (rest := []) (met_X5_notes l Γ mo ad (rdW f a) (va_up (va_up (va_up a 22 ((rdR f a).2.2.1)) 23 ((rdR f a).2.2.2.1)) 24 ((rdR f a).2.2.2.2)) rr ph ) (cwV 0 hts (lw_V q3079 q3081 qs56 q151 q3082) rfl rfl rfl (by decide +kernel) ⟨Nat.le_of_ble_eq_true rfl, Nat.le_of_ble_eq_true rfl⟩) (g_recv hK I (g_at.of mG_obj) (ci := 4) rfl) rfl hl.1 rfl (Nat.le_of_ble_eq_true rfl) dX5_run_14 ⟨Nat.le_of_ble_eq_true rfl, Nat.le_of_ble_eq_true rfl⟩) I (fun ph1 H locs hp I => ?_)
    subst hp
    have I : g_I Γ (mG Γ mo ad (rdW f a) (va_up (va_up (va_up (va_up a 22 ((rdR f a).2.2.1)) 23 ((rdR f a).2.2.2.1)) 24 ((rdR f a).2.2.2.2)) 8 (va_cpy (a 5) (a 8) 0 0 170)) rr ph) s H locs := I
    have I : g_I Γ (mG Γ mo ad (rdW f a) (ntA (rdA f a)) rr ph) s H locs := I
    refine lv_aload_n hx hb dX5_run_17 rfl (lv_at hl 0 rfl) ?_
    refine g_ci (g_runV S hK I (As := []) (rest := []) (met_X5_goesOn l Γ mo ad (rdW f a) (ntA (rdA f a)) rr ph hw (rd_okG hL hC hC9 rfl rfl)) (cwV 0 hts (lw_V q3439 q3441 qs111 q151 q3442) rfl rfl rfl (by decide +kernel) ⟨Nat.le_of_ble_eq_true rfl, Nat.le_of_ble_eq_true rfl⟩) (g_recv hK I (g_at.of mG_obj) (ci := 4) rfl) rfl hl.1 rfl (Nat.le_of_ble_eq_true rfl) dX5_run_18 ⟨Nat.le_of_ble_eq_true rfl, Nat.le_of_ble_eq_true rfl⟩) I (fun r_18 ph1 H locs hp I => ?_)
    obtain ⟨hp, rfl⟩ := hp
    have hp : r_18 = nI (gs (rdW f a) (ntA (rdA f a))).1 := hp
    subst hp
    have I : g_I Γ (mG Γ mo ad (F4 (rdW f a) (gs (rdW f a) (ntA (rdA f a))).2.2.2 (nI (gs (rdW f a) (ntA (rdA f a))).2.2.1.2.2) (gs (rdW f a) (ntA (rdA f a))).2.1) (va_up (va_up (ntA (rdA f a)) 12 ((gs (rdW f a) (ntA (rdA f a))).2.2.1.2.1)) 5 ((gs (rdW f a) (ntA (rdA f a))).2.2.1.1)) rr ph) s H locs := I
    refine lv_pop hx hb dX5_run_21 rfl ?_
    refine lv_aload_n hx hb dX5_run_22 rfl (lv_at hl 0 rfl) ?_
    refine g_get S hK I k_X5 (v := .int ((F4 (rdW f a) (gs (rdW f a) (ntA (rdA f a))).2.2.2 (nI (gs (rdW f a) (ntA (rdA f a))).2.2.1.2.2) (gs (rdW f a) (ntA (rdA f a))).2.1) 29)) (g_at.of mG_obj) 29 (by decide) q2981 rfl rfl dX5_run_23 ?_
    refine lv_if_eq (tgt := 55) hx hb dX5_run_26 (by decide) (fun c_26 => ?_) (fun c_26 => ?_)
    · refine lv_aload_n hx hb dX5_run_55 rfl (lv_at hl 0 rfl) ?_
      refine lv_iconst (v := 0) hx hb dX5_run_56 (by decide) ?_
      refine g_put S hK I k_X5 (v := .int 0) mG_obj 0 (by decide) q2952 rfl rfl rfl rfl (Nat.le_of_ble_eq_true rfl) dX5_run_57 (fun H locs I => ?_)
      have I := mI_f (f' := (upd (F4 (rdW f a) (gs (rdW f a) (ntA (rdA f a))).2.2.2 (nI (gs (rdW f a) (ntA (rdA f a))).2.2.1.2.2) (gs (rdW f a) (ntA (rdA f a))).2.1) 0 0)) I rfl
      refine lv_aload_n hx hb dX5_run_60 rfl (lv_at hl 0 rfl) ?_
      refine g_cv (g_runV S hK I (As := []) (rest := []) (met_X5_remembers l Γ mo ad (upd (F4 (rdW f a) (gs (rdW f a) (ntA (rdA f a))).2.2.2 (nI (gs (rdW f a) (ntA (rdA f a))).2.2.1.2.2) (gs (rdW f a) (ntA (rdA f a))).2.1) 0 0) (va_up (va_up (ntA (rdA f a)) 12 ((gs (rdW f a) (ntA (rdA f a))).2.2.1.2.1)) 5 ((gs (rdW f a) (ntA (rdA f a))).2.2.1.1)) rr ph (okU_go hU)) (cwV 0 hts (lw_V q3083 q3085 qs57 q151 q3086) rfl rfl rfl (by decide +kernel) ⟨Nat.le_of_ble_eq_true rfl, Nat.le_of_ble_eq_true rfl⟩) (g_recv hK I (g_at.of mG_obj) (ci := 4) rfl) rfl hl.1 rfl (Nat.le_of_ble_eq_true rfl) dX5_run_61 ⟨Nat.le_of_ble_eq_true rfl, Nat.le_of_ble_eq_true rfl⟩) I (fun ph1 H locs hp I => ?_)
      subst hp
      have I : g_I Γ (mG Γ mo ad (remF (upd (F4 (rdW f a) (gs (rdW f a) (ntA (rdA f a))).2.2.2 (nI (gs (rdW f a) (ntA (rdA f a))).2.2.1.2.2) (gs (rdW f a) (ntA (rdA f a))).2.1) 0 0)) (va_up (va_up (va_up (ntA (rdA f a)) 12 ((gs (rdW f a) (ntA (rdA f a))).2.2.1.2.1)) 5 ((gs (rdW f a) (ntA (rdA f a))).2.2.1.1)) 6 (va_cpy ((ntA (rdA f a)) 8) ((ntA (rdA f a)) 6) 0 (170 * rSl (upd (F4 (rdW f a) (gs (rdW f a) (ntA (rdA f a))).2.2.2 (nI (gs (rdW f a) (ntA (rdA f a))).2.2.1.2.2) (gs (rdW f a) (ntA (rdA f a))).2.1) 0 0)) 170)) rr ph) s H locs := I
      refine lv_aload_n hx hb dX5_run_64 rfl (lv_at hl 0 rfl) ?_
      refine g_get S hK I k_X5 (v := .int ((remF (upd (F4 (rdW f a) (gs (rdW f a) (ntA (rdA f a))).2.2.2 (nI (gs (rdW f a) (ntA (rdA f a))).2.2.1.2.2) (gs (rdW f a) (ntA (rdA f a))).2.1) 0 0)) 27)) (g_at.of mG_obj) 27 (by decide) q2979 rfl rfl dX5_run_65 ?_
      exact g_iret S hr hlk I dX5_run_68 (Nat.le_of_ble_eq_true rfl) (Nat.le_of_ble_eq_true rfl) hQ ⟨_, rfl, ((if_neg (by rw [p_4]; decide)).trans (if_pos c_26)).symm, (mG_c ((if_neg (by rw [p_4]; decide)).trans (if_pos c_26)).symm ((if_neg (by rw [p_4]; decide)).trans (if_pos c_26)).symm)⟩
    · refine lv_aload_n hx hb dX5_run_29 rfl (lv_at hl 0 rfl) ?_
      refine g_cv (g_runV S hK I (As := []) (rest := []) (met_X5_goesBack l Γ mo ad (F4 (rdW f a) (gs (rdW f a) (ntA (rdA f a))).2.2.2 (nI (gs (rdW f a) (ntA (rdA f a))).2.2.1.2.2) (gs (rdW f a) (ntA (rdA f a))).2.1) (va_up (va_up (ntA (rdA f a)) 12 ((gs (rdW f a) (ntA (rdA f a))).2.2.1.2.1)) 5 ((gs (rdW f a) (ntA (rdA f a))).2.2.1.1)) rr ph ) (cwV 0 hts (lw_V q3459 q3461 qs116 q151 q3462) rfl rfl rfl (by decide +kernel) ⟨Nat.le_of_ble_eq_true rfl, Nat.le_of_ble_eq_true rfl⟩) (g_recv hK I (g_at.of mG_obj) (ci := 4) rfl) rfl hl.1 rfl (Nat.le_of_ble_eq_true rfl) dX5_run_30 ⟨Nat.le_of_ble_eq_true rfl, Nat.le_of_ble_eq_true rfl⟩) I (fun ph1 H locs hp I => ?_)
      subst hp
      rw [bx_uu] at I
      have I : g_I Γ (mG Γ mo ad (F4 (rdW f a) (gs (rdW f a) (ntA (rdA f a))).2.2.2 (nI (gs (rdW f a) (ntA (rdA f a))).2.2.1.2.2) (gs (rdW f a) (ntA (rdA f a))).2.1) (va_up (va_up (ntA (rdA f a)) 12 ((gs (rdW f a) (ntA (rdA f a))).2.2.1.2.1)) 5 (va_cpy ((ntA (rdA f a)) 8) ((gs (rdW f a) (ntA (rdA f a))).2.2.1.1) 0 0 170)) rr ph) s H locs := I
      refine lv_aload_n hx hb dX5_run_33 rfl (lv_at hl 0 rfl) ?_
      refine g_get S hK I k_X5 (v := .int ((F4 (rdW f a) (gs (rdW f a) (ntA (rdA f a))).2.2.2 (nI (gs (rdW f a) (ntA (rdA f a))).2.2.1.2.2) (gs (rdW f a) (ntA (rdA f a))).2.1) 29)) (g_at.of mG_obj) 29 (by decide) q2981 rfl rfl dX5_run_34 ?_
      refine lv_iconst (v := 1) hx hb dX5_run_37 (by decide) ?_
      refine lv_icmp_ne (tgt := 49) hx hb dX5_run_38 (by decide) (fun c_38 => ?_) (fun c_38 => ?_)
      · refine lv_aload_n hx hb dX5_run_49 rfl (lv_at hl 0 rfl) ?_
        refine lv_iconst (v := 3) hx hb dX5_run_50 (by decide) ?_
        refine g_ci (g_runV S hK I (As := [.int 3]) (rest := []) (met_X5_refuses l Γ mo ad (F4 (rdW f a) (gs (rdW f a) (ntA (rdA f a))).2.2.2 (nI (gs (rdW f a) (ntA (rdA f a))).2.2.1.2.2) (gs (rdW f a) (ntA (rdA f a))).2.1) (va_up (va_up (ntA (rdA f a)) 12 ((gs (rdW f a) (ntA (rdA f a))).2.2.1.2.1)) 5 (va_cpy ((ntA (rdA f a)) 8) ((gs (rdW f a) (ntA (rdA f a))).2.2.1.1) 0 0 170)) rr ph 3) (cwV 1 hts (lw_V q3075 q3077 qs55 q151 q3078) rfl rfl rfl (by decide +kernel) ⟨Nat.le_of_ble_eq_true rfl, Nat.le_of_ble_eq_true rfl⟩) (g_recv hK I (g_at.of mG_obj) (ci := 4) rfl) rfl hl.1 rfl (Nat.le_of_ble_eq_true rfl) dX5_run_51 ⟨Nat.le_of_ble_eq_true rfl, Nat.le_of_ble_eq_true rfl⟩) I (fun r_51 ph1 H locs hp I => ?_)
        obtain ⟨hp, rfl⟩ := hp
        have hp : r_51 = 0 := hp
        subst hp
        have I : g_I Γ (mG Γ mo ad (m_ref (F4 (rdW f a) (gs (rdW f a) (ntA (rdA f a))).2.2.2 (nI (gs (rdW f a) (ntA (rdA f a))).2.2.1.2.2) (gs (rdW f a) (ntA (rdA f a))).2.1) 3) (va_up (va_up (ntA (rdA f a)) 12 ((gs (rdW f a) (ntA (rdA f a))).2.2.1.2.1)) 5 (va_cpy ((ntA (rdA f a)) 8) ((gs (rdW f a) (ntA (rdA f a))).2.2.1.1) 0 0 170)) rr ph) s H locs := I
        exact g_iret S hr hlk I dX5_run_54 (Nat.le_of_ble_eq_true rfl) (Nat.le_of_ble_eq_true rfl) hQ ⟨_, rfl, ((if_neg (by rw [p_4]; decide)).trans (if_neg c_26)).symm, (mG_c ((if_neg (by rw [p_4]; decide)).trans ((if_neg c_26).trans (if_neg c_38))).symm ((if_neg (by rw [p_4]; decide)).trans (if_neg c_26)).symm)⟩
      · refine lv_aload_n hx hb dX5_run_41 rfl (lv_at hl 0 rfl) ?_
        refine lv_iconst (v := 2) hx hb dX5_run_42 (by decide) ?_
        refine g_ci (g_runV S hK I (As := [.int 2]) (rest := []) (met_X5_fails l Γ mo ad (F4 (rdW f a) (gs (rdW f a) (ntA (rdA f a))).2.2.2 (nI (gs (rdW f a) (ntA (rdA f a))).2.2.1.2.2) (gs (rdW f a) (ntA (rdA f a))).2.1) (va_up (va_up (ntA (rdA f a)) 12 ((gs (rdW f a) (ntA (rdA f a))).2.2.1.2.1)) 5 (va_cpy ((ntA (rdA f a)) 8) ((gs (rdW f a) (ntA (rdA f a))).2.2.1.1) 0 0 170)) rr ph 2) (cwV 1 hts (lw_V q3056 q3058 qs51 q151 q3059) rfl rfl rfl (by decide +kernel) ⟨Nat.le_of_ble_eq_true rfl, Nat.le_of_ble_eq_true rfl⟩) (g_recv hK I (g_at.of mG_obj) (ci := 4) rfl) rfl hl.1 rfl (Nat.le_of_ble_eq_true rfl) dX5_run_43 ⟨Nat.le_of_ble_eq_true rfl, Nat.le_of_ble_eq_true rfl⟩) I (fun r_43 ph1 H locs hp I => ?_)
        obtain ⟨hp, rfl⟩ := hp
        have hp : r_43 = 0 := hp
        subst hp
        have I : g_I Γ (mG Γ mo ad (upd (F4 (rdW f a) (gs (rdW f a) (ntA (rdA f a))).2.2.2 (nI (gs (rdW f a) (ntA (rdA f a))).2.2.1.2.2) (gs (rdW f a) (ntA (rdA f a))).2.1) 0 2) (va_up (va_up (ntA (rdA f a)) 12 ((gs (rdW f a) (ntA (rdA f a))).2.2.1.2.1)) 5 (va_cpy ((ntA (rdA f a)) 8) ((gs (rdW f a) (ntA (rdA f a))).2.2.1.1) 0 0 170)) rr ph) s H locs := I
        refine lv_goto (tgt := 54) hx hb dX5_run_46 (by decide) ?_
        exact g_iret S hr hlk I dX5_run_54 (Nat.le_of_ble_eq_true rfl) (Nat.le_of_ble_eq_true rfl) hQ ⟨_, rfl, ((if_neg (by rw [p_4]; decide)).trans (if_neg c_26)).symm, (mG_c ((if_neg (by rw [p_4]; decide)).trans ((if_neg c_26).trans (if_pos c_38))).symm ((if_neg (by rw [p_4]; decide)).trans (if_neg c_26)).symm)⟩
  · have p_4 := (b2i_eq0 _).mp c_4
    refine lv_aload_n hx hb dX5_run_7 rfl (lv_at hl 0 rfl) ?_
    refine lv_iconst (v := 1) hx hb dX5_run_8 (by decide) ?_
    refine g_ci (g_runV S hK I (As := [.int 1]) (rest := []) (met_X5_fails l Γ mo ad (rdW f a) (va_up (va_up (va_up a 22 ((rdR f a).2.2.1)) 23 ((rdR f a).2.2.2.1)) 24 ((rdR f a).2.2.2.2)) rr ph 1) (cwV 1 hts (lw_V q3056 q3058 qs51 q151 q3059) rfl rfl rfl (by decide +kernel) ⟨Nat.le_of_ble_eq_true rfl, Nat.le_of_ble_eq_true rfl⟩) (g_recv hK I (g_at.of mG_obj) (ci := 4) rfl) rfl hl.1 rfl (Nat.le_of_ble_eq_true rfl) dX5_run_9 ⟨Nat.le_of_ble_eq_true rfl, Nat.le_of_ble_eq_true rfl⟩) I (fun r_9 ph1 H locs hp I => ?_)
    obtain ⟨hp, rfl⟩ := hp
    have hp : r_9 = 0 := hp
    subst hp
    have I : g_I Γ (mG Γ mo ad (upd (rdW f a) 0 1) (va_up (va_up (va_up a 22 ((rdR f a).2.2.1)) 23 ((rdR f a).2.2.2.1)) 24 ((rdR f a).2.2.2.2)) rr ph) s H locs := I
    exact g_iret S hr hlk I dX5_run_12 (Nat.le_of_ble_eq_true rfl) (Nat.le_of_ble_eq_true rfl) hQ ⟨_, rfl, (if_pos p_4).symm, (mG_c (if_pos p_4).symm (if_pos p_4).symm)⟩


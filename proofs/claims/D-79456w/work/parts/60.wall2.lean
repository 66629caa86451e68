/-! THE WALL: readers, further; refusals -/
set_option maxRecDepth 100000
theorem sz_comm : ∀ a, a ≤ 20 → ∀ b, b ≤ 20 → sz (nI a - nI b) = sz (nI b - nI a) := by
  have h : ∀ a, a < 21 → ∀ b, b < 21 → sz (Int32.ofNat a - Int32.ofNat b) = sz (Int32.ofNat b - Int32.ofNat a) := by decide +kernel
  exact fun a ha b hb => h a (by omega) b (by omega)
theorem hXr {w : m_w} (hw : WF w) {p : Int32} (hp : okP w p) (h : ¬ p = -1) : (∃ a, a ≤ 20 ∧ hX w p 0 = nI a) ∧ ∃ b, b ≤ 20 ∧ hX w p 1 = nI b := by
  obtain ⟨j, h2, h3, h4⟩ := vp_j (hp.resolve_left h) (Nat.lt_of_le_of_lt hw.1.2 (by decide))
  obtain ⟨⟨a, a1, a2⟩, ⟨b, b0, b1, b2⟩, -⟩ := hw.2.2.2.2.1 j h2
  unfold hX
  rw [h4]
  exact ⟨⟨a, by omega, a2⟩, b, b1, b2⟩
theorem dst_comm {w : m_w} (hw : WF w) {x y : Int32} (hx : okP w x) (hy : okP w y) : dst w x y = dst w y x := by
  unfold dst
  by_cases h1 : x = -1
  · by_cases h2 : y = -1
    · rw [if_pos ⟨h1, h2⟩, if_pos ⟨h2, h1⟩]
    · rw [if_neg (fun q => h2 q.2), if_pos h1, if_neg (fun q => h2 q.1), if_neg h2, if_pos h1]
  · by_cases h2 : y = -1
    · rw [if_neg (fun q => h1 q.1), if_neg h1, if_pos h2, if_neg (fun q => h1 q.2), if_pos h2]
    · obtain ⟨⟨a, a1, a2⟩, b, b1, b2⟩ := hXr hw hx h1
      obtain ⟨⟨c, c1, c2⟩, d, d1, d2⟩ := hXr hw hy h2
      rw [if_neg (fun q => h1 q.1), if_neg h1, if_neg h2, if_neg (fun q => h2 q.1), if_neg h2, if_neg h1, a2, b2, c2, d2, sz_comm a a1 c c1, sz_comm b b1 d d1]
theorem anyN_mono {p : Nat → Bool} {k n : Nat} (h : anyN k p = true) (hk : k ≤ n) : anyN n p = true := by
  induction n with
  | zero => rw [show k = 0 by omega] at h; exact h
  | succ n ih =>
    by_cases e : k = n + 1
    · subst e; exact h
    · show (anyN n p || p n) = true
      rw [ih (by omega)]; rfl
set_option maxHeartbeats 4000000 in
set_option maxRecDepth 100000 in
theorem met_X2_isBright (l : Launch) (Γ : g_C) (htr : l.stackTraces = false) (ph : g_H) (i : Nat) (ad na : Nat → Nat) (mc : Nat → Int32) (w : m_w) (h : Nat)  (hW : g_Wl Γ ph i ad na mc w) (hw : WF w) (hk0 : h < nN w) : g_Met l yX2_isBright (ws_ yX2_isBright cX2_isBright 5 (some .boolean)) (g_rm 6 0 0) Γ [.ref (ad 0), .ref (ad (30 + h))] ph (g_oi (fun rv_ ph' => rv_ = (b2i (isBr w (nI h))) ∧ ph' = ph)) g_no := by
  refine g_start (y := yX2_isBright) (cc := cX2_isBright) (maxL := 5) (ret := (some .boolean)) (rm := g_rm 6 0 0) (by decide) (Nat.le_of_ble_eq_true rfl) ?_
  intro pg e s m A below meth cd ls Q hQ S hr hlk hex hnm hK I hl
  have hx := S.1
  have hb := S.2.1
  have hown := S.2.2.2.1
  have hts := S.2.2.2.2
  have S : CallFix pg m cd cX2_isBright 5 s A lw_all "CrumblingWall$Wall" := S
  have hl : lv_has ls 5 [(0, .ref (ad 0)), (1, .ref (ad (30 + h)))] := hl
  have hwc := hw.1; have hwl := hw.2.1; have hwa := hw.2.2.1
  refine lv_aload_n hx hb dX2_isBright_0 rfl (lv_at hl 1 rfl) ?_
  refine g_ci (by obtain ⟨fs9, h9⟩ := ho_or hW hw (k := h) (by omega); rcases h9 with ⟨e9, r9⟩ | ⟨e9, r9⟩ | ⟨e9, r9⟩ | ⟨e9, r9⟩; exact (g_runU S hK I (As := []) (rest := []) (met_X7_row l Γ htr ph i ad na mc w h hW hw  (by omega)) (g_cwD (n := 0) hts q1268 q157 (by decide) (by decide +kernel) q1669 q3522 (g_declN (hK.N q1418 rfl)) q3524 q1266 ⟨Nat.le_of_ble_eq_true rfl, Nat.le_of_ble_eq_true rfl⟩) (g_recv hK I (g_at.of r9) (ci := 7) rfl) rfl hl.1 rfl (Nat.le_of_ble_eq_true rfl) dX2_isBright_1 ⟨Nat.le_of_ble_eq_true rfl, Nat.le_of_ble_eq_true rfl⟩); exact (g_runU S hK I (As := []) (rest := []) (met_X7_row l Γ htr ph i ad na mc w h hW hw  (by omega)) (g_cwD (n := 0) hts q1268 q157 (by decide) (by decide +kernel) q1669 q3522 (g_declN (hK.N q1418 rfl)) q3526 q1266 ⟨Nat.le_of_ble_eq_true rfl, Nat.le_of_ble_eq_true rfl⟩) (g_recv hK I (g_at.of r9) (ci := 9) rfl) rfl hl.1 rfl (Nat.le_of_ble_eq_true rfl) dX2_isBright_1 ⟨Nat.le_of_ble_eq_true rfl, Nat.le_of_ble_eq_true rfl⟩); exact (g_runU S hK I (As := []) (rest := []) (met_X7_row l Γ htr ph i ad na mc w h hW hw  (by omega)) (g_cwD (n := 0) hts q1268 q157 (by decide) (by decide +kernel) q1669 q3522 (g_declN (hK.N q1418 rfl)) q3525 q1266 ⟨Nat.le_of_ble_eq_true rfl, Nat.le_of_ble_eq_true rfl⟩) (g_recv hK I (g_at.of r9) (ci := 8) rfl) rfl hl.1 rfl (Nat.le_of_ble_eq_true rfl) dX2_isBright_1 ⟨Nat.le_of_ble_eq_true rfl, Nat.le_of_ble_eq_true rfl⟩); exact (g_runU S hK I (As := []) (rest := []) (met_X7_row l Γ htr ph i ad na mc w h hW hw  (by omega)) (g_cwD (n := 0) hts q1268 q157 (by decide) (by decide +kernel) q1669 q3522 (g_declN (hK.N q1418 rfl)) q3523 q1266 ⟨Nat.le_of_ble_eq_true rfl, Nat.le_of_ble_eq_true rfl⟩) (g_recv hK I (g_at.of r9) (ci := 6) rfl) rfl hl.1 rfl (Nat.le_of_ble_eq_true rfl) dX2_isBright_1 ⟨Nat.le_of_ble_eq_true rfl, Nat.le_of_ble_eq_true rfl⟩)) I (fun r_1 ph1 H locs hp I => ?_)
  obtain ⟨hp, hph⟩ := hp
  rw [hph] at I
  have hp : r_1 = (w (1 + 5 * h + 1)) := hp
  rw [hp]
  refine lv_aload_n hx hb dX2_isBright_4 rfl (lv_at hl 0 rfl) ?_
  refine g_get S hK I k_X2 (v := .int (w 102)) (g_at.of hW.o0) 8 (by decide) q658 rfl rfl dX2_isBright_5 ?_
  have J_16_0 : ∀ (x1 : Int32) (H : Heap) (locs : List Loc) (ls : Array Slot), (hx1 : x1 = b2i (decide (hX w (nI h) 1 < w 102))) → g_I Γ ph s H locs → lv_has ls 5 [(0, .ref (ad 0)), (1, .ref (ad (30 + h)))] → W pg l e (g_rm 6 0 0) s m A below meth cd H locs 0 0 Q (F0 m 16 ls [.int x1]) := by
    intro x1 H locs ls hx1 I hl
    subst hx1
    refine lv_istore_n (lv' := [(2, .int (b2i (decide (hX w (nI h) 1 < w 102)))), (0, .ref (ad 0)), (1, .ref (ad (30 + h)))]) hx hb dX2_isBright_16 rfl hl (by decide) rfl (fun ls hl => ?_)
    refine lv_iconst (v := 0) hx hb dX2_isBright_17 (by decide) ?_
    refine lv_istore_n (lv' := [(3, .int 0), (2, .int (b2i (decide (hX w (nI h) 1 < w 102)))), (0, .ref (ad 0)), (1, .ref (ad (30 + h)))]) hx hb dX2_isBright_18 rfl hl (by decide) rfl (fun ls hl => ?_)
    have L_19 : ∀ (d : Nat) (k : Nat), (hk : k ≤ nLa w) → nLa w - k < d → ∀ (H : Heap) (locs : List Loc) (ls : Array Slot), g_I Γ ph s H locs → lv_has ls 5 [(0, .ref (ad 0)), (1, .ref (ad (30 + h))), (2, .int (b2i (anyN k (litK w (nI h)) || decide (hX w (nI h) 1 < w 102)))), (3, .int (nI k))] → W pg l e (g_rm 6 0 0) s m A below meth cd H locs 0 0 Q (F0 m 19 ls []) := by
      intro d
      induction d with
      | zero => intro k hk hd; exact absurd hd (Nat.not_lt_zero _)
      | succ d ih =>
        intro k hk hd H locs ls I hl
        refine lv_iload_n hx hb dX2_isBright_19 rfl (lv_at hl 3 rfl) ?_
        refine lv_aload_n hx hb dX2_isBright_20 rfl (lv_at hl 0 rfl) ?_
        refine g_get S hK I k_X2 (v := .ref (ad 3)) (g_at.of hW.o0) 1 (by decide) q646 rfl rfl dX2_isBright_21 ?_
        refine g_ci (g_runV S hK I (As := []) (rest := [.int (nI k)]) (met_J7_size l Γ ph 103 i (ad 3) (ad 4) (mc 2) (w 104) hW.o3) (cwV 0 hts (lw_V q1353 q994 q3516 q130 q995) rfl rfl rfl (by decide +kernel) ⟨Nat.le_of_ble_eq_true rfl, Nat.le_of_ble_eq_true rfl⟩) (g_recv hK I (g_at.of hW.o3) (ci := 21) rfl) rfl hl.1 rfl (Nat.le_of_ble_eq_true rfl) dX2_isBright_24 ⟨Nat.le_of_ble_eq_true rfl, Nat.le_of_ble_eq_true rfl⟩) I (fun r_24 ph1 H locs hp I => ?_)
        obtain ⟨hp, hph⟩ := hp
        rw [hph] at I
        have hp : r_24 = (w 104) := hp
        rw [hp, show (w 104) = (nI (nLa w)) from hw.2.1.1]
        refine lv_icmp_ge (tgt := 89) hx hb dX2_isBright_27 (by decide) (fun c_27 => ?_) (fun c_27 => ?_)
        · have n_27 := Int32.not_lt.mpr c_27
          obtain rfl : k = nLa w := by rw [nI_leI (by omega) (by omega)] at c_27; omega
          refine lv_iload_n hx hb dX2_isBright_89 rfl (lv_at hl 2 rfl) ?_
          exact g_zret S hr hlk I (b2i_nar _) dX2_isBright_90 (Nat.le_of_ble_eq_true rfl) (Nat.le_of_ble_eq_true rfl) hQ ⟨_, rfl, rfl, rfl⟩
        · have n_27 := Int32.not_le.mp c_27
          have hkl : k < nLa w := by rw [nI_leI (by omega) (by omega)] at c_27; omega
          have hkv : vp_in (nI k) (nLa w) := vp_in_nI hkl (by omega)
          have hl4 : w (105 + 5 * k + 4) = 0 ∨ w (105 + 5 * k + 4) = 1 := (hw.2.2.2.2.2.2.1 k hkl).2.2
          refine lv_iload_n hx hb dX2_isBright_30 rfl (lv_at hl 2 rfl) ?_
          refine lv_if_ne (tgt := 89) hx hb dX2_isBright_31 (by decide) (fun c_31 => ?_) (fun c_31 => ?_)
          · have p_31 := (b2i_ne0 _).mp c_31
            refine lv_iload_n hx hb dX2_isBright_89 rfl (lv_at hl 2 rfl) ?_
            exact g_zret S hr hlk I (b2i_nar _) dX2_isBright_90 (Nat.le_of_ble_eq_true rfl) (Nat.le_of_ble_eq_true rfl) hQ ⟨_, rfl, (by unfold isBr; rcases (Bool.or_eq_true _ _).mp p_31 with z | z; rw [z, anyN_mono z hk]; rw [z, Bool.or_true, Bool.or_true]), rfl⟩
          · have p_31 := (b2i_eq0 _).mp c_31
            rw [Bool.or_eq_false_iff] at p_31
            have hl4c : (litK w (nI h) k) = (anyN (k + 1) (litK w (nI h)) || decide (hX w (nI h) 1 < w 102)) := by rw [show anyN (k + 1) (litK w (nI h)) = (anyN k (litK w (nI h)) || litK w (nI h) k) from rfl, p_31.1, p_31.2]; simp
            refine lv_aload_n hx hb dX2_isBright_34 rfl (lv_at hl 0 rfl) ?_
            refine g_get S hK I k_X2 (v := .ref (ad 3)) (g_at.of hW.o0) 1 (by decide) q646 rfl rfl dX2_isBright_35 ?_
            refine lv_iload_n hx hb dX2_isBright_38 rfl (lv_at hl 3 rfl) ?_
            refine g_cr (g_runV S hK I (As := [.int (nI k)]) (rest := []) (met_w_get3 l Γ ph i ad na mc w hW hw k (by omega)) (cwV 1 hts (lw_V q883 q793 q3509 q130 q795) rfl rfl rfl (by decide +kernel) ⟨Nat.le_of_ble_eq_true rfl, Nat.le_of_ble_eq_true rfl⟩) (g_recv hK I (g_at.of hW.o3) (ci := 21) rfl) rfl hl.1 rfl (Nat.le_of_ble_eq_true rfl) dX2_isBright_39 ⟨Nat.le_of_ble_eq_true rfl, Nat.le_of_ble_eq_true rfl⟩) I (fun r_39 ph1 H locs hp I => ?_)
            obtain ⟨hp, hph⟩ := hp
            rw [hph] at I
            have hp : r_39 = (ad (20 + k)) := hp
            rw [hp]
            refine g_castS S hK (ci := 10) rfl q1559 (g_recv hK I (g_at.of (hW.la (k := k) (by omega))) (ci := 10) rfl) dX2_isBright_42 ?_
            refine lv_astore (lv' := [(4, .ref (ad (20 + k))), (0, .ref (ad 0)), (1, .ref (ad (30 + h))), (2, .int (b2i (anyN k (litK w (nI h)) || decide (hX w (nI h) 1 < w 102)))), (3, .int (nI k))]) hx hb dX2_isBright_45 hl (by decide) rfl (fun ls hl => ?_)
            refine lv_aload hx hb dX2_isBright_47 (lv_at hl 0 rfl) ?_
            refine g_getN S hK I k_X12 (v := .int (w (105 + 5 * k + 4))) (g_at.of (hW.la (k := k) (by omega))) 4 (by decide) q1582 rfl rfl dX2_isBright_49 ?_
            have J_82_1 : ∀ (x2 : Int32) (H : Heap) (locs : List Loc) (ls : Array Slot), (hx2 : x2 = b2i (litK w (nI h) k)) → g_I Γ ph s H locs → lv_has ls 5 [(4, .ref (ad (20 + k))), (0, .ref (ad 0)), (1, .ref (ad (30 + h))), (2, .int (b2i (anyN k (litK w (nI h)) || decide (hX w (nI h) 1 < w 102)))), (3, .int (nI k))] → W pg l e (g_rm 6 0 0) s m A below meth cd H locs 0 0 Q (F0 m 82 ls [.int x2]) := by
              intro x2 H locs ls hx2 I hl
              subst hx2
              rw [hl4c]
              refine lv_istore_n (lv' := [(2, .int (b2i (anyN (k + 1) (litK w (nI h)) || decide (hX w (nI h) 1 < w 102)))), (4, .ref (ad (20 + k))), (0, .ref (ad 0)), (1, .ref (ad (30 + h))), (3, .int (nI k))]) hx hb dX2_isBright_82 rfl hl (by decide) rfl (fun ls hl => ?_)
              refine lv_iinc (v := nI (k + 1)) (lv' := [(3, .int (nI (k + 1))), (2, .int (b2i (anyN (k + 1) (litK w (nI h)) || decide (hX w (nI h) 1 < w 102)))), (4, .ref (ad (20 + k))), (0, .ref (ad 0)), (1, .ref (ad (30 + h)))]) hx hb dX2_isBright_83 hl (k := 4) rfl (nI_1 k) (by decide) rfl (fun ls hl => ?_)
              refine lv_goto (tgt := 19) hx hb dX2_isBright_86 (by decide) ?_
              exact ih (k + 1) hkl (by omega) _ _ _ I (lv_sub hl [3, 4, 1, 0] rfl)
            refine lv_if_eq (tgt := 81) hx hb dX2_isBright_52 (by decide) (fun c_52 => ?_) (fun c_52 => ?_)
            · refine lv_iconst (v := 0) hx hb dX2_isBright_81 (by decide) ?_
              exact J_82_1 0 _ _ _ (by unfold litK; rw [lX_kk (by omega), lX_kk (by omega), dst_comm hw (hw.lpl hkv) (okP_h hk0 hw)]; simp [b2i, c_52]) I (lv_sub hl [0, 1, 2, 3, 4] rfl)
            · refine lv_aload_n hx hb dX2_isBright_55 rfl (lv_at hl 2 rfl) ?_
              refine lv_aload_n hx hb dX2_isBright_56 rfl (lv_at hl 1 rfl) ?_
              refine lv_aload_n hx hb dX2_isBright_57 rfl (lv_at hl 1 rfl) ?_
              refine lv_aload hx hb dX2_isBright_58 (lv_at hl 0 rfl) ?_
              refine g_ci (g_runV S hK I (As := [.ref (ad (20 + k))]) (rest := [.ref (ad 0), .ref (ad (30 + h))]) (met_X2_placeOf l Γ htr ph i ad na mc w k hW hw  hkl) (cwV 1 hts (lw_V q1854 q1856 qs17 q121 q1857) rfl rfl rfl (by decide +kernel) ⟨Nat.le_of_ble_eq_true rfl, Nat.le_of_ble_eq_true rfl⟩) (g_recv hK I (g_at.of hW.o0) (ci := 1) rfl) rfl hl.1 rfl (Nat.le_of_ble_eq_true rfl) dX2_isBright_60 ⟨Nat.le_of_ble_eq_true rfl, Nat.le_of_ble_eq_true rfl⟩) I (fun r_60 ph1 H locs hp I => ?_)
              obtain ⟨hp, hph⟩ := hp
              rw [hph] at I
              have hp : r_60 = (lPl w (nI k)) := hp
              rw [hp]
              refine g_cr (g_runV S hK I (As := [.int (lPl w (nI k))]) (rest := [.ref (ad (30 + h))]) (met_X2_place l Γ htr ph i ad na mc w (lPl w (nI k)) hW hw  (hw.lpl hkv)) (cwV 1 hts (lw_V q879 q880 q881 q121 q882) rfl rfl rfl (by decide +kernel) ⟨Nat.le_of_ble_eq_true rfl, Nat.le_of_ble_eq_true rfl⟩) (g_recv hK I (g_at.of hW.o0) (ci := 1) rfl) rfl hl.1 rfl (Nat.le_of_ble_eq_true rfl) dX2_isBright_63 ⟨Nat.le_of_ble_eq_true rfl, Nat.le_of_ble_eq_true rfl⟩) I (fun r_63 ph1 H locs hp I => ?_)
              obtain ⟨hp, hph⟩ := hp
              rw [hph] at I
              have hp : r_63 = (plA ad (lPl w (nI k))) := hp
              rw [hp]
              refine g_ci (by obtain ⟨fs9, h9⟩ := ho_or hW hw (k := h) (by omega); rcases h9 with ⟨e9, r9⟩ | ⟨e9, r9⟩ | ⟨e9, r9⟩ | ⟨e9, r9⟩; exact (g_runU S hK I (As := [.ref (plA ad (lPl w (nI k)))]) (rest := []) (met_X7_distance l Γ htr ph i ad na mc w h (lPl w (nI k)) hW hw  (by omega) (hw.lpl hkv)) (g_cwD (n := 1) hts q1214 q157 (by decide) (by decide +kernel) q1862 q3532 (va_Decl.of (hts _ q1212) (hts _ q1214)) q3534 q1212 ⟨Nat.le_of_ble_eq_true rfl, Nat.le_of_ble_eq_true rfl⟩) (g_recv hK I (g_at.of r9) (ci := 7) rfl) rfl hl.1 rfl (Nat.le_of_ble_eq_true rfl) dX2_isBright_66 ⟨Nat.le_of_ble_eq_true rfl, Nat.le_of_ble_eq_true rfl⟩); exact (g_runU S hK I (As := [.ref (plA ad (lPl w (nI k)))]) (rest := []) (met_X7_distance l Γ htr ph i ad na mc w h (lPl w (nI k)) hW hw  (by omega) (hw.lpl hkv)) (g_cwD (n := 1) hts q1214 q157 (by decide) (by decide +kernel) q1862 q3532 (va_Decl.of (hts _ q1212) (hts _ q1214)) q3536 q1212 ⟨Nat.le_of_ble_eq_true rfl, Nat.le_of_ble_eq_true rfl⟩) (g_recv hK I (g_at.of r9) (ci := 9) rfl) rfl hl.1 rfl (Nat.le_of_ble_eq_true rfl) dX2_isBright_66 ⟨Nat.le_of_ble_eq_true rfl, Nat.le_of_ble_eq_true rfl⟩); exact (g_runU S hK I (As := [.ref (plA ad (lPl w (nI k)))]) (rest := []) (met_X7_distance l Γ htr ph i ad na mc w h (lPl w (nI k)) hW hw  (by omega) (hw.lpl hkv)) (g_cwD (n := 1) hts q1214 q157 (by decide) (by decide +kernel) q1862 q3532 (va_Decl.of (hts _ q1212) (hts _ q1214)) q3535 q1212 ⟨Nat.le_of_ble_eq_true rfl, Nat.le_of_ble_eq_true rfl⟩) (g_recv hK I (g_at.of r9) (ci := 8) rfl) rfl hl.1 rfl (Nat.le_of_ble_eq_true rfl) dX2_isBright_66 ⟨Nat.le_of_ble_eq_true rfl, Nat.le_of_ble_eq_true rfl⟩); exact (g_runU S hK I (As := [.ref (plA ad (lPl w (nI k)))]) (rest := []) (met_X7_distance l Γ htr ph i ad na mc w h (lPl w (nI k)) hW hw  (by omega) (hw.lpl hkv)) (g_cwD (n := 1) hts q1214 q157 (by decide) (by decide +kernel) q1862 q3532 (va_Decl.of (hts _ q1212) (hts _ q1214)) q3533 q1212 ⟨Nat.le_of_ble_eq_true rfl, Nat.le_of_ble_eq_true rfl⟩) (g_recv hK I (g_at.of r9) (ci := 6) rfl) rfl hl.1 rfl (Nat.le_of_ble_eq_true rfl) dX2_isBright_66 ⟨Nat.le_of_ble_eq_true rfl, Nat.le_of_ble_eq_true rfl⟩)) I (fun r_66 ph1 H locs hp I => ?_)
              obtain ⟨hp, hph⟩ := hp
              rw [hph] at I
              have hp : r_66 = (dst w (nI h) (lPl w (nI k))) := hp
              rw [hp]
              refine lv_aload hx hb dX2_isBright_69 (lv_at hl 0 rfl) ?_
              refine g_getN S hK I k_X12 (v := .int (w (105 + 5 * k + 2))) (g_at.of (hW.la (k := k) (by omega))) 0 (by decide) q1571 rfl rfl dX2_isBright_71 ?_
              refine lv_icmp_gt (tgt := 81) hx hb dX2_isBright_74 (by decide) (fun c_74 => ?_) (fun c_74 => ?_)
              · have n_74 := Int32.not_le.mpr c_74
                refine lv_iconst (v := 0) hx hb dX2_isBright_81 (by decide) ?_
                exact J_82_1 0 _ _ _ (by unfold litK; rw [lX_kk (by omega), lX_kk (by omega), dst_comm hw (hw.lpl hkv) (okP_h hk0 hw)]; simp [b2i, c_74, hl4.resolve_left c_52]) I (lv_sub hl [0, 1, 2, 3, 4] rfl)
              · have n_74 := Int32.not_lt.mp c_74
                refine lv_iconst (v := 1) hx hb dX2_isBright_77 (by decide) ?_
                refine lv_goto (tgt := 82) hx hb dX2_isBright_78 (by decide) ?_
                exact J_82_1 1 _ _ _ (by unfold litK; rw [lX_kk (by omega), lX_kk (by omega), dst_comm hw (hw.lpl hkv) (okP_h hk0 hw)]; simp [b2i, c_74, hl4.resolve_left c_52]) I (lv_sub hl [0, 1, 2, 3, 4] rfl)
    exact L_19 _ 0 (Nat.zero_le _) (Nat.lt_succ_self _) _ _ _ I (lv_sub hl [2, 3, 1, 0] rfl)
  refine lv_icmp_ge (tgt := 15) hx hb dX2_isBright_8 (by decide) (fun c_8 => ?_) (fun c_8 => ?_)
  · have n_8 := Int32.not_lt.mpr c_8
    refine lv_iconst (v := 0) hx hb dX2_isBright_15 (by decide) ?_
    exact J_16_0 0 _ _ _ (by rw [hX_k (by omega)]; simp [b2i, n_8]) I (lv_sub hl [0, 1] rfl)
  · have n_8 := Int32.not_le.mp c_8
    refine lv_iconst (v := 1) hx hb dX2_isBright_11 (by decide) ?_
    refine lv_goto (tgt := 16) hx hb dX2_isBright_12 (by decide) ?_
    exact J_16_0 1 _ _ _ (by rw [hX_k (by omega)]; simp [b2i, n_8]) I (lv_sub hl [0, 1] rfl)

def rsA (w : m_w) (p : Int32) : Int32 := if p = -1 then 20 else gain (hX w p 2)
def isOp (w : m_w) (p : Int32) : Bool := decide (p = -1) || (!hasCr w p && isBr w p)
set_option maxHeartbeats 4000000 in
set_option maxRecDepth 100000 in
theorem met_X2_restAt (l : Launch) (Γ : g_C) (htr : l.stackTraces = false) (ph : g_H) (i : Nat) (ad na : Nat → Nat) (mc : Nat → Int32) (w : m_w) (p : Int32)  (hW : g_Wl Γ ph i ad na mc w) (hw : WF w) (hp0 : okP w p) : g_Met l yX2_restAt (ws_ yX2_restAt cX2_restAt 2 (some .int)) (g_rm 4 0 0) Γ [.ref (ad 0), .int p] ph (g_oi (fun rv_ ph' => rv_ = (rsA w p) ∧ ph' = ph)) g_no := by
  refine g_start (y := yX2_restAt) (cc := cX2_restAt) (maxL := 2) (ret := (some .int)) (rm := g_rm 4 0 0) (by decide) (Nat.le_of_ble_eq_true rfl) ?_
  intro pg e s m A below meth cd ls Q hQ S hr hlk hex hnm hK I hl
  have hx := S.1
  have hb := S.2.1
  have hown := S.2.2.2.1
  have hts := S.2.2.2.2
  have S : CallFix pg m cd cX2_restAt 2 s A lw_all "CrumblingWall$Wall" := S
  have hl : lv_has ls 2 [(0, .ref (ad 0)), (1, .int p)] := hl
  have hwc := hw.1; have hwl := hw.2.1; have hwa := hw.2.2.1
  refine lv_iload_n hx hb dX2_restAt_0 rfl (lv_at hl 1 rfl) ?_
  refine lv_iconst (v := (-1)) hx hb dX2_restAt_1 (by decide) ?_
  refine lv_icmp_ne (tgt := 10) hx hb dX2_restAt_2 (by decide) (fun c_2 => ?_) (fun c_2 => ?_)
  · have hp1 := okHx hw (hp0.resolve_left c_2)
    have hp2 := hp1.1
    refine lv_aload_n hx hb dX2_restAt_10 rfl (lv_at hl 0 rfl) ?_
    refine g_get S hK I k_X2 (v := .ref (ad 1)) (g_at.of hW.o0) 0 (by decide) q643 rfl rfl dX2_restAt_11 ?_
    refine lv_iload_n hx hb dX2_restAt_14 rfl (lv_at hl 1 rfl) ?_
    refine g_cr (g_runV S hK I (As := [.int p]) (rest := []) (by have z := (met_w_get1 l Γ ph i ad na mc w hW hw p.toNatClampNeg hp1.1); rw [hp1.2] at z; exact z) (cwV 1 hts (lw_V q883 q793 q3509 q130 q795) rfl rfl rfl (by decide +kernel) ⟨Nat.le_of_ble_eq_true rfl, Nat.le_of_ble_eq_true rfl⟩) (g_recv hK I (g_at.of hW.o1) (ci := 21) rfl) rfl hl.1 rfl (Nat.le_of_ble_eq_true rfl) dX2_restAt_15 ⟨Nat.le_of_ble_eq_true rfl, Nat.le_of_ble_eq_true rfl⟩) I (fun r_15 ph1 H locs hp I => ?_)
    obtain ⟨hp, hph⟩ := hp
    rw [hph] at I
    have hp : r_15 = (ad (30 + p.toNatClampNeg)) := hp
    rw [hp]
    refine h_cast S hK I (ho_or hW hw (k := p.toNatClampNeg) (by omega)) q1389 hca_Hold dX2_restAt_18 ?_
    refine g_ci (by obtain ⟨fs9, h9⟩ := ho_or hW hw (k := p.toNatClampNeg) (by omega); rcases h9 with ⟨e9, r9⟩ | ⟨e9, r9⟩ | ⟨e9, r9⟩ | ⟨e9, r9⟩; exact (g_runU S hK I (As := []) (rest := []) (met_X9_rest_k l Γ ph (ad (30 + p.toNatClampNeg)) (kd := (w (1 + 5 * p.toNatClampNeg + 2))) e9) (g_cwD (n := 0) hts q2176 q159 (by decide) (by decide +kernel) q2168 q2170 (g_declN (hK.N q2169 rfl)) q2174 q2175 ⟨Nat.le_of_ble_eq_true rfl, Nat.le_of_ble_eq_true rfl⟩) (g_recv hK I (g_at.of r9) (ci := 7) rfl) rfl hl.1 rfl (Nat.le_of_ble_eq_true rfl) dX2_restAt_21 ⟨Nat.le_of_ble_eq_true rfl, Nat.le_of_ble_eq_true rfl⟩); exact (g_runU S hK I (As := []) (rest := []) (met_X11_rest_k l Γ ph (ad (30 + p.toNatClampNeg)) (kd := (w (1 + 5 * p.toNatClampNeg + 2))) e9) (g_cwD (n := 0) hts q2182 q161 (by decide) (by decide +kernel) q2168 q2170 (g_declN (hK.N q2169 rfl)) q2180 q2181 ⟨Nat.le_of_ble_eq_true rfl, Nat.le_of_ble_eq_true rfl⟩) (g_recv hK I (g_at.of r9) (ci := 9) rfl) rfl hl.1 rfl (Nat.le_of_ble_eq_true rfl) dX2_restAt_21 ⟨Nat.le_of_ble_eq_true rfl, Nat.le_of_ble_eq_true rfl⟩); exact (g_runU S hK I (As := []) (rest := []) (met_X10_rest_k l Γ ph (ad (30 + p.toNatClampNeg)) (kd := (w (1 + 5 * p.toNatClampNeg + 2))) e9) (g_cwD (n := 0) hts q2179 q160 (by decide) (by decide +kernel) q2168 q2170 (g_declN (hK.N q2169 rfl)) q2177 q2178 ⟨Nat.le_of_ble_eq_true rfl, Nat.le_of_ble_eq_true rfl⟩) (g_recv hK I (g_at.of r9) (ci := 8) rfl) rfl hl.1 rfl (Nat.le_of_ble_eq_true rfl) dX2_restAt_21 ⟨Nat.le_of_ble_eq_true rfl, Nat.le_of_ble_eq_true rfl⟩); exact (g_runU S hK I (As := []) (rest := []) (met_X8_rest_k l Γ ph (ad (30 + p.toNatClampNeg)) (kd := (w (1 + 5 * p.toNatClampNeg + 2))) e9) (g_cwD (n := 0) hts q2173 q158 (by decide) (by decide +kernel) q2168 q2170 (g_declN (hK.N q2169 rfl)) q2171 q2172 ⟨Nat.le_of_ble_eq_true rfl, Nat.le_of_ble_eq_true rfl⟩) (g_recv hK I (g_at.of r9) (ci := 6) rfl) rfl hl.1 rfl (Nat.le_of_ble_eq_true rfl) dX2_restAt_21 ⟨Nat.le_of_ble_eq_true rfl, Nat.le_of_ble_eq_true rfl⟩)) I (fun r_21 ph1 H locs hp I => ?_)
    obtain ⟨hp, hph⟩ := hp
    rw [hph] at I
    have hp : r_21 = gain (w (1 + 5 * p.toNatClampNeg + 2)) := hp
    rw [hp]
    exact g_iret S hr hlk I dX2_restAt_24 (Nat.le_of_ble_eq_true rfl) (Nat.le_of_ble_eq_true rfl) hQ ⟨_, rfl, (if_neg c_2).symm, rfl⟩
  · refine lv_bipush (v := 20) hx hb dX2_restAt_5 (by decide) ?_
    refine lv_goto (tgt := 24) hx hb dX2_restAt_7 (by decide) ?_
    exact g_iret S hr hlk I dX2_restAt_24 (Nat.le_of_ble_eq_true rfl) (Nat.le_of_ble_eq_true rfl) hQ ⟨_, rfl, (if_pos c_2).symm, rfl⟩

set_option maxHeartbeats 4000000 in
set_option maxRecDepth 100000 in
theorem met_X2_isOpen (l : Launch) (Γ : g_C) (htr : l.stackTraces = false) (ph : g_H) (i : Nat) (ad na : Nat → Nat) (mc : Nat → Int32) (w : m_w) (p : Int32)  (hW : g_Wl Γ ph i ad na mc w) (hw : WF w) (hp0 : okP w p) : g_Met l yX2_isOpen (ws_ yX2_isOpen cX2_isOpen 2 (some .boolean)) (g_rm 7 0 0) Γ [.ref (ad 0), .int p] ph (g_oi (fun rv_ ph' => rv_ = (b2i (isOp w p)) ∧ ph' = ph)) g_no := by
  refine g_start (y := yX2_isOpen) (cc := cX2_isOpen) (maxL := 2) (ret := (some .boolean)) (rm := g_rm 7 0 0) (by decide) (Nat.le_of_ble_eq_true rfl) ?_
  intro pg e s m A below meth cd ls Q hQ S hr hlk hex hnm hK I hl
  have hx := S.1
  have hb := S.2.1
  have hown := S.2.2.2.1
  have hts := S.2.2.2.2
  have S : CallFix pg m cd cX2_isOpen 2 s A lw_all "CrumblingWall$Wall" := S
  have hl : lv_has ls 2 [(0, .ref (ad 0)), (1, .int p)] := hl
  have hwc := hw.1; have hwl := hw.2.1; have hwa := hw.2.2.1
  refine lv_iload_n hx hb dX2_isOpen_0 rfl (lv_at hl 1 rfl) ?_
  refine lv_iconst (v := (-1)) hx hb dX2_isOpen_1 (by decide) ?_
  refine lv_icmp_eq (tgt := 40) hx hb dX2_isOpen_2 (by decide) (fun c_2 => ?_) (fun c_2 => ?_)
  · refine lv_iconst (v := 1) hx hb dX2_isOpen_40 (by decide) ?_
    refine lv_goto (tgt := 45) hx hb dX2_isOpen_41 (by decide) ?_
    exact g_zret S hr hlk I rfl dX2_isOpen_45 (Nat.le_of_ble_eq_true rfl) (Nat.le_of_ble_eq_true rfl) hQ ⟨_, rfl, (by unfold isOp; simp [b2i, c_2]), rfl⟩
  · have hp1 := okHx hw (hp0.resolve_left c_2)
    have hp2 := hp1.1
    refine lv_aload_n hx hb dX2_isOpen_5 rfl (lv_at hl 0 rfl) ?_
    refine g_get S hK I k_X2 (v := .ref (ad 1)) (g_at.of hW.o0) 0 (by decide) q643 rfl rfl dX2_isOpen_6 ?_
    refine lv_iload_n hx hb dX2_isOpen_9 rfl (lv_at hl 1 rfl) ?_
    refine g_cr (g_runV S hK I (As := [.int p]) (rest := []) (by have z := (met_w_get1 l Γ ph i ad na mc w hW hw p.toNatClampNeg hp1.1); rw [hp1.2] at z; exact z) (cwV 1 hts (lw_V q883 q793 q3509 q130 q795) rfl rfl rfl (by decide +kernel) ⟨Nat.le_of_ble_eq_true rfl, Nat.le_of_ble_eq_true rfl⟩) (g_recv hK I (g_at.of hW.o1) (ci := 21) rfl) rfl hl.1 rfl (Nat.le_of_ble_eq_true rfl) dX2_isOpen_10 ⟨Nat.le_of_ble_eq_true rfl, Nat.le_of_ble_eq_true rfl⟩) I (fun r_10 ph1 H locs hp I => ?_)
    obtain ⟨hp, hph⟩ := hp
    rw [hph] at I
    have hp : r_10 = (ad (30 + p.toNatClampNeg)) := hp
    rw [hp]
    refine h_cast S hK I (ho_or hW hw (k := p.toNatClampNeg) (by omega)) q1389 hca_Hold dX2_isOpen_13 ?_
    refine g_ci (by obtain ⟨fs9, h9⟩ := ho_or hW hw (k := p.toNatClampNeg) (by omega); rcases h9 with ⟨e9, r9⟩ | ⟨e9, r9⟩ | ⟨e9, r9⟩ | ⟨e9, r9⟩; exact (g_runU S hK I (As := []) (rest := []) (met_X7_hasCrumbled l Γ htr ph i ad na mc w p.toNatClampNeg hW hw  (by omega)) (g_cwD (n := 0) hts q1373 q157 (by decide) (by decide +kernel) q1920 q1368 (va_Decl.of (hts _ q1367) (hts _ q1373)) q1370 q1367 ⟨Nat.le_of_ble_eq_true rfl, Nat.le_of_ble_eq_true rfl⟩) (g_recv hK I (g_at.of r9) (ci := 7) rfl) rfl hl.1 rfl (Nat.le_of_ble_eq_true rfl) dX2_isOpen_16 ⟨Nat.le_of_ble_eq_true rfl, Nat.le_of_ble_eq_true rfl⟩); exact (g_runU S hK I (As := []) (rest := []) (met_X7_hasCrumbled l Γ htr ph i ad na mc w p.toNatClampNeg hW hw  (by omega)) (g_cwD (n := 0) hts q1373 q157 (by decide) (by decide +kernel) q1920 q1368 (va_Decl.of (hts _ q1367) (hts _ q1373)) q1372 q1367 ⟨Nat.le_of_ble_eq_true rfl, Nat.le_of_ble_eq_true rfl⟩) (g_recv hK I (g_at.of r9) (ci := 9) rfl) rfl hl.1 rfl (Nat.le_of_ble_eq_true rfl) dX2_isOpen_16 ⟨Nat.le_of_ble_eq_true rfl, Nat.le_of_ble_eq_true rfl⟩); exact (g_runU S hK I (As := []) (rest := []) (met_X7_hasCrumbled l Γ htr ph i ad na mc w p.toNatClampNeg hW hw  (by omega)) (g_cwD (n := 0) hts q1373 q157 (by decide) (by decide +kernel) q1920 q1368 (va_Decl.of (hts _ q1367) (hts _ q1373)) q1371 q1367 ⟨Nat.le_of_ble_eq_true rfl, Nat.le_of_ble_eq_true rfl⟩) (g_recv hK I (g_at.of r9) (ci := 8) rfl) rfl hl.1 rfl (Nat.le_of_ble_eq_true rfl) dX2_isOpen_16 ⟨Nat.le_of_ble_eq_true rfl, Nat.le_of_ble_eq_true rfl⟩); exact (g_runU S hK I (As := []) (rest := []) (met_X7_hasCrumbled l Γ htr ph i ad na mc w p.toNatClampNeg hW hw  (by omega)) (g_cwD (n := 0) hts q1373 q157 (by decide) (by decide +kernel) q1920 q1368 (va_Decl.of (hts _ q1367) (hts _ q1373)) q1369 q1367 ⟨Nat.le_of_ble_eq_true rfl, Nat.le_of_ble_eq_true rfl⟩) (g_recv hK I (g_at.of r9) (ci := 6) rfl) rfl hl.1 rfl (Nat.le_of_ble_eq_true rfl) dX2_isOpen_16 ⟨Nat.le_of_ble_eq_true rfl, Nat.le_of_ble_eq_true rfl⟩)) I (fun r_16 ph1 H locs hp I => ?_)
    obtain ⟨hp, hph⟩ := hp
    rw [hph] at I
    have hp : r_16 = (b2i (hasCr w (nI p.toNatClampNeg))) := hp
    rw [hp]
    refine lv_if_ne (tgt := 44) hx hb dX2_isOpen_19 (by decide) (fun c_19 => ?_) (fun c_19 => ?_)
    · have p_19 := (b2i_ne0 _).mp c_19
      refine lv_iconst (v := 0) hx hb dX2_isOpen_44 (by decide) ?_
      exact g_zret S hr hlk I rfl dX2_isOpen_45 (Nat.le_of_ble_eq_true rfl) (Nat.le_of_ble_eq_true rfl) hQ ⟨_, rfl, (by unfold isOp; rw [hp1.2] at p_19; simp [b2i, c_2, p_19]), rfl⟩
    · have p_19 := (b2i_eq0 _).mp c_19
      refine lv_aload_n hx hb dX2_isOpen_22 rfl (lv_at hl 0 rfl) ?_
      refine lv_aload_n hx hb dX2_isOpen_23 rfl (lv_at hl 0 rfl) ?_
      refine g_get S hK I k_X2 (v := .ref (ad 1)) (g_at.of hW.o0) 0 (by decide) q643 rfl rfl dX2_isOpen_24 ?_
      refine lv_iload_n hx hb dX2_isOpen_27 rfl (lv_at hl 1 rfl) ?_
      refine g_cr (g_runV S hK I (As := [.int p]) (rest := [.ref (ad 0)]) (by have z := (met_w_get1 l Γ ph i ad na mc w hW hw p.toNatClampNeg hp1.1); rw [hp1.2] at z; exact z) (cwV 1 hts (lw_V q883 q793 q3509 q130 q795) rfl rfl rfl (by decide +kernel) ⟨Nat.le_of_ble_eq_true rfl, Nat.le_of_ble_eq_true rfl⟩) (g_recv hK I (g_at.of hW.o1) (ci := 21) rfl) rfl hl.1 rfl (Nat.le_of_ble_eq_true rfl) dX2_isOpen_28 ⟨Nat.le_of_ble_eq_true rfl, Nat.le_of_ble_eq_true rfl⟩) I (fun r_28 ph1 H locs hp I => ?_)
      obtain ⟨hp, hph⟩ := hp
      rw [hph] at I
      have hp : r_28 = (ad (30 + p.toNatClampNeg)) := hp
      rw [hp]
      refine h_cast S hK I (ho_or hW hw (k := p.toNatClampNeg) (by omega)) q1389 hca_Hold dX2_isOpen_31 ?_
      refine g_ci (g_runV S hK I (As := [.ref (ad (30 + p.toNatClampNeg))]) (rest := []) (met_X2_isBright l Γ htr ph i ad na mc w p.toNatClampNeg hW hw  (by omega)) (cwV 1 hts (lw_V q1941 q1851 q1852 q121 q1853) rfl rfl rfl (by decide +kernel) ⟨Nat.le_of_ble_eq_true rfl, Nat.le_of_ble_eq_true rfl⟩) (g_recv hK I (g_at.of hW.o0) (ci := 1) rfl) rfl hl.1 rfl (Nat.le_of_ble_eq_true rfl) dX2_isOpen_34 ⟨Nat.le_of_ble_eq_true rfl, Nat.le_of_ble_eq_true rfl⟩) I (fun r_34 ph1 H locs hp I => ?_)
      obtain ⟨hp, hph⟩ := hp
      rw [hph] at I
      have hp : r_34 = (b2i (isBr w (nI p.toNatClampNeg))) := hp
      rw [hp]
      refine lv_if_eq (tgt := 44) hx hb dX2_isOpen_37 (by decide) (fun c_37 => ?_) (fun c_37 => ?_)
      · have p_37 := (b2i_eq0 _).mp c_37
        refine lv_iconst (v := 0) hx hb dX2_isOpen_44 (by decide) ?_
        exact g_zret S hr hlk I rfl dX2_isOpen_45 (Nat.le_of_ble_eq_true rfl) (Nat.le_of_ble_eq_true rfl) hQ ⟨_, rfl, (by unfold isOp; rw [hp1.2] at p_19 p_37; simp [b2i, c_2, p_19, p_37]), rfl⟩
      · have p_37 := (b2i_ne0 _).mp c_37
        refine lv_iconst (v := 1) hx hb dX2_isOpen_40 (by decide) ?_
        refine lv_goto (tgt := 45) hx hb dX2_isOpen_41 (by decide) ?_
        exact g_zret S hr hlk I rfl dX2_isOpen_45 (Nat.le_of_ble_eq_true rfl) (Nat.le_of_ble_eq_true rfl) hQ ⟨_, rfl, (by unfold isOp; rw [hp1.2] at p_19 p_37; simp [b2i, c_2, p_19, p_37]), rfl⟩

set_option maxHeartbeats 4000000 in
set_option maxRecDepth 100000 in
theorem met_X2_isCarriedBy (l : Launch) (Γ : g_C) (htr : l.stackTraces = false) (ph : g_H) (i : Nat) (ad na : Nat → Nat) (mc : Nat → Int32) (w : m_w) (c : Int32) (k : Nat)  (hW : g_Wl Γ ph i ad na mc w) (hw : WF w) (hk : k < nLa w) : g_Met l yX2_isCarriedBy (ws_ yX2_isCarriedBy cX2_isCarriedBy 3 (some .boolean)) (g_rm 1 0 0) Γ [.ref (ad 0), .int c, .ref (ad (20 + k))] ph (g_oi (fun rv_ ph' => rv_ = (b2i (decide (lX w (nI k) 1 = c))) ∧ ph' = ph)) g_no := by
  refine g_start (y := yX2_isCarriedBy) (cc := cX2_isCarriedBy) (maxL := 3) (ret := (some .boolean)) (rm := g_rm 1 0 0) (by decide) (Nat.le_of_ble_eq_true rfl) ?_
  intro pg e s m A below meth cd ls Q hQ S hr hlk hex hnm hK I hl
  have hx := S.1
  have hb := S.2.1
  have hown := S.2.2.2.1
  have hts := S.2.2.2.2
  have S : CallFix pg m cd cX2_isCarriedBy 3 s A lw_all "CrumblingWall$Wall" := S
  have hl : lv_has ls 3 [(0, .ref (ad 0)), (1, .int c), (2, .ref (ad (20 + k)))] := hl
  have hwc := hw.1; have hwl := hw.2.1; have hwa := hw.2.2.1
  refine lv_aload_n hx hb dX2_isCarriedBy_0 rfl (lv_at hl 2 rfl) ?_
  refine g_getN S hK I k_X12 (v := .int (w (105 + 5 * k + 1))) (g_at.of (hW.la (k := k) (by omega))) 2 (by decide) q1576 rfl rfl dX2_isCarriedBy_1 ?_
  refine lv_iload_n hx hb dX2_isCarriedBy_4 rfl (lv_at hl 1 rfl) ?_
  refine lv_icmp_ne (tgt := 12) hx hb dX2_isCarriedBy_5 (by decide) (fun c_5 => ?_) (fun c_5 => ?_)
  · refine lv_iconst (v := 0) hx hb dX2_isCarriedBy_12 (by decide) ?_
    exact g_zret S hr hlk I rfl dX2_isCarriedBy_13 (Nat.le_of_ble_eq_true rfl) (Nat.le_of_ble_eq_true rfl) hQ ⟨_, rfl, (by rw [lX_kk (by omega)]; simp [b2i, c_5]), rfl⟩
  · refine lv_iconst (v := 1) hx hb dX2_isCarriedBy_8 (by decide) ?_
    refine lv_goto (tgt := 13) hx hb dX2_isCarriedBy_9 (by decide) ?_
    exact g_zret S hr hlk I rfl dX2_isCarriedBy_13 (Nat.le_of_ble_eq_true rfl) (Nat.le_of_ble_eq_true rfl) hQ ⟨_, rfl, (by rw [lX_kk (by omega)]; simp [b2i, c_5]), rfl⟩

set_option maxHeartbeats 4000000 in
set_option maxRecDepth 100000 in
theorem met_X2_liesWith (l : Launch) (Γ : g_C) (htr : l.stackTraces = false) (ph : g_H) (i : Nat) (ad na : Nat → Nat) (mc : Nat → Int32) (w : m_w) (c : Int32) (k : Nat)  (hW : g_Wl Γ ph i ad na mc w) (hw : WF w) (hc : vp_in c 2) (hk : k < nLa w) : g_Met l yX2_liesWith (ws_ yX2_liesWith cX2_liesWith 3 (some .boolean)) (g_rm 3 0 0) Γ [.ref (ad 0), .int c, .ref (ad (20 + k))] ph (g_oi (fun rv_ ph' => rv_ = (b2i (lies w c (nI k))) ∧ ph' = ph)) g_no := by
  refine g_start (y := yX2_liesWith) (cc := cX2_liesWith) (maxL := 3) (ret := (some .boolean)) (rm := g_rm 3 0 0) (by decide) (Nat.le_of_ble_eq_true rfl) ?_
  intro pg e s m A below meth cd ls Q hQ S hr hlk hex hnm hK I hl
  have hx := S.1
  have hb := S.2.1
  have hown := S.2.2.2.1
  have hts := S.2.2.2.2
  have S : CallFix pg m cd cX2_liesWith 3 s A lw_all "CrumblingWall$Wall" := S
  have hl : lv_has ls 3 [(0, .ref (ad 0)), (1, .int c), (2, .ref (ad (20 + k)))] := hl
  have hwc := hw.1; have hwl := hw.2.1; have hwa := hw.2.2.1
  have hc2 := (okC hc).1
  refine lv_aload_n hx hb dX2_liesWith_0 rfl (lv_at hl 2 rfl) ?_
  refine g_ci (g_runV S hK I (As := []) (rest := []) (met_X12_isCarried l Γ htr ph i ad na mc w k hW hw  (by omega)) (cwV 0 hts (lw_V q1858 q1859 q1860 q162 q1861) rfl rfl rfl (by decide +kernel) ⟨Nat.le_of_ble_eq_true rfl, Nat.le_of_ble_eq_true rfl⟩) (g_recv hK I (g_at.of (hW.la (k := k) (by omega))) (ci := 10) rfl) rfl hl.1 rfl (Nat.le_of_ble_eq_true rfl) dX2_liesWith_1 ⟨Nat.le_of_ble_eq_true rfl, Nat.le_of_ble_eq_true rfl⟩) I (fun r_1 ph1 H locs hp I => ?_)
  obtain ⟨hp, hph⟩ := hp
  rw [hph] at I
  have hp : r_1 = (b2i (decide (¬ (w (105 + 5 * k + 1)) = -1))) := hp
  rw [hp]
  refine lv_if_ne (tgt := 26) hx hb dX2_liesWith_4 (by decide) (fun c_4 => ?_) (fun c_4 => ?_)
  · have p_4 := of_decide_eq_true ((b2i_ne0 _).mp c_4)
    have c_4 := p_4
    refine lv_iconst (v := 0) hx hb dX2_liesWith_26 (by decide) ?_
    exact g_zret S hr hlk I rfl dX2_liesWith_27 (Nat.le_of_ble_eq_true rfl) (Nat.le_of_ble_eq_true rfl) hQ ⟨_, rfl, (by unfold lies; rw [lX_kk (by omega), lX_kk (by omega), Nat.add_zero, show plc w c = w (125 + 3 * c.toNatClampNeg) from rfl]; simp [b2i, laNC (laCar hw hk), c_4]), rfl⟩
  · have p_4 := of_decide_eq_false ((b2i_eq0 _).mp c_4)
    have c_4 := p_4
    refine lv_aload_n hx hb dX2_liesWith_7 rfl (lv_at hl 2 rfl) ?_
    refine g_getN S hK I k_X12 (v := .int (w (105 + 5 * k))) (g_at.of (hW.la (k := k) (by omega))) 1 (by decide) q1574 rfl rfl dX2_liesWith_8 ?_
    refine lv_aload_n hx hb dX2_liesWith_11 rfl (lv_at hl 0 rfl) ?_
    refine lv_iload_n hx hb dX2_liesWith_12 rfl (lv_at hl 1 rfl) ?_
    refine g_cr (g_runV S hK I (As := [.int c]) (rest := [.int (w (105 + 5 * k))]) (met_X2_climber l Γ htr ph i ad na mc w c hW hw  hc) (cwV 1 hts (lw_V q782 q783 q784 q121 q785) rfl rfl rfl (by decide +kernel) ⟨Nat.le_of_ble_eq_true rfl, Nat.le_of_ble_eq_true rfl⟩) (g_recv hK I (g_at.of hW.o0) (ci := 1) rfl) rfl hl.1 rfl (Nat.le_of_ble_eq_true rfl) dX2_liesWith_13 ⟨Nat.le_of_ble_eq_true rfl, Nat.le_of_ble_eq_true rfl⟩) I (fun r_13 ph1 H locs hp I => ?_)
    obtain ⟨hp, hph⟩ := hp
    rw [hph] at I
    have hp : r_13 = (ad (10 + c.toNatClampNeg)) := hp
    rw [hp]
    refine g_getN S hK I k_X3 (v := .int (w (125 + 3 * c.toNatClampNeg))) (g_at.of (hW.cl (c := c.toNatClampNeg) (by omega))) 1 (by decide) q212 rfl rfl dX2_liesWith_16 ?_
    refine lv_icmp_ne (tgt := 26) hx hb dX2_liesWith_19 (by decide) (fun c_19 => ?_) (fun c_19 => ?_)
    · refine lv_iconst (v := 0) hx hb dX2_liesWith_26 (by decide) ?_
      exact g_zret S hr hlk I rfl dX2_liesWith_27 (Nat.le_of_ble_eq_true rfl) (Nat.le_of_ble_eq_true rfl) hQ ⟨_, rfl, (by unfold lies; rw [lX_kk (by omega), lX_kk (by omega), Nat.add_zero, show plc w c = w (125 + 3 * c.toNatClampNeg) from rfl]; simp [b2i, laNC (laCar hw hk), c_4, c_19]), rfl⟩
    · refine lv_iconst (v := 1) hx hb dX2_liesWith_22 (by decide) ?_
      refine lv_goto (tgt := 27) hx hb dX2_liesWith_23 (by decide) ?_
      exact g_zret S hr hlk I rfl dX2_liesWith_27 (Nat.le_of_ble_eq_true rfl) (Nat.le_of_ble_eq_true rfl) hQ ⟨_, rfl, (by unfold lies; rw [lX_kk (by omega), lX_kk (by omega), Nat.add_zero, show plc w c = w (125 + 3 * c.toNatClampNeg) from rfl]; simp [b2i, laNC (laCar hw hk), c_4, c_19]), rfl⟩

set_option maxHeartbeats 4000000 in
set_option maxRecDepth 100000 in
theorem met_X2_holdAt (l : Launch) (Γ : g_C) (htr : l.stackTraces = false) (ph : g_H) (i : Nat) (ad na : Nat → Nat) (mc : Nat → Int32) (w : m_w) (c r : Int32)  (hW : g_Wl Γ ph i ad na mc w) (hw : WF w) : g_Met l yX2_holdAt (ws_ yX2_holdAt cX2_holdAt 4 (some .int)) (g_rm 4 0 0) Γ [.ref (ad 0), .int c, .int r] ph (g_oi (fun rv_ ph' => rv_ = (hAt w c r) ∧ ph' = ph)) g_no := by
  refine g_start (y := yX2_holdAt) (cc := cX2_holdAt) (maxL := 4) (ret := (some .int)) (rm := g_rm 4 0 0) (by decide) (Nat.le_of_ble_eq_true rfl) ?_
  intro pg e s m A below meth cd ls Q hQ S hr hlk hex hnm hK I hl
  have hx := S.1
  have hb := S.2.1
  have hown := S.2.2.2.1
  have hts := S.2.2.2.2
  have S : CallFix pg m cd cX2_holdAt 4 s A lw_all "CrumblingWall$Wall" := S
  have hl : lv_has ls 4 [(0, .ref (ad 0)), (1, .int c), (2, .int r)] := hl
  have hwc := hw.1; have hwl := hw.2.1; have hwa := hw.2.2.1
  refine lv_iconst (v := 0) hx hb dX2_holdAt_0 (by decide) ?_
  refine lv_istore_n (lv' := [(3, .int 0), (0, .ref (ad 0)), (1, .int c), (2, .int r)]) hx hb dX2_holdAt_1 rfl hl (by decide) rfl (fun ls hl => ?_)
  have L_2 : ∀ (d : Nat) (k : Nat), (hk : k ≤ nN w) → (hkp : ∀ j, j < k → (fun k => decide (hX w (nI k) 0 = c) && decide (hX w (nI k) 1 = r)) j = false) → nN w - k < d → ∀ (H : Heap) (locs : List Loc) (ls : Array Slot), g_I Γ ph s H locs → lv_has ls 4 [(0, .ref (ad 0)), (1, .int c), (2, .int r), (3, .int (nI k))] → W pg l e (g_rm 4 0 0) s m A below meth cd H locs 0 0 Q (F0 m 2 ls []) := by
    intro d
    induction d with
    | zero => intro k hk hkp hd; exact absurd hd (Nat.not_lt_zero _)
    | succ d ih =>
      intro k hk hkp hd H locs ls I hl
      refine lv_iload_n hx hb dX2_holdAt_2 rfl (lv_at hl 3 rfl) ?_
      refine lv_aload_n hx hb dX2_holdAt_3 rfl (lv_at hl 0 rfl) ?_
      refine g_get S hK I k_X2 (v := .ref (ad 1)) (g_at.of hW.o0) 0 (by decide) q643 rfl rfl dX2_holdAt_4 ?_
      refine g_ci (g_runV S hK I (As := []) (rest := [.int (nI k)]) (met_J7_size l Γ ph 101 i (ad 1) (ad 2) (mc 1) (w 0) hW.o1) (cwV 0 hts (lw_V q1353 q994 q3516 q130 q995) rfl rfl rfl (by decide +kernel) ⟨Nat.le_of_ble_eq_true rfl, Nat.le_of_ble_eq_true rfl⟩) (g_recv hK I (g_at.of hW.o1) (ci := 21) rfl) rfl hl.1 rfl (Nat.le_of_ble_eq_true rfl) dX2_holdAt_7 ⟨Nat.le_of_ble_eq_true rfl, Nat.le_of_ble_eq_true rfl⟩) I (fun r_7 ph1 H locs hp I => ?_)
      obtain ⟨hp, hph⟩ := hp
      rw [hph] at I
      have hp : r_7 = (w 0) := hp
      rw [hp, show (w 0) = (nI (nN w)) from hw.1.1]
      refine lv_icmp_ge (tgt := 57) hx hb dX2_holdAt_10 (by decide) (fun c_10 => ?_) (fun c_10 => ?_)
      · have n_10 := Int32.not_lt.mpr c_10
        obtain rfl : k = nN w := by rw [nI_leI (by omega) (by omega)] at c_10; omega
        refine lv_iconst (v := (-1)) hx hb dX2_holdAt_57 (by decide) ?_
        exact g_iret S hr hlk I dX2_holdAt_58 (Nat.le_of_ble_eq_true rfl) (Nat.le_of_ble_eq_true rfl) hQ ⟨_, rfl, (fst_none hkp).symm, rfl⟩
      · have n_10 := Int32.not_le.mp c_10
        have hkl : k < nN w := by rw [nI_leI (by omega) (by omega)] at c_10; omega
        refine lv_aload_n hx hb dX2_holdAt_13 rfl (lv_at hl 0 rfl) ?_
        refine g_get S hK I k_X2 (v := .ref (ad 1)) (g_at.of hW.o0) 0 (by decide) q643 rfl rfl dX2_holdAt_14 ?_
        refine lv_iload_n hx hb dX2_holdAt_17 rfl (lv_at hl 3 rfl) ?_
        refine g_cr (g_runV S hK I (As := [.int (nI k)]) (rest := []) (met_w_get1 l Γ ph i ad na mc w hW hw k (by omega)) (cwV 1 hts (lw_V q883 q793 q3509 q130 q795) rfl rfl rfl (by decide +kernel) ⟨Nat.le_of_ble_eq_true rfl, Nat.le_of_ble_eq_true rfl⟩) (g_recv hK I (g_at.of hW.o1) (ci := 21) rfl) rfl hl.1 rfl (Nat.le_of_ble_eq_true rfl) dX2_holdAt_18 ⟨Nat.le_of_ble_eq_true rfl, Nat.le_of_ble_eq_true rfl⟩) I (fun r_18 ph1 H locs hp I => ?_)
        obtain ⟨hp, hph⟩ := hp
        rw [hph] at I
        have hp : r_18 = (ad (30 + k)) := hp
        rw [hp]
        refine h_cast S hK I (ho_or hW hw (k := k) (by omega)) q1389 hca_Hold dX2_holdAt_21 ?_
        refine g_ci (by obtain ⟨fs9, h9⟩ := ho_or hW hw (k := k) (by omega); rcases h9 with ⟨e9, r9⟩ | ⟨e9, r9⟩ | ⟨e9, r9⟩ | ⟨e9, r9⟩; exact (g_runU S hK I (As := []) (rest := []) (met_X7_column l Γ htr ph i ad na mc w k hW hw  (by omega)) (g_cwD (n := 0) hts q1415 q157 (by decide) (by decide +kernel) q1668 q3517 (g_declN (hK.N q1412 rfl)) q3519 q1414 ⟨Nat.le_of_ble_eq_true rfl, Nat.le_of_ble_eq_true rfl⟩) (g_recv hK I (g_at.of r9) (ci := 7) rfl) rfl hl.1 rfl (Nat.le_of_ble_eq_true rfl) dX2_holdAt_24 ⟨Nat.le_of_ble_eq_true rfl, Nat.le_of_ble_eq_true rfl⟩); exact (g_runU S hK I (As := []) (rest := []) (met_X7_column l Γ htr ph i ad na mc w k hW hw  (by omega)) (g_cwD (n := 0) hts q1415 q157 (by decide) (by decide +kernel) q1668 q3517 (g_declN (hK.N q1412 rfl)) q3521 q1414 ⟨Nat.le_of_ble_eq_true rfl, Nat.le_of_ble_eq_true rfl⟩) (g_recv hK I (g_at.of r9) (ci := 9) rfl) rfl hl.1 rfl (Nat.le_of_ble_eq_true rfl) dX2_holdAt_24 ⟨Nat.le_of_ble_eq_true rfl, Nat.le_of_ble_eq_true rfl⟩); exact (g_runU S hK I (As := []) (rest := []) (met_X7_column l Γ htr ph i ad na mc w k hW hw  (by omega)) (g_cwD (n := 0) hts q1415 q157 (by decide) (by decide +kernel) q1668 q3517 (g_declN (hK.N q1412 rfl)) q3520 q1414 ⟨Nat.le_of_ble_eq_true rfl, Nat.le_of_ble_eq_true rfl⟩) (g_recv hK I (g_at.of r9) (ci := 8) rfl) rfl hl.1 rfl (Nat.le_of_ble_eq_true rfl) dX2_holdAt_24 ⟨Nat.le_of_ble_eq_true rfl, Nat.le_of_ble_eq_true rfl⟩); exact (g_runU S hK I (As := []) (rest := []) (met_X7_column l Γ htr ph i ad na mc w k hW hw  (by omega)) (g_cwD (n := 0) hts q1415 q157 (by decide) (by decide +kernel) q1668 q3517 (g_declN (hK.N q1412 rfl)) q3518 q1414 ⟨Nat.le_of_ble_eq_true rfl, Nat.le_of_ble_eq_true rfl⟩) (g_recv hK I (g_at.of r9) (ci := 6) rfl) rfl hl.1 rfl (Nat.le_of_ble_eq_true rfl) dX2_holdAt_24 ⟨Nat.le_of_ble_eq_true rfl, Nat.le_of_ble_eq_true rfl⟩)) I (fun r_24 ph1 H locs hp I => ?_)
        obtain ⟨hp, hph⟩ := hp
        rw [hph] at I
        have hp : r_24 = (w (1 + 5 * k)) := hp
        rw [hp]
        refine lv_iload_n hx hb dX2_holdAt_27 rfl (lv_at hl 1 rfl) ?_
        refine lv_icmp_ne (tgt := 51) hx hb dX2_holdAt_28 (by decide) (fun c_28 => ?_) (fun c_28 => ?_)
        · refine lv_iinc (v := nI (k + 1)) (lv' := [(3, .int (nI (k + 1))), (0, .ref (ad 0)), (1, .int c), (2, .int r)]) hx hb dX2_holdAt_51 hl (k := 3) rfl (nI_1 k) (by decide) rfl (fun ls hl => ?_)
          refine lv_goto (tgt := 2) hx hb dX2_holdAt_54 (by decide) ?_
          exact ih (k + 1) hkl (fun j hj => (Nat.lt_succ_iff_lt_or_eq.mp hj).elim (hkp j) (fun e => by subst e; dsimp only; rw [hX_k (by omega), hX_k (by omega), Nat.add_zero]; simp [c_28])) (by omega) _ _ _ I (lv_sub hl [1, 2, 3, 0] rfl)
        · refine lv_aload_n hx hb dX2_holdAt_31 rfl (lv_at hl 0 rfl) ?_
          refine g_get S hK I k_X2 (v := .ref (ad 1)) (g_at.of hW.o0) 0 (by decide) q643 rfl rfl dX2_holdAt_32 ?_
          refine lv_iload_n hx hb dX2_holdAt_35 rfl (lv_at hl 3 rfl) ?_
          refine g_cr (g_runV S hK I (As := [.int (nI k)]) (rest := []) (met_w_get1 l Γ ph i ad na mc w hW hw k (by omega)) (cwV 1 hts (lw_V q883 q793 q3509 q130 q795) rfl rfl rfl (by decide +kernel) ⟨Nat.le_of_ble_eq_true rfl, Nat.le_of_ble_eq_true rfl⟩) (g_recv hK I (g_at.of hW.o1) (ci := 21) rfl) rfl hl.1 rfl (Nat.le_of_ble_eq_true rfl) dX2_holdAt_36 ⟨Nat.le_of_ble_eq_true rfl, Nat.le_of_ble_eq_true rfl⟩) I (fun r_36 ph1 H locs hp I => ?_)
          obtain ⟨hp, hph⟩ := hp
          rw [hph] at I
          have hp : r_36 = (ad (30 + k)) := hp
          rw [hp]
          refine h_cast S hK I (ho_or hW hw (k := k) (by omega)) q1389 hca_Hold dX2_holdAt_39 ?_
          refine g_ci (by obtain ⟨fs9, h9⟩ := ho_or hW hw (k := k) (by omega); rcases h9 with ⟨e9, r9⟩ | ⟨e9, r9⟩ | ⟨e9, r9⟩ | ⟨e9, r9⟩; exact (g_runU S hK I (As := []) (rest := []) (met_X7_row l Γ htr ph i ad na mc w k hW hw  (by omega)) (g_cwD (n := 0) hts q1268 q157 (by decide) (by decide +kernel) q1669 q3522 (g_declN (hK.N q1418 rfl)) q3524 q1266 ⟨Nat.le_of_ble_eq_true rfl, Nat.le_of_ble_eq_true rfl⟩) (g_recv hK I (g_at.of r9) (ci := 7) rfl) rfl hl.1 rfl (Nat.le_of_ble_eq_true rfl) dX2_holdAt_42 ⟨Nat.le_of_ble_eq_true rfl, Nat.le_of_ble_eq_true rfl⟩); exact (g_runU S hK I (As := []) (rest := []) (met_X7_row l Γ htr ph i ad na mc w k hW hw  (by omega)) (g_cwD (n := 0) hts q1268 q157 (by decide) (by decide +kernel) q1669 q3522 (g_declN (hK.N q1418 rfl)) q3526 q1266 ⟨Nat.le_of_ble_eq_true rfl, Nat.le_of_ble_eq_true rfl⟩) (g_recv hK I (g_at.of r9) (ci := 9) rfl) rfl hl.1 rfl (Nat.le_of_ble_eq_true rfl) dX2_holdAt_42 ⟨Nat.le_of_ble_eq_true rfl, Nat.le_of_ble_eq_true rfl⟩); exact (g_runU S hK I (As := []) (rest := []) (met_X7_row l Γ htr ph i ad na mc w k hW hw  (by omega)) (g_cwD (n := 0) hts q1268 q157 (by decide) (by decide +kernel) q1669 q3522 (g_declN (hK.N q1418 rfl)) q3525 q1266 ⟨Nat.le_of_ble_eq_true rfl, Nat.le_of_ble_eq_true rfl⟩) (g_recv hK I (g_at.of r9) (ci := 8) rfl) rfl hl.1 rfl (Nat.le_of_ble_eq_true rfl) dX2_holdAt_42 ⟨Nat.le_of_ble_eq_true rfl, Nat.le_of_ble_eq_true rfl⟩); exact (g_runU S hK I (As := []) (rest := []) (met_X7_row l Γ htr ph i ad na mc w k hW hw  (by omega)) (g_cwD (n := 0) hts q1268 q157 (by decide) (by decide +kernel) q1669 q3522 (g_declN (hK.N q1418 rfl)) q3523 q1266 ⟨Nat.le_of_ble_eq_true rfl, Nat.le_of_ble_eq_true rfl⟩) (g_recv hK I (g_at.of r9) (ci := 6) rfl) rfl hl.1 rfl (Nat.le_of_ble_eq_true rfl) dX2_holdAt_42 ⟨Nat.le_of_ble_eq_true rfl, Nat.le_of_ble_eq_true rfl⟩)) I (fun r_42 ph1 H locs hp I => ?_)
          obtain ⟨hp, hph⟩ := hp
          rw [hph] at I
          have hp : r_42 = (w (1 + 5 * k + 1)) := hp
          rw [hp]
          refine lv_iload_n hx hb dX2_holdAt_45 rfl (lv_at hl 2 rfl) ?_
          refine lv_icmp_ne (tgt := 51) hx hb dX2_holdAt_46 (by decide) (fun c_46 => ?_) (fun c_46 => ?_)
          · refine lv_iinc (v := nI (k + 1)) (lv' := [(3, .int (nI (k + 1))), (0, .ref (ad 0)), (1, .int c), (2, .int r)]) hx hb dX2_holdAt_51 hl (k := 3) rfl (nI_1 k) (by decide) rfl (fun ls hl => ?_)
            refine lv_goto (tgt := 2) hx hb dX2_holdAt_54 (by decide) ?_
            exact ih (k + 1) hkl (fun j hj => (Nat.lt_succ_iff_lt_or_eq.mp hj).elim (hkp j) (fun e => by subst e; dsimp only; rw [hX_k (by omega), hX_k (by omega), Nat.add_zero]; simp [c_28, c_46])) (by omega) _ _ _ I (lv_sub hl [1, 2, 3, 0] rfl)
          · refine lv_iload_n hx hb dX2_holdAt_49 rfl (lv_at hl 3 rfl) ?_
            exact g_iret S hr hlk I dX2_holdAt_50 (Nat.le_of_ble_eq_true rfl) (Nat.le_of_ble_eq_true rfl) hQ ⟨_, rfl, (fst_hit hkl hkp (by rw [hX_k (by omega), hX_k (by omega), Nat.add_zero]; simp [c_28, c_46])).symm, rfl⟩
  exact L_2 _ 0 (Nat.zero_le _) (fun j hj => absurd hj (Nat.not_lt_zero _)) (Nat.lt_succ_self _) _ _ _ I (lv_sub hl [1, 2, 3, 0] rfl)

set_option maxHeartbeats 4000000 in
set_option maxRecDepth 100000 in
theorem met_J22_bitCount (l : Launch) (Γ : g_C) (ph : g_H) (n : Nat)   (hn : n < 16) : g_Met l yJ22_bitCount (ws_ yJ22_bitCount cJ22_bitCount 1 (some .int)) (g_rm 1 0 0) Γ [.int (nI n)] (ph) (g_oi (fun rv_ ph' => rv_ = (bits (nI n)) ∧ ph' = ph)) g_no := by
  refine g_start (y := yJ22_bitCount) (cc := cJ22_bitCount) (maxL := 1) (ret := (some .int)) (rm := g_rm 1 0 0) (by decide) (Nat.le_of_ble_eq_true rfl) ?_
  intro p e s m A below meth c ls Q hQ S hr hlk hex hnm hK I hl
  have hx := S.1
  have hb := S.2.1
  have hown := S.2.2.2.1
  have hts := S.2.2.2.2
  have S : CallFix p m c cJ22_bitCount 1 s A lw_all "java/lang/Integer" := S
  have hl : lv_has ls 1 [(0, .int (nI n))] := hl
  refine lv_iload_n hx hb dJ22_bitCount_0 rfl (lv_at hl 0 rfl) ?_
  refine lv_iload_n hx hb dJ22_bitCount_1 rfl (lv_at hl 0 rfl) ?_
  refine lv_iconst (v := 1) hx hb dJ22_bitCount_2 (by decide) ?_
  refine lv_iushr hx hb dJ22_bitCount_3 rfl ?_
  refine lv_ldcw hx hb hown (hts _ q1952) dJ22_bitCount_4 ?_
  refine lv_iand hx hb dJ22_bitCount_7 ?_
  refine lv_isub hx hb dJ22_bitCount_8 ?_
  refine lv_istore_n (lv' := [(0, .int ((nI n) - ((((nI n).toUInt32 >>> ((1 : Int32).toUInt32 &&& Int32.toUInt32 31)).toInt32) &&& 1431655765)))]) hx hb dJ22_bitCount_9 rfl hl (by decide) rfl (fun ls hl => ?_)
  refine lv_iload_n hx hb dJ22_bitCount_10 rfl (lv_at hl 0 rfl) ?_
  refine lv_ldcw hx hb hown (hts _ q1953) dJ22_bitCount_11 ?_
  refine lv_iand hx hb dJ22_bitCount_14 ?_
  refine lv_iload_n hx hb dJ22_bitCount_15 rfl (lv_at hl 0 rfl) ?_
  refine lv_iconst (v := 2) hx hb dJ22_bitCount_16 (by decide) ?_
  refine lv_iushr hx hb dJ22_bitCount_17 rfl ?_
  refine lv_ldcw hx hb hown (hts _ q1953) dJ22_bitCount_18 ?_
  refine lv_iand hx hb dJ22_bitCount_21 ?_
  refine lv_iadd hx hb dJ22_bitCount_22 ?_
  refine lv_istore_n (lv' := [(0, .int ((((nI n) - ((((nI n).toUInt32 >>> ((1 : Int32).toUInt32 &&& Int32.toUInt32 31)).toInt32) &&& 1431655765)) &&& 858993459) + (((((nI n) - ((((nI n).toUInt32 >>> ((1 : Int32).toUInt32 &&& Int32.toUInt32 31)).toInt32) &&& 1431655765)).toUInt32 >>> ((2 : Int32).toUInt32 &&& Int32.toUInt32 31)).toInt32) &&& 858993459)))]) hx hb dJ22_bitCount_23 rfl hl (by decide) rfl (fun ls hl => ?_)
  refine lv_iload_n hx hb dJ22_bitCount_24 rfl (lv_at hl 0 rfl) ?_
  refine lv_iload_n hx hb dJ22_bitCount_25 rfl (lv_at hl 0 rfl) ?_
  refine lv_iconst (v := 4) hx hb dJ22_bitCount_26 (by decide) ?_
  refine lv_iushr hx hb dJ22_bitCount_27 rfl ?_
  refine lv_iadd hx hb dJ22_bitCount_28 ?_
  refine lv_ldcw hx hb hown (hts _ q1954) dJ22_bitCount_29 ?_
  refine lv_iand hx hb dJ22_bitCount_32 ?_
  refine lv_istore_n (lv' := [(0, .int ((((((nI n) - ((((nI n).toUInt32 >>> ((1 : Int32).toUInt32 &&& Int32.toUInt32 31)).toInt32) &&& 1431655765)) &&& 858993459) + (((((nI n) - ((((nI n).toUInt32 >>> ((1 : Int32).toUInt32 &&& Int32.toUInt32 31)).toInt32) &&& 1431655765)).toUInt32 >>> ((2 : Int32).toUInt32 &&& Int32.toUInt32 31)).toInt32) &&& 858993459)) + ((((((nI n) - ((((nI n).toUInt32 >>> ((1 : Int32).toUInt32 &&& Int32.toUInt32 31)).toInt32) &&& 1431655765)) &&& 858993459) + (((((nI n) - ((((nI n).toUInt32 >>> ((1 : Int32).toUInt32 &&& Int32.toUInt32 31)).toInt32) &&& 1431655765)).toUInt32 >>> ((2 : Int32).toUInt32 &&& Int32.toUInt32 31)).toInt32) &&& 858993459)).toUInt32 >>> ((4 : Int32).toUInt32 &&& Int32.toUInt32 31)).toInt32)) &&& 252645135))]) hx hb dJ22_bitCount_33 rfl hl (by decide) rfl (fun ls hl => ?_)
  refine lv_iload_n hx hb dJ22_bitCount_34 rfl (lv_at hl 0 rfl) ?_
  refine lv_iload_n hx hb dJ22_bitCount_35 rfl (lv_at hl 0 rfl) ?_
  refine lv_bipush (v := 8) hx hb dJ22_bitCount_36 (by decide) ?_
  refine lv_iushr hx hb dJ22_bitCount_38 rfl ?_
  refine lv_iadd hx hb dJ22_bitCount_39 ?_
  refine lv_istore_n (lv' := [(0, .int (((((((nI n) - ((((nI n).toUInt32 >>> ((1 : Int32).toUInt32 &&& Int32.toUInt32 31)).toInt32) &&& 1431655765)) &&& 858993459) + (((((nI n) - ((((nI n).toUInt32 >>> ((1 : Int32).toUInt32 &&& Int32.toUInt32 31)).toInt32) &&& 1431655765)).toUInt32 >>> ((2 : Int32).toUInt32 &&& Int32.toUInt32 31)).toInt32) &&& 858993459)) + ((((((nI n) - ((((nI n).toUInt32 >>> ((1 : Int32).toUInt32 &&& Int32.toUInt32 31)).toInt32) &&& 1431655765)) &&& 858993459) + (((((nI n) - ((((nI n).toUInt32 >>> ((1 : Int32).toUInt32 &&& Int32.toUInt32 31)).toInt32) &&& 1431655765)).toUInt32 >>> ((2 : Int32).toUInt32 &&& Int32.toUInt32 31)).toInt32) &&& 858993459)).toUInt32 >>> ((4 : Int32).toUInt32 &&& Int32.toUInt32 31)).toInt32)) &&& 252645135) + ((((((((nI n) - ((((nI n).toUInt32 >>> ((1 : Int32).toUInt32 &&& Int32.toUInt32 31)).toInt32) &&& 1431655765)) &&& 858993459) + (((((nI n) - ((((nI n).toUInt32 >>> ((1 : Int32).toUInt32 &&& Int32.toUInt32 31)).toInt32) &&& 1431655765)).toUInt32 >>> ((2 : Int32).toUInt32 &&& Int32.toUInt32 31)).toInt32) &&& 858993459)) + ((((((nI n) - ((((nI n).toUInt32 >>> ((1 : Int32).toUInt32 &&& Int32.toUInt32 31)).toInt32) &&& 1431655765)) &&& 858993459) + (((((nI n) - ((((nI n).toUInt32 >>> ((1 : Int32).toUInt32 &&& Int32.toUInt32 31)).toInt32) &&& 1431655765)).toUInt32 >>> ((2 : Int32).toUInt32 &&& Int32.toUInt32 31)).toInt32) &&& 858993459)).toUInt32 >>> ((4 : Int32).toUInt32 &&& Int32.toUInt32 31)).toInt32)) &&& 252645135).toUInt32 >>> ((8 : Int32).toUInt32 &&& Int32.toUInt32 31)).toInt32)))]) hx hb dJ22_bitCount_40 rfl hl (by decide) rfl (fun ls hl => ?_)
  refine lv_iload_n hx hb dJ22_bitCount_41 rfl (lv_at hl 0 rfl) ?_
  refine lv_iload_n hx hb dJ22_bitCount_42 rfl (lv_at hl 0 rfl) ?_
  refine lv_bipush (v := 16) hx hb dJ22_bitCount_43 (by decide) ?_
  refine lv_iushr hx hb dJ22_bitCount_45 rfl ?_
  refine lv_iadd hx hb dJ22_bitCount_46 ?_
  refine lv_istore_n (lv' := [(0, .int ((((((((nI n) - ((((nI n).toUInt32 >>> ((1 : Int32).toUInt32 &&& Int32.toUInt32 31)).toInt32) &&& 1431655765)) &&& 858993459) + (((((nI n) - ((((nI n).toUInt32 >>> ((1 : Int32).toUInt32 &&& Int32.toUInt32 31)).toInt32) &&& 1431655765)).toUInt32 >>> ((2 : Int32).toUInt32 &&& Int32.toUInt32 31)).toInt32) &&& 858993459)) + ((((((nI n) - ((((nI n).toUInt32 >>> ((1 : Int32).toUInt32 &&& Int32.toUInt32 31)).toInt32) &&& 1431655765)) &&& 858993459) + (((((nI n) - ((((nI n).toUInt32 >>> ((1 : Int32).toUInt32 &&& Int32.toUInt32 31)).toInt32) &&& 1431655765)).toUInt32 >>> ((2 : Int32).toUInt32 &&& Int32.toUInt32 31)).toInt32) &&& 858993459)).toUInt32 >>> ((4 : Int32).toUInt32 &&& Int32.toUInt32 31)).toInt32)) &&& 252645135) + ((((((((nI n) - ((((nI n).toUInt32 >>> ((1 : Int32).toUInt32 &&& Int32.toUInt32 31)).toInt32) &&& 1431655765)) &&& 858993459) + (((((nI n) - ((((nI n).toUInt32 >>> ((1 : Int32).toUInt32 &&& Int32.toUInt32 31)).toInt32) &&& 1431655765)).toUInt32 >>> ((2 : Int32).toUInt32 &&& Int32.toUInt32 31)).toInt32) &&& 858993459)) + ((((((nI n) - ((((nI n).toUInt32 >>> ((1 : Int32).toUInt32 &&& Int32.toUInt32 31)).toInt32) &&& 1431655765)) &&& 858993459) + (((((nI n) - ((((nI n).toUInt32 >>> ((1 : Int32).toUInt32 &&& Int32.toUInt32 31)).toInt32) &&& 1431655765)).toUInt32 >>> ((2 : Int32).toUInt32 &&& Int32.toUInt32 31)).toInt32) &&& 858993459)).toUInt32 >>> ((4 : Int32).toUInt32 &&& Int32.toUInt32 31)).toInt32)) &&& 252645135).toUInt32 >>> ((8 : Int32).toUInt32 &&& Int32.toUInt32 31)).toInt32)) + (((((((((nI n) - ((((nI n).toUInt32 >>> ((1 : Int32).toUInt32 &&& Int32.toUInt32 31)).toInt32) &&& 1431655765)) &&& 858993459) + (((((nI n) - ((((nI n).toUInt32 >>> ((1 : Int32).toUInt32 &&& Int32.toUInt32 31)).toInt32) &&& 1431655765)).toUInt32 >>> ((2 : Int32).toUInt32 &&& Int32.toUInt32 31)).toInt32) &&& 858993459)) + ((((((nI n) - ((((nI n).toUInt32 >>> ((1 : Int32).toUInt32 &&& Int32.toUInt32 31)).toInt32) &&& 1431655765)) &&& 858993459) + (((((nI n) - ((((nI n).toUInt32 >>> ((1 : Int32).toUInt32 &&& Int32.toUInt32 31)).toInt32) &&& 1431655765)).toUInt32 >>> ((2 : Int32).toUInt32 &&& Int32.toUInt32 31)).toInt32) &&& 858993459)).toUInt32 >>> ((4 : Int32).toUInt32 &&& Int32.toUInt32 31)).toInt32)) &&& 252645135) + ((((((((nI n) - ((((nI n).toUInt32 >>> ((1 : Int32).toUInt32 &&& Int32.toUInt32 31)).toInt32) &&& 1431655765)) &&& 858993459) + (((((nI n) - ((((nI n).toUInt32 >>> ((1 : Int32).toUInt32 &&& Int32.toUInt32 31)).toInt32) &&& 1431655765)).toUInt32 >>> ((2 : Int32).toUInt32 &&& Int32.toUInt32 31)).toInt32) &&& 858993459)) + ((((((nI n) - ((((nI n).toUInt32 >>> ((1 : Int32).toUInt32 &&& Int32.toUInt32 31)).toInt32) &&& 1431655765)) &&& 858993459) + (((((nI n) - ((((nI n).toUInt32 >>> ((1 : Int32).toUInt32 &&& Int32.toUInt32 31)).toInt32) &&& 1431655765)).toUInt32 >>> ((2 : Int32).toUInt32 &&& Int32.toUInt32 31)).toInt32) &&& 858993459)).toUInt32 >>> ((4 : Int32).toUInt32 &&& Int32.toUInt32 31)).toInt32)) &&& 252645135).toUInt32 >>> ((8 : Int32).toUInt32 &&& Int32.toUInt32 31)).toInt32)).toUInt32 >>> ((16 : Int32).toUInt32 &&& Int32.toUInt32 31)).toInt32)))]) hx hb dJ22_bitCount_47 rfl hl (by decide) rfl (fun ls hl => ?_)
  refine lv_iload_n hx hb dJ22_bitCount_48 rfl (lv_at hl 0 rfl) ?_
  refine lv_bipush (v := 63) hx hb dJ22_bitCount_49 (by decide) ?_
  refine lv_iand hx hb dJ22_bitCount_51 ?_
  exact g_iret S hr hlk I dJ22_bitCount_52 (Nat.le_of_ble_eq_true rfl) (Nat.le_of_ble_eq_true rfl) hQ ⟨_, rfl, (by have h : ∀ n, n < 16 → (((((((((nI n) - ((((nI n).toUInt32 >>> ((1 : Int32).toUInt32 &&& Int32.toUInt32 31)).toInt32) &&& 1431655765)) &&& 858993459) + (((((nI n) - ((((nI n).toUInt32 >>> ((1 : Int32).toUInt32 &&& Int32.toUInt32 31)).toInt32) &&& 1431655765)).toUInt32 >>> ((2 : Int32).toUInt32 &&& Int32.toUInt32 31)).toInt32) &&& 858993459)) + ((((((nI n) - ((((nI n).toUInt32 >>> ((1 : Int32).toUInt32 &&& Int32.toUInt32 31)).toInt32) &&& 1431655765)) &&& 858993459) + (((((nI n) - ((((nI n).toUInt32 >>> ((1 : Int32).toUInt32 &&& Int32.toUInt32 31)).toInt32) &&& 1431655765)).toUInt32 >>> ((2 : Int32).toUInt32 &&& Int32.toUInt32 31)).toInt32) &&& 858993459)).toUInt32 >>> ((4 : Int32).toUInt32 &&& Int32.toUInt32 31)).toInt32)) &&& 252645135) + ((((((((nI n) - ((((nI n).toUInt32 >>> ((1 : Int32).toUInt32 &&& Int32.toUInt32 31)).toInt32) &&& 1431655765)) &&& 858993459) + (((((nI n) - ((((nI n).toUInt32 >>> ((1 : Int32).toUInt32 &&& Int32.toUInt32 31)).toInt32) &&& 1431655765)).toUInt32 >>> ((2 : Int32).toUInt32 &&& Int32.toUInt32 31)).toInt32) &&& 858993459)) + ((((((nI n) - ((((nI n).toUInt32 >>> ((1 : Int32).toUInt32 &&& Int32.toUInt32 31)).toInt32) &&& 1431655765)) &&& 858993459) + (((((nI n) - ((((nI n).toUInt32 >>> ((1 : Int32).toUInt32 &&& Int32.toUInt32 31)).toInt32) &&& 1431655765)).toUInt32 >>> ((2 : Int32).toUInt32 &&& Int32.toUInt32 31)).toInt32) &&& 858993459)).toUInt32 >>> ((4 : Int32).toUInt32 &&& Int32.toUInt32 31)).toInt32)) &&& 252645135).toUInt32 >>> ((8 : Int32).toUInt32 &&& Int32.toUInt32 31)).toInt32)) + (((((((((nI n) - ((((nI n).toUInt32 >>> ((1 : Int32).toUInt32 &&& Int32.toUInt32 31)).toInt32) &&& 1431655765)) &&& 858993459) + (((((nI n) - ((((nI n).toUInt32 >>> ((1 : Int32).toUInt32 &&& Int32.toUInt32 31)).toInt32) &&& 1431655765)).toUInt32 >>> ((2 : Int32).toUInt32 &&& Int32.toUInt32 31)).toInt32) &&& 858993459)) + ((((((nI n) - ((((nI n).toUInt32 >>> ((1 : Int32).toUInt32 &&& Int32.toUInt32 31)).toInt32) &&& 1431655765)) &&& 858993459) + (((((nI n) - ((((nI n).toUInt32 >>> ((1 : Int32).toUInt32 &&& Int32.toUInt32 31)).toInt32) &&& 1431655765)).toUInt32 >>> ((2 : Int32).toUInt32 &&& Int32.toUInt32 31)).toInt32) &&& 858993459)).toUInt32 >>> ((4 : Int32).toUInt32 &&& Int32.toUInt32 31)).toInt32)) &&& 252645135) + ((((((((nI n) - ((((nI n).toUInt32 >>> ((1 : Int32).toUInt32 &&& Int32.toUInt32 31)).toInt32) &&& 1431655765)) &&& 858993459) + (((((nI n) - ((((nI n).toUInt32 >>> ((1 : Int32).toUInt32 &&& Int32.toUInt32 31)).toInt32) &&& 1431655765)).toUInt32 >>> ((2 : Int32).toUInt32 &&& Int32.toUInt32 31)).toInt32) &&& 858993459)) + ((((((nI n) - ((((nI n).toUInt32 >>> ((1 : Int32).toUInt32 &&& Int32.toUInt32 31)).toInt32) &&& 1431655765)) &&& 858993459) + (((((nI n) - ((((nI n).toUInt32 >>> ((1 : Int32).toUInt32 &&& Int32.toUInt32 31)).toInt32) &&& 1431655765)).toUInt32 >>> ((2 : Int32).toUInt32 &&& Int32.toUInt32 31)).toInt32) &&& 858993459)).toUInt32 >>> ((4 : Int32).toUInt32 &&& Int32.toUInt32 31)).toInt32)) &&& 252645135).toUInt32 >>> ((8 : Int32).toUInt32 &&& Int32.toUInt32 31)).toInt32)).toUInt32 >>> ((16 : Int32).toUInt32 &&& Int32.toUInt32 31)).toInt32)) &&& 63) = bits (nI n) := (by decide +kernel); exact h n hn), rfl⟩

theorem or16 : ∀ a, a < 16 → ∀ b, b < 16 → nI a ||| nI b = nI (a ||| b) := by
  have h : ∀ a, a < 16 → ∀ b, b < 16 → Int32.ofNat a ||| Int32.ofNat b = Int32.ofNat (a ||| b) := by decide +kernel
  exact h
theorem orN16 {f : Nat → Int32} : ∀ n, (∀ k, k < n → ∃ q, q < 16 ∧ f k = nI q) → ∃ q, q < 16 ∧ orN n f = nI q := by
  intro n
  induction n with
  | zero => exact fun _ => ⟨0, by decide, rfl⟩
  | succ n ih =>
    intro h
    obtain ⟨a, a1, a2⟩ := ih (fun k hk => h k (by omega))
    obtain ⟨b, b1, b2⟩ := h n (by omega)
    refine ⟨a ||| b, Nat.or_lt_two_pow (n := 4) a1 b1, ?_⟩
    show orN n f ||| f n = _
    rw [a2, b2, or16 a a1 b b1]
theorem carr16 {w : m_w} (hw : WF w) {c : Int32} : ∃ q, q < 16 ∧ carr w c = nI q := by
  refine orN16 _ (fun k hk => ?_)
  have h4 := hw.2.1.2
  have hb : ∀ k, k < 4 → bitK k = nI (2 ^ k) := by decide
  by_cases e : lX w (nI k) 1 = c
  · exact ⟨2 ^ k, by rcases (show k = 0 ∨ k = 1 ∨ k = 2 ∨ k = 3 by omega) with rfl | rfl | rfl | rfl <;> decide, by rw [if_pos e, hb k (by omega)]⟩
  · exact ⟨0, by decide, by rw [if_neg e]; rfl⟩
set_option maxHeartbeats 4000000 in
set_option maxRecDepth 100000 in
theorem met_X2_grip (l : Launch) (Γ : g_C) (htr : l.stackTraces = false) (ph : g_H) (i : Nat) (ad na : Nat → Nat) (mc : Nat → Int32) (w : m_w) (c f : Int32)  (hW : g_Wl Γ ph i ad na mc w) (hw : WF w) : g_Met l yX2_grip (ws_ yX2_grip cX2_grip 3 (some .int)) (g_rm 5 0 0) Γ [.ref (ad 0), .int c, .int f] ph (g_oi (fun rv_ ph' => rv_ = (f + bits (carr w c)) ∧ ph' = ph)) g_no := by
  refine g_start (y := yX2_grip) (cc := cX2_grip) (maxL := 3) (ret := (some .int)) (rm := g_rm 5 0 0) (by decide) (Nat.le_of_ble_eq_true rfl) ?_
  intro pg e s m A below meth cd ls Q hQ S hr hlk hex hnm hK I hl
  have hx := S.1
  have hb := S.2.1
  have hown := S.2.2.2.1
  have hts := S.2.2.2.2
  have S : CallFix pg m cd cX2_grip 3 s A lw_all "CrumblingWall$Wall" := S
  have hl : lv_has ls 3 [(0, .ref (ad 0)), (1, .int c), (2, .int f)] := hl
  have hwc := hw.1; have hwl := hw.2.1; have hwa := hw.2.2.1
  refine lv_iload_n hx hb dX2_grip_0 rfl (lv_at hl 2 rfl) ?_
  refine lv_aload_n hx hb dX2_grip_1 rfl (lv_at hl 0 rfl) ?_
  refine lv_iload_n hx hb dX2_grip_2 rfl (lv_at hl 1 rfl) ?_
  refine g_ci (g_runV S hK I (As := [.int c]) (rest := [.int f]) (met_X2_carriedBy l Γ htr ph i ad na mc w c hW hw  ) (cwV 1 hts (lw_V q1948 q1913 q1914 q121 q1915) rfl rfl rfl (by decide +kernel) ⟨Nat.le_of_ble_eq_true rfl, Nat.le_of_ble_eq_true rfl⟩) (g_recv hK I (g_at.of hW.o0) (ci := 1) rfl) rfl hl.1 rfl (Nat.le_of_ble_eq_true rfl) dX2_grip_3 ⟨Nat.le_of_ble_eq_true rfl, Nat.le_of_ble_eq_true rfl⟩) I (fun r_3 ph1 H locs hp I => ?_)
  obtain ⟨hp, hph⟩ := hp
  rw [hph] at I
  have hp : r_3 = (carr w c) := hp
  rw [hp]
  obtain ⟨q16, hq16, eq16⟩ := carr16 hw (c := c)
  rw [eq16]
  refine g_ci (g_runS S hK I (As := [.int (nI q16)]) (rest := [.int f]) (met_J22_bitCount l Γ ph q16 hq16) (va_cwS 1 hts (lw_S q1949 q1950 q146 q1951) rfl rfl rfl (by decide +kernel) ⟨Nat.le_of_ble_eq_true rfl, Nat.le_of_ble_eq_true rfl⟩) rfl hl.1 rfl (Nat.le_of_ble_eq_true rfl) dX2_grip_6 ⟨Nat.le_of_ble_eq_true rfl, Nat.le_of_ble_eq_true rfl⟩) I (fun r_6 ph1 H locs hp I => ?_)
  obtain ⟨hp, hph⟩ := hp
  rw [hph] at I
  have hp : r_6 = bits (carr w c) := by rw [eq16]; exact hp
  rw [hp]
  refine lv_iadd hx hb dX2_grip_9 ?_
  exact g_iret S hr hlk I dX2_grip_10 (Nat.le_of_ble_eq_true rfl) (Nat.le_of_ble_eq_true rfl) hQ ⟨_, rfl, rfl, rfl⟩

set_option maxHeartbeats 4000000 in
set_option maxRecDepth 100000 in
theorem met_X2_anchorsAt (l : Launch) (Γ : g_C) (htr : l.stackTraces = false) (ph : g_H) (i : Nat) (ad na : Nat → Nat) (mc : Nat → Int32) (w : m_w) (p : Int32)  (hW : g_Wl Γ ph i ad na mc w) (hw : WF w) (hT : g_Tr 34 ph) : g_Met l yX2_anchorsAt (ws_ yX2_anchorsAt cX2_anchorsAt 5 (some .int)) (g_rm 6 1 5) Γ [.ref (ad 0), .int p] ph (g_oi (fun rv_ ph' => rv_ = (aAt w p) ∧ ph' = ph)) g_no := by
  refine g_start (y := yX2_anchorsAt) (cc := cX2_anchorsAt) (maxL := 5) (ret := (some .int)) (rm := g_rm 6 1 5) (by decide) (Nat.le_of_ble_eq_true rfl) ?_
  intro pg e s m A below meth cd ls Q hQ S hr hlk hex hnm hK I hl
  have hx := S.1
  have hb := S.2.1
  have hown := S.2.2.2.1
  have hts := S.2.2.2.2
  have S : CallFix pg m cd cX2_anchorsAt 5 s A lw_all "CrumblingWall$Wall" := S
  have hl : lv_has ls 5 [(0, .ref (ad 0)), (1, .int p)] := hl
  have hwc := hw.1; have hwl := hw.2.1; have hwa := hw.2.2.1
  refine lv_iconst (v := 0) hx hb dX2_anchorsAt_0 (by decide) ?_
  refine lv_istore_n (lv' := [(2, .int 0), (0, .ref (ad 0)), (1, .int p)]) hx hb dX2_anchorsAt_1 rfl hl (by decide) rfl (fun ls hl => ?_)
  refine lv_aload_n hx hb dX2_anchorsAt_2 rfl (lv_at hl 1 rfl) ?_
  refine g_get S hK I k_X2 (v := .ref (ad 5)) (g_at.of hW.o0) 2 (by decide) q648 rfl rfl dX2_anchorsAt_3 ?_
  refine g_cr (g_runU S hK I (As := []) (rest := []) (met_J23_iterator l Γ ph 105 i (ad 5) 200 (nAn w) na (anI Γ w) (mc 0) 30 0 hW.o5 (by omega) (by decide) (by decide)) (g_cwD (n := 0) hts q894 q147 (by decide) (by decide +kernel) q889 q890 (g_declN (hK.N q891 rfl)) q892 q893 ⟨Nat.le_of_ble_eq_true rfl, Nat.le_of_ble_eq_true rfl⟩) (g_recv hK I (g_at.of hW.o5.1) (ci := 24) rfl) rfl hl.1 rfl (Nat.le_of_ble_eq_true rfl) dX2_anchorsAt_6 ⟨Nat.le_of_ble_eq_true rfl, Nat.le_of_ble_eq_true rfl⟩) I (fun u ph1 H locs hp I => ?_)
  obtain ⟨hfu, hu9, hg9⟩ := hp
  generalize ph1 = P_1 at I hu9 hg9
  have hW0 := hW
  have hW : g_Wl Γ P_1 i ad na mc w := hW0.frL hg9 (by simp)
  have hP9 : g_fr [(30, 0)] ph P_1 := hg9
  refine lv_astore_n (lv' := [(3, .ref u), (2, .int 0), (0, .ref (ad 0)), (1, .int p)]) hx hb dX2_anchorsAt_9 rfl hl (by decide) rfl (fun ls hl => ?_)
  have L_10 : ∀ (d : Nat) (k : Nat) (P9 : g_H) (lr9 : Value), (hk : k ≤ nAn w) → (hP9 : g_fr [(30, 0)] ph P9) → (hu9 : P9 30 0 u = some (.inr (26, [lr9, lkK k (nAn w) na, .int (nI k), .int (mc 0), .ref (ad 5)]))) → nAn w - k < d → ∀ (H : Heap) (locs : List Loc) (ls : Array Slot), g_I Γ P9 s H locs → lv_has ls 5 [(0, .ref (ad 0)), (1, .int p), (2, .int (sumN k (fun k => if w (132 + k) = p then 1 else 0))), (3, .ref u)] → W pg l e (g_rm 6 1 5) s m A below meth cd H locs 1 5 Q (F0 m 10 ls []) := by
    intro d
    induction d with
    | zero => intro k P9 lr9 hk hP9 hu9 hd; exact absurd hd (Nat.not_lt_zero _)
    | succ d ih =>
      intro k P9 lr9 hk hP9 hu9 hd H locs ls I hl
      have hW := hW0.frL hP9 (by simp)
      refine lv_aload_n hx hb dX2_anchorsAt_10 rfl (lv_at hl 3 rfl) ?_
      refine g_cFi (g_runF S hK I (As := []) (rest := []) (met_J32_hasNext l Γ P9 105 i (ad 5) 200 (nAn w) na (anI Γ w) (mc 0) 30 0 u k lr9 hW.o5 hu9 (by omega) (by omega)) (ci := 26) rfl (va_cwF 0 hts (lw_F q982 q1014 q1016 q167 q1018) rfl rfl rfl (hK.F 3 rfl) (by decide +kernel) ⟨Nat.le_of_ble_eq_true rfl, Nat.le_of_ble_eq_true rfl⟩) (g_recv hK I (g_at.of hu9) (ci := 26) rfl) rfl hl.1 rfl (Nat.le_of_ble_eq_true rfl) dX2_anchorsAt_11 ⟨Nat.le_of_ble_eq_true rfl, Nat.le_of_ble_eq_true rfl⟩) I (fun r_11 ph1 H locs hp I => ?_)
      obtain ⟨hp, hph⟩ := hp
      rw [hph] at I
      have hp : r_11 = (b2i (decide (k < nAn w))) := hp
      rw [hp]
      refine lv_if_eq (tgt := 50) hx hb dX2_anchorsAt_16 (by decide) (fun c_16 => ?_) (fun c_16 => ?_)
      · have p_16 := of_decide_eq_false ((b2i_eq0 _).mp c_16)
        have c_16 := p_16
        obtain rfl : k = nAn w := by omega
        have I := I.forget hP9 hT (by decide)
        have hW := hW0
        refine lv_iload_n hx hb dX2_anchorsAt_50 rfl (lv_at hl 2 rfl) ?_
        exact g_iret S hr hlk I dX2_anchorsAt_51 (Nat.le_of_ble_eq_true rfl) (Nat.le_of_ble_eq_true rfl) hQ ⟨_, rfl, rfl, rfl⟩
      · have p_16 := of_decide_eq_true ((b2i_ne0 _).mp c_16)
        have c_16 := p_16
        have hkl : k < nAn w := c_16
        refine lv_aload_n hx hb dX2_anchorsAt_19 rfl (lv_at hl 3 rfl) ?_
        have hb9 : (w (132 + k)).toNatClampNeg < nN w ∧ nI (w (132 + k)).toNatClampNeg = w (132 + k) := okHx hw (hw.2.2.2.2.2.2.2 k hkl)
        have hb8 := hb9.1
        refine g_cFr (g_runF S hK I (As := []) (rest := []) (met_J32_next l Γ P9 105 i (ad 5) 200 (nAn w) na (anI Γ w) (mc 0) 30 0 u k lr9 hW.o5 hu9 (by omega) hkl (by decide) (by decide)) (ci := 26) rfl (va_cwF 0 hts (lw_F q1020 q1194 q1196 q167 q1198) rfl rfl rfl (hK.F 4 rfl) (by decide +kernel) ⟨Nat.le_of_ble_eq_true rfl, Nat.le_of_ble_eq_true rfl⟩) (g_recv hK I (g_at.of hu9) (ci := 26) rfl) rfl hl.1 rfl (Nat.le_of_ble_eq_true rfl) dX2_anchorsAt_20 ⟨Nat.le_of_ble_eq_true rfl, Nat.le_of_ble_eq_true rfl⟩) I (fun r_20 ph1 H locs hp I => ?_)
        obtain ⟨hp, hu9, hg9⟩ := hp
        generalize ph1 = P_2 at I hu9 hg9
        have hW : g_Wl Γ P_2 i ad na mc w := hW.frL hg9 (by simp)
        have hP9 := hP9.trans hg9
        have hp : r_20 = (g_bx Γ (w (132 + k)).toNatClampNeg) := hp
        rw [hp]
        refine g_castI S hK q1200 (g_recvB hK I (by omega)) dX2_anchorsAt_25 ?_
        refine g_ci (g_runV S hK I (As := []) (rest := []) (met_J22_intValue l Γ P_2 (w (132 + k)).toNatClampNeg (by omega)) (cwV 0 hts (lw_V q1201 q1202 q1203 q146 q1204) rfl rfl rfl (by decide +kernel) ⟨Nat.le_of_ble_eq_true rfl, Nat.le_of_ble_eq_true rfl⟩) (g_recvB hK I (by omega)) rfl hl.1 rfl (Nat.le_of_ble_eq_true rfl) dX2_anchorsAt_28 ⟨Nat.le_of_ble_eq_true rfl, Nat.le_of_ble_eq_true rfl⟩) I (fun r_28 ph1 H locs hp I => ?_)
        obtain ⟨hp, hph⟩ := hp
        rw [hph] at I
        have hp : r_28 = (w (132 + k)) := hp.trans hb9.2
        rw [hp]
        refine lv_istore (lv' := [(4, .int (w (132 + k))), (0, .ref (ad 0)), (1, .int p), (2, .int (sumN k (fun k => if w (132 + k) = p then 1 else 0))), (3, .ref u)]) hx hb dX2_anchorsAt_31 hl (by decide) rfl (fun ls hl => ?_)
        refine lv_iload_n hx hb dX2_anchorsAt_33 rfl (lv_at hl 3 rfl) ?_
        refine lv_iload hx hb dX2_anchorsAt_34 (lv_at hl 0 rfl) ?_
        refine lv_iload_n hx hb dX2_anchorsAt_36 rfl (lv_at hl 2 rfl) ?_
        have J_45_2 : ∀ (x1 : Int32) (H : Heap) (locs : List Loc) (ls : Array Slot), (hx1 : x1 = (if w (132 + k) = p then 1 else 0)) → g_I Γ P_2 s H locs → lv_has ls 5 [(4, .int (w (132 + k))), (0, .ref (ad 0)), (1, .int p), (2, .int (sumN k (fun k => if w (132 + k) = p then 1 else 0))), (3, .ref u)] → W pg l e (g_rm 6 1 5) s m A below meth cd H locs 1 5 Q (F0 m 45 ls [.int x1, .int (sumN k (fun k => if w (132 + k) = p then 1 else 0))]) := by
          intro x1 H locs ls hx1 I hl
          subst hx1
          refine lv_iadd hx hb dX2_anchorsAt_45 ?_
          refine lv_istore_n (lv' := [(2, .int (sumN (k + 1) (fun k => if w (132 + k) = p then 1 else 0))), (4, .int (w (132 + k))), (0, .ref (ad 0)), (1, .int p), (3, .ref u)]) hx hb dX2_anchorsAt_46 rfl hl (by decide) rfl (fun ls hl => ?_)
          refine lv_goto (tgt := 10) hx hb dX2_anchorsAt_47 (by decide) ?_
          exact ih (k + 1) P_2 _ hkl hP9 hu9 (by omega) _ _ _ I (lv_sub hl [2, 3, 0, 4] rfl)
        refine lv_icmp_ne (tgt := 44) hx hb dX2_anchorsAt_37 (by decide) (fun c_37 => ?_) (fun c_37 => ?_)
        · refine lv_iconst (v := 0) hx hb dX2_anchorsAt_44 (by decide) ?_
          exact J_45_2 0 _ _ _ (by simp [c_37]) I (lv_sub hl [0, 1, 2, 3, 4] rfl)
        · refine lv_iconst (v := 1) hx hb dX2_anchorsAt_40 (by decide) ?_
          refine lv_goto (tgt := 45) hx hb dX2_anchorsAt_41 (by decide) ?_
          exact J_45_2 1 _ _ _ (by simp [c_37]) I (lv_sub hl [0, 1, 2, 3, 4] rfl)
  exact L_10 _ 0 P_1 _ (Nat.zero_le _) hP9 hu9 (Nat.lt_succ_self _) _ _ _ I (lv_sub hl [2, 3, 1, 0] rfl)

set_option maxHeartbeats 4000000 in
set_option maxRecDepth 100000 in
theorem met_X2_out_2 (l : Launch) (Γ : g_C) (htr : l.stackTraces = false) (ph : g_H) (i : Nat) (ad na : Nat → Nat) (mc : Nat → Int32) (w : m_w) (x y : Int32)  (hW : g_Wl Γ ph i ad na mc w) (hw : WF w) (hT : g_Tr 34 ph) (hpx : okP w x) (hpy : okP w y) : g_Met l yX2_out_2 (ws_ yX2_out_2 cX2_out_2 7 (some .int)) (g_rm 6 1 5) Γ [.ref (ad 0), .ref (plA ad x), .ref (plA ad y)] ph (g_oi (fun rv_ ph' => rv_ = (rope w x y) ∧ ph' = ph)) g_no := by
  refine g_start (y := yX2_out_2) (cc := cX2_out_2) (maxL := 7) (ret := (some .int)) (rm := g_rm 6 1 5) (by decide) (Nat.le_of_ble_eq_true rfl) ?_
  intro pg e s m A below meth cd ls Q hQ S hr hlk hex hnm hK I hl
  have hx := S.1
  have hb := S.2.1
  have hown := S.2.2.2.1
  have hts := S.2.2.2.2
  have S : CallFix pg m cd cX2_out_2 7 s A lw_all "CrumblingWall$Wall" := S
  have hl : lv_has ls 7 [(0, .ref (ad 0)), (1, .ref (plA ad x)), (2, .ref (plA ad y))] := hl
  have hwc := hw.1; have hwl := hw.2.1; have hwa := hw.2.2.1
  refine lv_aload_n hx hb dX2_out_2_0 rfl (lv_at hl 1 rfl) ?_
  refine lv_astore_n (lv' := [(3, .ref (plA ad x)), (0, .ref (ad 0)), (1, .ref (plA ad x)), (2, .ref (plA ad y))]) hx hb dX2_out_2_1 rfl hl (by decide) rfl (fun ls hl => ?_)
  refine lv_iconst (v := 0) hx hb dX2_out_2_2 (by decide) ?_
  refine lv_istore (lv' := [(4, .int 0), (3, .ref (plA ad x)), (0, .ref (ad 0)), (1, .ref (plA ad x)), (2, .ref (plA ad y))]) hx hb dX2_out_2_3 hl (by decide) rfl (fun ls hl => ?_)
  refine lv_aload_n hx hb dX2_out_2_5 rfl (lv_at hl 2 rfl) ?_
  refine g_get S hK I k_X2 (v := .ref (ad 5)) (g_at.of hW.o0) 2 (by decide) q648 rfl rfl dX2_out_2_6 ?_
  refine g_cr (g_runU S hK I (As := []) (rest := []) (met_J23_iterator l Γ ph 105 i (ad 5) 200 (nAn w) na (anI Γ w) (mc 0) 30 0 hW.o5 (by omega) (by decide) (by decide)) (g_cwD (n := 0) hts q894 q147 (by decide) (by decide +kernel) q889 q890 (g_declN (hK.N q891 rfl)) q892 q893 ⟨Nat.le_of_ble_eq_true rfl, Nat.le_of_ble_eq_true rfl⟩) (g_recv hK I (g_at.of hW.o5.1) (ci := 24) rfl) rfl hl.1 rfl (Nat.le_of_ble_eq_true rfl) dX2_out_2_9 ⟨Nat.le_of_ble_eq_true rfl, Nat.le_of_ble_eq_true rfl⟩) I (fun u ph1 H locs hp I => ?_)
  obtain ⟨hfu, hu9, hg9⟩ := hp
  generalize ph1 = P_1 at I hu9 hg9
  have hW0 := hW
  have hW : g_Wl Γ P_1 i ad na mc w := hW0.frL hg9 (by simp)
  have hP9 : g_fr [(30, 0)] ph P_1 := hg9
  refine lv_astore (lv' := [(5, .ref u), (4, .int 0), (3, .ref (plA ad x)), (0, .ref (ad 0)), (1, .ref (plA ad x)), (2, .ref (plA ad y))]) hx hb dX2_out_2_12 hl (by decide) rfl (fun ls hl => ?_)
  have L_14 : ∀ (d : Nat) (k : Nat) (P9 : g_H) (lr9 : Value), (hk : k ≤ nAn w) → (hP9 : g_fr [(30, 0)] ph P9) → (hu9 : P9 30 0 u = some (.inr (26, [lr9, lkK k (nAn w) na, .int (nI k), .int (mc 0), .ref (ad 5)]))) → nAn w - k < d → ∀ (H : Heap) (locs : List Loc) (ls : Array Slot), g_I Γ P9 s H locs → lv_has ls 7 [(0, .ref (ad 0)), (1, .ref (plA ad x)), (2, .ref (plA ad y)), (3, .ref (plA ad (ropeN w x k).2)), (4, .int ((ropeN w x k).1)), (5, .ref u)] → W pg l e (g_rm 6 1 5) s m A below meth cd H locs 1 5 Q (F0 m 14 ls []) := by
    intro d
    induction d with
    | zero => intro k P9 lr9 hk hP9 hu9 hd; exact absurd hd (Nat.not_lt_zero _)
    | succ d ih =>
      intro k P9 lr9 hk hP9 hu9 hd H locs ls I hl
      have hW := hW0.frL hP9 (by simp)
      refine lv_aload hx hb dX2_out_2_14 (lv_at hl 5 rfl) ?_
      refine g_cFi (g_runF S hK I (As := []) (rest := []) (met_J32_hasNext l Γ P9 105 i (ad 5) 200 (nAn w) na (anI Γ w) (mc 0) 30 0 u k lr9 hW.o5 hu9 (by omega) (by omega)) (ci := 26) rfl (va_cwF 0 hts (lw_F q982 q1014 q1016 q167 q1018) rfl rfl rfl (hK.F 3 rfl) (by decide +kernel) ⟨Nat.le_of_ble_eq_true rfl, Nat.le_of_ble_eq_true rfl⟩) (g_recv hK I (g_at.of hu9) (ci := 26) rfl) rfl hl.1 rfl (Nat.le_of_ble_eq_true rfl) dX2_out_2_16 ⟨Nat.le_of_ble_eq_true rfl, Nat.le_of_ble_eq_true rfl⟩) I (fun r_16 ph1 H locs hp I => ?_)
      obtain ⟨hp, hph⟩ := hp
      rw [hph] at I
      have hp : r_16 = (b2i (decide (k < nAn w))) := hp
      rw [hp]
      refine lv_if_eq (tgt := 62) hx hb dX2_out_2_21 (by decide) (fun c_21 => ?_) (fun c_21 => ?_)
      · have p_21 := of_decide_eq_false ((b2i_eq0 _).mp c_21)
        have c_21 := p_21
        obtain rfl : k = nAn w := by omega
        have I := I.forget hP9 hT (by decide)
        have hW := hW0
        refine lv_iload hx hb dX2_out_2_62 (lv_at hl 4 rfl) ?_
        refine lv_aload_n hx hb dX2_out_2_64 rfl (lv_at hl 3 rfl) ?_
        refine lv_aload_n hx hb dX2_out_2_65 rfl (lv_at hl 2 rfl) ?_
        refine g_cFi (by rcases pl_or hW hw (p := ((ropeN w x (nAn w)).2)) (ropeN_ok hw hpx (Nat.le_refl _)) with ⟨e8, fs9, r9⟩ | ⟨e8, b8, n8, a8, fs9, h9⟩; rotate_left; rcases h9 with ⟨e9, r9⟩ | ⟨e9, r9⟩ | ⟨e9, r9⟩ | ⟨e9, r9⟩; exact (g_runF S hK I (As := [.ref (plA ad y)]) (rest := [.int ((ropeN w x (nAn w)).1)]) (met_p_distance_H l Γ htr ph i ad na mc w ((ropeN w x (nAn w)).2) y hW hw (ropeN_ok hw hpx (Nat.le_refl _)) hpy e8) (ci := 7) rfl (va_cwF 1 hts (lw_F q1206 q1281 q1212 q157 q1214) rfl rfl rfl (hK.F 14 rfl) (by decide +kernel) ⟨Nat.le_of_ble_eq_true rfl, Nat.le_of_ble_eq_true rfl⟩) (g_recv hK I (g_at.of r9) (ci := 7) rfl) rfl hl.1 rfl (Nat.le_of_ble_eq_true rfl) dX2_out_2_66 ⟨Nat.le_of_ble_eq_true rfl, Nat.le_of_ble_eq_true rfl⟩); exact (g_runF S hK I (As := [.ref (plA ad y)]) (rest := [.int ((ropeN w x (nAn w)).1)]) (met_p_distance_H l Γ htr ph i ad na mc w ((ropeN w x (nAn w)).2) y hW hw (ropeN_ok hw hpx (Nat.le_refl _)) hpy e8) (ci := 9) rfl (va_cwF 1 hts (lw_F q1206 q1292 q1212 q157 q1214) rfl rfl rfl (hK.F 22 rfl) (by decide +kernel) ⟨Nat.le_of_ble_eq_true rfl, Nat.le_of_ble_eq_true rfl⟩) (g_recv hK I (g_at.of r9) (ci := 9) rfl) rfl hl.1 rfl (Nat.le_of_ble_eq_true rfl) dX2_out_2_66 ⟨Nat.le_of_ble_eq_true rfl, Nat.le_of_ble_eq_true rfl⟩); exact (g_runF S hK I (As := [.ref (plA ad y)]) (rest := [.int ((ropeN w x (nAn w)).1)]) (met_p_distance_H l Γ htr ph i ad na mc w ((ropeN w x (nAn w)).2) y hW hw (ropeN_ok hw hpx (Nat.le_refl _)) hpy e8) (ci := 8) rfl (va_cwF 1 hts (lw_F q1206 q1283 q1212 q157 q1214) rfl rfl rfl (hK.F 18 rfl) (by decide +kernel) ⟨Nat.le_of_ble_eq_true rfl, Nat.le_of_ble_eq_true rfl⟩) (g_recv hK I (g_at.of r9) (ci := 8) rfl) rfl hl.1 rfl (Nat.le_of_ble_eq_true rfl) dX2_out_2_66 ⟨Nat.le_of_ble_eq_true rfl, Nat.le_of_ble_eq_true rfl⟩); exact (g_runF S hK I (As := [.ref (plA ad y)]) (rest := [.int ((ropeN w x (nAn w)).1)]) (met_p_distance_H l Γ htr ph i ad na mc w ((ropeN w x (nAn w)).2) y hW hw (ropeN_ok hw hpx (Nat.le_refl _)) hpy e8) (ci := 6) rfl (va_cwF 1 hts (lw_F q1206 q1210 q1212 q157 q1214) rfl rfl rfl (hK.F 10 rfl) (by decide +kernel) ⟨Nat.le_of_ble_eq_true rfl, Nat.le_of_ble_eq_true rfl⟩) (g_recv hK I (g_at.of r9) (ci := 6) rfl) rfl hl.1 rfl (Nat.le_of_ble_eq_true rfl) dX2_out_2_66 ⟨Nat.le_of_ble_eq_true rfl, Nat.le_of_ble_eq_true rfl⟩); exact (g_runF S hK I (As := [.ref (plA ad y)]) (rest := [.int ((ropeN w x (nAn w)).1)]) (met_p_distance_G l Γ htr ph i ad na mc w ((ropeN w x (nAn w)).2) y hW hw (ropeN_ok hw hpx (Nat.le_refl _)) hpy e8) (ci := 3) rfl (va_cwF 1 hts (lw_F q1206 q1285 q1287 q149 q1289) rfl rfl rfl (hK.F 26 rfl) (by decide +kernel) ⟨Nat.le_of_ble_eq_true rfl, Nat.le_of_ble_eq_true rfl⟩) (g_recv hK I (g_at.of r9) (ci := 3) rfl) rfl hl.1 rfl (Nat.le_of_ble_eq_true rfl) dX2_out_2_66 ⟨Nat.le_of_ble_eq_true rfl, Nat.le_of_ble_eq_true rfl⟩)) I (fun r_66 ph1 H locs hp I => ?_)
        obtain ⟨hp, hph⟩ := hp
        rw [hph] at I
        have hp : r_66 = (dst w ((ropeN w x (nAn w)).2) y) := hp
        rw [hp]
        refine lv_iadd hx hb dX2_out_2_71 ?_
        exact g_iret S hr hlk I dX2_out_2_72 (Nat.le_of_ble_eq_true rfl) (Nat.le_of_ble_eq_true rfl) hQ ⟨_, rfl, rfl, rfl⟩
      · have p_21 := of_decide_eq_true ((b2i_ne0 _).mp c_21)
        have c_21 := p_21
        have hkl : k < nAn w := c_21
        refine lv_aload_n hx hb dX2_out_2_24 rfl (lv_at hl 0 rfl) ?_
        refine lv_aload hx hb dX2_out_2_25 (lv_at hl 5 rfl) ?_
        have hb9 : (w (132 + k)).toNatClampNeg < nN w ∧ nI (w (132 + k)).toNatClampNeg = w (132 + k) := okHx hw (hw.2.2.2.2.2.2.2 k hkl)
        have hb8 := hb9.1
        refine g_cFr (g_runF S hK I (As := []) (rest := [.ref (ad 0)]) (met_J32_next l Γ P9 105 i (ad 5) 200 (nAn w) na (anI Γ w) (mc 0) 30 0 u k lr9 hW.o5 hu9 (by omega) hkl (by decide) (by decide)) (ci := 26) rfl (va_cwF 0 hts (lw_F q1020 q1194 q1196 q167 q1198) rfl rfl rfl (hK.F 4 rfl) (by decide +kernel) ⟨Nat.le_of_ble_eq_true rfl, Nat.le_of_ble_eq_true rfl⟩) (g_recv hK I (g_at.of hu9) (ci := 26) rfl) rfl hl.1 rfl (Nat.le_of_ble_eq_true rfl) dX2_out_2_27 ⟨Nat.le_of_ble_eq_true rfl, Nat.le_of_ble_eq_true rfl⟩) I (fun r_27 ph1 H locs hp I => ?_)
        obtain ⟨hp, hu9, hg9⟩ := hp
        generalize ph1 = P_2 at I hu9 hg9
        have hW : g_Wl Γ P_2 i ad na mc w := hW.frL hg9 (by simp)
        have hP9 := hP9.trans hg9
        have hp : r_27 = (g_bx Γ (w (132 + k)).toNatClampNeg) := hp
        rw [hp]
        refine g_castI S hK q1200 (g_recvB hK I (by omega)) dX2_out_2_32 ?_
        refine g_ci (g_runV S hK I (As := []) (rest := [.ref (ad 0)]) (met_J22_intValue l Γ P_2 (w (132 + k)).toNatClampNeg (by omega)) (cwV 0 hts (lw_V q1201 q1202 q1203 q146 q1204) rfl rfl rfl (by decide +kernel) ⟨Nat.le_of_ble_eq_true rfl, Nat.le_of_ble_eq_true rfl⟩) (g_recvB hK I (by omega)) rfl hl.1 rfl (Nat.le_of_ble_eq_true rfl) dX2_out_2_35 ⟨Nat.le_of_ble_eq_true rfl, Nat.le_of_ble_eq_true rfl⟩) I (fun r_35 ph1 H locs hp I => ?_)
        obtain ⟨hp, hph⟩ := hp
        rw [hph] at I
        have hp : r_35 = (w (132 + k)) := hp.trans hb9.2
        rw [hp]
        refine g_cr (g_runV S hK I (As := [.int (w (132 + k))]) (rest := []) (met_X2_place l Γ htr P_2 i ad na mc w (w (132 + k)) hW hw  (wA_pl hw hkl)) (cwV 1 hts (lw_V q879 q880 q881 q121 q882) rfl rfl rfl (by decide +kernel) ⟨Nat.le_of_ble_eq_true rfl, Nat.le_of_ble_eq_true rfl⟩) (g_recv hK I (g_at.of hW.o0) (ci := 1) rfl) rfl hl.1 rfl (Nat.le_of_ble_eq_true rfl) dX2_out_2_38 ⟨Nat.le_of_ble_eq_true rfl, Nat.le_of_ble_eq_true rfl⟩) I (fun r_38 ph1 H locs hp I => ?_)
        obtain ⟨hp, hph⟩ := hp
        rw [hph] at I
        have hp : r_38 = (plA ad (w (132 + k))) := hp
        rw [hp]
        refine lv_astore (lv' := [(6, .ref (plA ad (w (132 + k)))), (0, .ref (ad 0)), (1, .ref (plA ad x)), (2, .ref (plA ad y)), (3, .ref (plA ad (ropeN w x k).2)), (4, .int ((ropeN w x k).1)), (5, .ref u)]) hx hb dX2_out_2_41 hl (by decide) rfl (fun ls hl => ?_)
        refine lv_iload hx hb dX2_out_2_43 (lv_at hl 5 rfl) ?_
        refine lv_aload_n hx hb dX2_out_2_45 rfl (lv_at hl 4 rfl) ?_
        refine lv_aload hx hb dX2_out_2_46 (lv_at hl 0 rfl) ?_
        refine g_cFi (by rcases pl_or hW hw (p := ((ropeN w x k).2)) (ropeN_ok hw hpx hk) with ⟨e8, fs9, r9⟩ | ⟨e8, b8, n8, a8, fs9, h9⟩; rotate_left; rcases h9 with ⟨e9, r9⟩ | ⟨e9, r9⟩ | ⟨e9, r9⟩ | ⟨e9, r9⟩; exact (g_runF S hK I (As := [.ref (plA ad (w (132 + k)))]) (rest := [.int ((ropeN w x k).1)]) (met_p_distance_H l Γ htr P_2 i ad na mc w ((ropeN w x k).2) (w (132 + k)) hW hw (ropeN_ok hw hpx hk) (wA_pl hw hkl) e8) (ci := 7) rfl (va_cwF 1 hts (lw_F q1206 q1281 q1212 q157 q1214) rfl rfl rfl (hK.F 14 rfl) (by decide +kernel) ⟨Nat.le_of_ble_eq_true rfl, Nat.le_of_ble_eq_true rfl⟩) (g_recv hK I (g_at.of r9) (ci := 7) rfl) rfl hl.1 rfl (Nat.le_of_ble_eq_true rfl) dX2_out_2_48 ⟨Nat.le_of_ble_eq_true rfl, Nat.le_of_ble_eq_true rfl⟩); exact (g_runF S hK I (As := [.ref (plA ad (w (132 + k)))]) (rest := [.int ((ropeN w x k).1)]) (met_p_distance_H l Γ htr P_2 i ad na mc w ((ropeN w x k).2) (w (132 + k)) hW hw (ropeN_ok hw hpx hk) (wA_pl hw hkl) e8) (ci := 9) rfl (va_cwF 1 hts (lw_F q1206 q1292 q1212 q157 q1214) rfl rfl rfl (hK.F 22 rfl) (by decide +kernel) ⟨Nat.le_of_ble_eq_true rfl, Nat.le_of_ble_eq_true rfl⟩) (g_recv hK I (g_at.of r9) (ci := 9) rfl) rfl hl.1 rfl (Nat.le_of_ble_eq_true rfl) dX2_out_2_48 ⟨Nat.le_of_ble_eq_true rfl, Nat.le_of_ble_eq_true rfl⟩); exact (g_runF S hK I (As := [.ref (plA ad (w (132 + k)))]) (rest := [.int ((ropeN w x k).1)]) (met_p_distance_H l Γ htr P_2 i ad na mc w ((ropeN w x k).2) (w (132 + k)) hW hw (ropeN_ok hw hpx hk) (wA_pl hw hkl) e8) (ci := 8) rfl (va_cwF 1 hts (lw_F q1206 q1283 q1212 q157 q1214) rfl rfl rfl (hK.F 18 rfl) (by decide +kernel) ⟨Nat.le_of_ble_eq_true rfl, Nat.le_of_ble_eq_true rfl⟩) (g_recv hK I (g_at.of r9) (ci := 8) rfl) rfl hl.1 rfl (Nat.le_of_ble_eq_true rfl) dX2_out_2_48 ⟨Nat.le_of_ble_eq_true rfl, Nat.le_of_ble_eq_true rfl⟩); exact (g_runF S hK I (As := [.ref (plA ad (w (132 + k)))]) (rest := [.int ((ropeN w x k).1)]) (met_p_distance_H l Γ htr P_2 i ad na mc w ((ropeN w x k).2) (w (132 + k)) hW hw (ropeN_ok hw hpx hk) (wA_pl hw hkl) e8) (ci := 6) rfl (va_cwF 1 hts (lw_F q1206 q1210 q1212 q157 q1214) rfl rfl rfl (hK.F 10 rfl) (by decide +kernel) ⟨Nat.le_of_ble_eq_true rfl, Nat.le_of_ble_eq_true rfl⟩) (g_recv hK I (g_at.of r9) (ci := 6) rfl) rfl hl.1 rfl (Nat.le_of_ble_eq_true rfl) dX2_out_2_48 ⟨Nat.le_of_ble_eq_true rfl, Nat.le_of_ble_eq_true rfl⟩); exact (g_runF S hK I (As := [.ref (plA ad (w (132 + k)))]) (rest := [.int ((ropeN w x k).1)]) (met_p_distance_G l Γ htr P_2 i ad na mc w ((ropeN w x k).2) (w (132 + k)) hW hw (ropeN_ok hw hpx hk) (wA_pl hw hkl) e8) (ci := 3) rfl (va_cwF 1 hts (lw_F q1206 q1285 q1287 q149 q1289) rfl rfl rfl (hK.F 26 rfl) (by decide +kernel) ⟨Nat.le_of_ble_eq_true rfl, Nat.le_of_ble_eq_true rfl⟩) (g_recv hK I (g_at.of r9) (ci := 3) rfl) rfl hl.1 rfl (Nat.le_of_ble_eq_true rfl) dX2_out_2_48 ⟨Nat.le_of_ble_eq_true rfl, Nat.le_of_ble_eq_true rfl⟩)) I (fun r_48 ph1 H locs hp I => ?_)
        obtain ⟨hp, hph⟩ := hp
        rw [hph] at I
        have hp : r_48 = (dst w ((ropeN w x k).2) (w (132 + k))) := hp
        rw [hp]
        refine lv_iadd hx hb dX2_out_2_53 ?_
        refine lv_istore (lv' := [(4, .int (((ropeN w x k).1) + (dst w ((ropeN w x k).2) (w (132 + k))))), (6, .ref (plA ad (w (132 + k)))), (0, .ref (ad 0)), (1, .ref (plA ad x)), (2, .ref (plA ad y)), (3, .ref (plA ad (ropeN w x k).2)), (5, .ref u)]) hx hb dX2_out_2_54 hl (by decide) rfl (fun ls hl => ?_)
        refine lv_aload hx hb dX2_out_2_56 (lv_at hl 1 rfl) ?_
        refine lv_astore_n (lv' := [(3, .ref (plA ad (w (132 + k)))), (4, .int (((ropeN w x k).1) + (dst w ((ropeN w x k).2) (w (132 + k))))), (6, .ref (plA ad (w (132 + k)))), (0, .ref (ad 0)), (1, .ref (plA ad x)), (2, .ref (plA ad y)), (5, .ref u)]) hx hb dX2_out_2_58 rfl hl (by decide) rfl (fun ls hl => ?_)
        refine lv_goto (tgt := 14) hx hb dX2_out_2_59 (by decide) ?_
        exact ih (k + 1) P_2 _ hkl hP9 hu9 (by omega) _ _ _ I (lv_sub hl [3, 4, 5, 0, 1, 6] rfl)
  exact L_14 _ 0 P_1 _ (Nat.zero_le _) hP9 hu9 (Nat.lt_succ_self _) _ _ _ I (lv_sub hl [3, 4, 5, 2, 1, 0] rfl)

set_option maxHeartbeats 4000000 in
set_option maxRecDepth 100000 in
theorem met_X2_out (l : Launch) (Γ : g_C) (htr : l.stackTraces = false) (ph : g_H) (i : Nat) (ad na : Nat → Nat) (mc : Nat → Int32) (w : m_w)  (hW : g_Wl Γ ph i ad na mc w) (hw : WF w) (hT : g_Tr 34 ph) : g_Met l yX2_out (ws_ yX2_out cX2_out 1 (some .int)) (g_rm 7 1 5) Γ [.ref (ad 0)] ph (g_oi (fun rv_ ph' => rv_ = (ropeO w) ∧ ph' = ph)) g_no := by
  refine g_start (y := yX2_out) (cc := cX2_out) (maxL := 1) (ret := (some .int)) (rm := g_rm 7 1 5) (by decide) (Nat.le_of_ble_eq_true rfl) ?_
  intro pg e s m A below meth cd ls Q hQ S hr hlk hex hnm hK I hl
  have hx := S.1
  have hb := S.2.1
  have hown := S.2.2.2.1
  have hts := S.2.2.2.2
  have S : CallFix pg m cd cX2_out 1 s A lw_all "CrumblingWall$Wall" := S
  have hl : lv_has ls 1 [(0, .ref (ad 0))] := hl
  have hwc := hw.1; have hwl := hw.2.1; have hwa := hw.2.2.1
  refine lv_aload_n hx hb dX2_out_0 rfl (lv_at hl 0 rfl) ?_
  refine lv_aload_n hx hb dX2_out_1 rfl (lv_at hl 0 rfl) ?_
  refine lv_iconst (v := 1) hx hb dX2_out_2 (by decide) ?_
  refine g_cr (g_runV S hK I (As := [.int 1]) (rest := [.ref (ad 0)]) (met_X2_at l Γ htr ph i ad na mc w 1 hW hw  (vp_lit (by decide))) (cwV 1 hts (lw_V q778 q779 q780 q121 q781) rfl rfl rfl (by decide +kernel) ⟨Nat.le_of_ble_eq_true rfl, Nat.le_of_ble_eq_true rfl⟩) (g_recv hK I (g_at.of hW.o0) (ci := 1) rfl) rfl hl.1 rfl (Nat.le_of_ble_eq_true rfl) dX2_out_3 ⟨Nat.le_of_ble_eq_true rfl, Nat.le_of_ble_eq_true rfl⟩) I (fun r_3 ph1 H locs hp I => ?_)
  obtain ⟨hp, hph⟩ := hp
  rw [hph] at I
  have hp : r_3 = (plA ad (plc w 1)) := hp
  rw [hp]
  refine lv_aload_n hx hb dX2_out_6 rfl (lv_at hl 0 rfl) ?_
  refine lv_iconst (v := 0) hx hb dX2_out_7 (by decide) ?_
  refine g_cr (g_runV S hK I (As := [.int 0]) (rest := [.ref (plA ad (plc w 1)), .ref (ad 0)]) (met_X2_at l Γ htr ph i ad na mc w 0 hW hw  (vp_lit (by decide))) (cwV 1 hts (lw_V q778 q779 q780 q121 q781) rfl rfl rfl (by decide +kernel) ⟨Nat.le_of_ble_eq_true rfl, Nat.le_of_ble_eq_true rfl⟩) (g_recv hK I (g_at.of hW.o0) (ci := 1) rfl) rfl hl.1 rfl (Nat.le_of_ble_eq_true rfl) dX2_out_8 ⟨Nat.le_of_ble_eq_true rfl, Nat.le_of_ble_eq_true rfl⟩) I (fun r_8 ph1 H locs hp I => ?_)
  obtain ⟨hp, hph⟩ := hp
  rw [hph] at I
  have hp : r_8 = (plA ad (plc w 0)) := hp
  rw [hp]
  refine g_ci (g_runV S hK I (As := [.ref (plA ad (plc w 1)), .ref (plA ad (plc w 0))]) (rest := []) (met_X2_out_2 l Γ htr ph i ad na mc w (plc w 1) (plc w 0) hW hw hT (hw.pl (c := 1) (vp_lit (by decide))) (hw.pl (c := 0) (vp_lit (by decide)))) (cwV 2 hts (lw_V q885 q887 qs4 q121 q888) rfl rfl rfl (by decide +kernel) ⟨Nat.le_of_ble_eq_true rfl, Nat.le_of_ble_eq_true rfl⟩) (g_recv hK I (g_at.of hW.o0) (ci := 1) rfl) rfl hl.1 rfl (Nat.le_of_ble_eq_true rfl) dX2_out_11 ⟨Nat.le_of_ble_eq_true rfl, Nat.le_of_ble_eq_true rfl⟩) I (fun r_11 ph1 H locs hp I => ?_)
  obtain ⟨hp, hph⟩ := hp
  rw [hph] at I
  have hp : r_11 = (rope w (plc w 1) (plc w 0)) := hp
  rw [hp]
  exact g_iret S hr hlk I dX2_out_14 (Nat.le_of_ble_eq_true rfl) (Nat.le_of_ble_eq_true rfl) hQ ⟨_, rfl, rfl, rfl⟩

set_option maxHeartbeats 4000000 in
set_option maxRecDepth 100000 in
theorem met_X2_outWith (l : Launch) (Γ : g_C) (htr : l.stackTraces = false) (ph : g_H) (i : Nat) (ad na : Nat → Nat) (mc : Nat → Int32) (w : m_w) (c p : Int32)  (hW : g_Wl Γ ph i ad na mc w) (hw : WF w) (hT : g_Tr 34 ph) (hc : vp_in c 2) (hp0 : okP w p) : g_Met l yX2_outWith (ws_ yX2_outWith cX2_outWith 3 (some .int)) (g_rm 7 1 5) Γ [.ref (ad 0), .int c, .ref (plA ad p)] ph (g_oi (fun rv_ ph' => rv_ = (ropeTo w c p) ∧ ph' = ph)) g_no := by
  refine g_start (y := yX2_outWith) (cc := cX2_outWith) (maxL := 3) (ret := (some .int)) (rm := g_rm 7 1 5) (by decide) (Nat.le_of_ble_eq_true rfl) ?_
  intro pg e s m A below meth cd ls Q hQ S hr hlk hex hnm hK I hl
  have hx := S.1
  have hb := S.2.1
  have hown := S.2.2.2.1
  have hts := S.2.2.2.2
  have S : CallFix pg m cd cX2_outWith 3 s A lw_all "CrumblingWall$Wall" := S
  have hl : lv_has ls 3 [(0, .ref (ad 0)), (1, .int c), (2, .ref (plA ad p))] := hl
  have hwc := hw.1; have hwl := hw.2.1; have hwa := hw.2.2.1
  refine lv_iload_n hx hb dX2_outWith_0 rfl (lv_at hl 1 rfl) ?_
  refine lv_if_ne (tgt := 17) hx hb dX2_outWith_1 (by decide) (fun c_1 => ?_) (fun c_1 => ?_)
  · refine lv_aload_n hx hb dX2_outWith_17 rfl (lv_at hl 0 rfl) ?_
    refine lv_aload_n hx hb dX2_outWith_18 rfl (lv_at hl 2 rfl) ?_
    refine lv_aload_n hx hb dX2_outWith_19 rfl (lv_at hl 0 rfl) ?_
    refine lv_iconst (v := 0) hx hb dX2_outWith_20 (by decide) ?_
    refine g_cr (g_runV S hK I (As := [.int 0]) (rest := [.ref (plA ad p), .ref (ad 0)]) (met_X2_at l Γ htr ph i ad na mc w 0 hW hw  (vp_lit (by decide))) (cwV 1 hts (lw_V q778 q779 q780 q121 q781) rfl rfl rfl (by decide +kernel) ⟨Nat.le_of_ble_eq_true rfl, Nat.le_of_ble_eq_true rfl⟩) (g_recv hK I (g_at.of hW.o0) (ci := 1) rfl) rfl hl.1 rfl (Nat.le_of_ble_eq_true rfl) dX2_outWith_21 ⟨Nat.le_of_ble_eq_true rfl, Nat.le_of_ble_eq_true rfl⟩) I (fun r_21 ph1 H locs hp I => ?_)
    obtain ⟨hp, hph⟩ := hp
    rw [hph] at I
    have hp : r_21 = (plA ad (plc w 0)) := hp
    rw [hp]
    refine g_ci (g_runV S hK I (As := [.ref (plA ad p), .ref (plA ad (plc w 0))]) (rest := []) (met_X2_out_2 l Γ htr ph i ad na mc w p (plc w 0) hW hw hT hp0 (hw.pl (c := 0) (vp_lit (by decide)))) (cwV 2 hts (lw_V q885 q887 qs4 q121 q888) rfl rfl rfl (by decide +kernel) ⟨Nat.le_of_ble_eq_true rfl, Nat.le_of_ble_eq_true rfl⟩) (g_recv hK I (g_at.of hW.o0) (ci := 1) rfl) rfl hl.1 rfl (Nat.le_of_ble_eq_true rfl) dX2_outWith_24 ⟨Nat.le_of_ble_eq_true rfl, Nat.le_of_ble_eq_true rfl⟩) I (fun r_24 ph1 H locs hp I => ?_)
    obtain ⟨hp, hph⟩ := hp
    rw [hph] at I
    have hp : r_24 = (rope w p (plc w 0)) := hp
    rw [hp]
    exact g_iret S hr hlk I dX2_outWith_27 (Nat.le_of_ble_eq_true rfl) (Nat.le_of_ble_eq_true rfl) hQ ⟨_, rfl, (if_neg c_1).symm, rfl⟩
  · refine lv_aload_n hx hb dX2_outWith_4 rfl (lv_at hl 0 rfl) ?_
    refine lv_aload_n hx hb dX2_outWith_5 rfl (lv_at hl 0 rfl) ?_
    refine lv_iconst (v := 1) hx hb dX2_outWith_6 (by decide) ?_
    refine g_cr (g_runV S hK I (As := [.int 1]) (rest := [.ref (ad 0)]) (met_X2_at l Γ htr ph i ad na mc w 1 hW hw  (vp_lit (by decide))) (cwV 1 hts (lw_V q778 q779 q780 q121 q781) rfl rfl rfl (by decide +kernel) ⟨Nat.le_of_ble_eq_true rfl, Nat.le_of_ble_eq_true rfl⟩) (g_recv hK I (g_at.of hW.o0) (ci := 1) rfl) rfl hl.1 rfl (Nat.le_of_ble_eq_true rfl) dX2_outWith_7 ⟨Nat.le_of_ble_eq_true rfl, Nat.le_of_ble_eq_true rfl⟩) I (fun r_7 ph1 H locs hp I => ?_)
    obtain ⟨hp, hph⟩ := hp
    rw [hph] at I
    have hp : r_7 = (plA ad (plc w 1)) := hp
    rw [hp]
    refine lv_aload_n hx hb dX2_outWith_10 rfl (lv_at hl 2 rfl) ?_
    refine g_ci (g_runV S hK I (As := [.ref (plA ad (plc w 1)), .ref (plA ad p)]) (rest := []) (met_X2_out_2 l Γ htr ph i ad na mc w (plc w 1) p hW hw hT (hw.pl (c := 1) (vp_lit (by decide))) hp0) (cwV 2 hts (lw_V q885 q887 qs4 q121 q888) rfl rfl rfl (by decide +kernel) ⟨Nat.le_of_ble_eq_true rfl, Nat.le_of_ble_eq_true rfl⟩) (g_recv hK I (g_at.of hW.o0) (ci := 1) rfl) rfl hl.1 rfl (Nat.le_of_ble_eq_true rfl) dX2_outWith_11 ⟨Nat.le_of_ble_eq_true rfl, Nat.le_of_ble_eq_true rfl⟩) I (fun r_11 ph1 H locs hp I => ?_)
    obtain ⟨hp, hph⟩ := hp
    rw [hph] at I
    have hp : r_11 = (rope w (plc w 1) p) := hp
    rw [hp]
    refine lv_goto (tgt := 27) hx hb dX2_outWith_14 (by decide) ?_
    exact g_iret S hr hlk I dX2_outWith_27 (Nat.le_of_ble_eq_true rfl) (Nat.le_of_ble_eq_true rfl) hQ ⟨_, rfl, (if_pos c_1).symm, rfl⟩


/-! A WALL IS COPIED -/
set_option maxRecDepth 100000
theorem ho_of {ph : g_H} {J i a : Nat} {w : m_w} (hw : WF w) {k : Nat} (hk : k < nN w) (h : ph J i a = some (hoW w k)) : hoO ph J i a (w (1 + 5 * k + 2)) := by
  obtain ⟨-, -, q, hq, e⟩ := hw.2.2.2.2.1 k hk
  unfold hoW hoE at h
  rw [e] at h ⊢
  refine ⟨[.int (nI k), .int (w (1 + 5 * k)), .int (w (1 + 5 * k + 1)), .int (w (1 + 5 * k + 3)), .int (w (1 + 5 * k + 4))], ?_⟩
  rcases (show q = 0 ∨ q = 1 ∨ q = 2 ∨ q = 3 by omega) with rfl | rfl | rfl | rfl
  · exact Or.inl ⟨rfl, h⟩
  · exact Or.inr (Or.inl ⟨rfl, h⟩)
  · exact Or.inr (Or.inr (Or.inl ⟨rfl, h⟩))
  · exact Or.inr (Or.inr (Or.inr ⟨rfl, h⟩))
theorem vHW_nN {w : m_w} {k : Nat} (hk : k ≤ 20) : nN (vHW w k) = k ∧ nLa (vHW w k) = 0 ∧ nAn (vHW w k) = 0 := by
  refine ⟨nN_of rfl (by omega), nLa_of (n := 0) ?_ (by decide), nAn_of (n := 0) ?_ (by decide)⟩
  · rw [vHW_n (by decide) (by decide) hk]; rfl
  · rw [vHW_n (by decide) (by decide) hk]; rfl
theorem vLW_nL {w : m_w} {k : Nat} (hN : nN w ≤ 20) (hk : k ≤ 4) : nN (vLW w k) = nN w ∧ nLa (vLW w k) = k ∧ nAn (vLW w k) = 0 := by
  refine ⟨nN_of ?_ (by omega), nLa_of rfl (by omega), nAn_of (n := 0) ?_ (by decide)⟩
  · rw [vLW_n (by decide) hk]; rfl
  · rw [vLW_n (by decide) hk, vHW_n (by decide) (by decide) hN]; rfl
theorem vAW_nA {w : m_w} {k : Nat} (hN : nN w ≤ 20) (hL : nLa w ≤ 4) (hk : k ≤ 8) : nN (vAW w k) = nN w ∧ nLa (vAW w k) = nLa w ∧ nAn (vAW w k) = k := by
  refine ⟨nN_of ?_ (by omega), nLa_of ?_ (by omega), nAn_of rfl (by omega)⟩
  · rw [vAW_n (by decide) hk, vLW_n (by decide) hL]; rfl
  · rw [vAW_n (by decide) hk]; rfl
theorem vAW_it {Γ : g_C} {w : m_w} {n k : Nat} (hk : k < n + 1) : va_up (anI Γ (vAW w n)) n (g_bx Γ (w (132 + n)).toNatClampNeg) k = anI Γ (vAW w (n + 1)) k := by
  unfold va_up anI
  have e : vAW w (n + 1) (132 + k) = w (132 + k) := by unfold vAW; rw [if_neg (by omega), if_pos (by omega)]
  rw [e]
  by_cases h : k = n
  · subst h; rw [if_pos rfl]
  · rw [if_neg h, show vAW w n (132 + k) = w (132 + k) from by unfold vAW; rw [if_neg (by omega), if_pos (by omega)]]
/-- with the forces, too -/
def vFW (w : m_w) : m_w := fun j => if 146 ≤ j ∧ j < 162 then w j else vAW w (nAn w) j
theorem vFW_n {w : m_w} {j : Nat} (h : j < 146) : vFW w j = vAW w (nAn w) j := if_neg (by omega)
theorem vF_foF {w : m_w} {g : Nat → UInt32} (hg : ∀ k, 16 ≤ k → g k = 0) : va_cpy (foF w) g 0 0 16 = foF (vFW w) := by
  funext k
  unfold va_cpy foF
  by_cases h : k < 16
  · rw [if_pos (by omega), if_pos (by omega), if_pos h, show 0 + (k - 0) = k by omega]
    unfold vFW
    rw [if_pos (by omega)]
  · rw [if_neg (by omega), if_neg h, hg k (by omega)]
theorem vA_wf {w : m_w} (hw : WF w) : WF (vAW w (nAn w)) := hw.like (vA_e hw).1 (vA_e hw).2.1 (vA_e hw).2.2.1 (vA_e hw).2.2.2 ⟨0, by decide, vA_145 hw (by decide)⟩
theorem vF_wf {w : m_w} (hw : WF w) {x : Int32} (hx : ∃ n, n ≤ 16 ∧ x = nI n) : WF (upd (vFW w) 145 x) := by
  have b1 := hw.1.2; have b2 := hw.2.1.2; have b3 := hw.2.2.1.2
  have e := vA_e hw
  refine hw.like (fun j hj => ?_) (fun k hk t ht => ?_) (fun k hk t ht => ?_) (fun k hk => ?_) ⟨_, hx.choose_spec.1, by rw [upd_s]; exact hx.choose_spec.2⟩
  · rw [upd_n (by omega), vFW_n (by omega)]; exact e.1 j hj
  · rw [upd_n (by omega), vFW_n (by omega)]; exact e.2.1 k hk t ht
  · rw [upd_n (by omega), vFW_n (by omega)]; exact e.2.2.1 k hk t ht
  · rw [upd_n (by omega), vFW_n (by omega)]; exact e.2.2.2 k hk
/-- the fields, one behind the other -/
def vCW (w : m_w) : m_w := upd (upd (upd (upd (upd (upd (upd (upd (upd (vFW w) 145 (w 145)) 101 (w 101)) 102 (w 102)) 103 (w 103)) 140 (w 140)) 141 (w 141)) 142 (w 142)) 143 (w 143)) 144 (w 144)
theorem vC_e {w : m_w} (hw : WF w) {j : Nat} (h : (101 ≤ j ∧ j ≤ 103) ∨ (140 ≤ j ∧ j < 162)) : vCW w j = w j := by
  unfold vCW upd vFW
  by_cases h1 : j = 144; · rw [if_pos h1, h1]
  rw [if_neg h1]; by_cases h1 : j = 143; · rw [if_pos h1, h1]
  rw [if_neg h1]; by_cases h1 : j = 142; · rw [if_pos h1, h1]
  rw [if_neg h1]; by_cases h1 : j = 141; · rw [if_pos h1, h1]
  rw [if_neg h1]; by_cases h1 : j = 140; · rw [if_pos h1, h1]
  rw [if_neg h1]; by_cases h1 : j = 103; · rw [if_pos h1, h1]
  rw [if_neg h1]; by_cases h1 : j = 102; · rw [if_pos h1, h1]
  rw [if_neg h1]; by_cases h1 : j = 101; · rw [if_pos h1, h1]
  rw [if_neg h1]; by_cases h1 : j = 145; · rw [if_pos h1, h1]
  rw [if_neg h1, if_pos (by omega)]
theorem vC_n {w : m_w} {j : Nat} (h : j < 101 ∨ (104 ≤ j ∧ j < 140)) : vCW w j = vAW w (nAn w) j := by
  unfold vCW
  rw [upd_n (by omega), upd_n (by omega), upd_n (by omega), upd_n (by omega), upd_n (by omega), upd_n (by omega), upd_n (by omega), upd_n (by omega), upd_n (by omega), vFW_n (by omega)]
/-- the copy is a wall of the same row -/
theorem g_Wl.done {Γ : g_C} {ph : g_H} {i : Nat} {ad na : Nat → Nat} {mc : Nat → Int32} {w : m_w} (hw : WF w) (h : g_Wl Γ ph i ad na mc (vCW w)) : g_Wl Γ ph i ad na mc w := by
  have b1 := hw.1.2; have b2 := hw.2.1.2; have b3 := hw.2.2.1.2
  have e := vA_e hw
  have a1 : ∀ j, j = 0 ∨ (101 ≤ j ∧ j ≤ 104) ∨ (125 ≤ j ∧ j ≤ 131) ∨ (140 ≤ j ∧ j < 162) → w j = vCW w j := fun j hj => by
    by_cases z : (101 ≤ j ∧ j ≤ 103) ∨ (140 ≤ j ∧ j < 162)
    · exact (vC_e hw z).symm
    · rw [vC_n (by omega)]; exact (e.1 j (by omega)).symm
  have nn : nN (vCW w) = nN w := nN_eq (a1 0 (by omega)).symm
  have nl : nLa (vCW w) = nLa w := nLa_eq (a1 104 (by omega)).symm
  have nan : nAn (vCW w) = nAn w := nAn_eq (a1 131 (by omega)).symm
  refine h.rowU a1 (fun k hk t ht => ?_) (fun k hk t ht => ?_) (fun k hk => ?_)
  · rw [nn] at hk
    rw [vC_n (by omega)]; exact (e.2.1 k hk t ht).symm
  · rw [nl] at hk
    rw [vC_n (by omega)]; exact (e.2.2.1 k hk t ht).symm
  · rw [nan] at hk
    rw [vC_n (by omega)]; exact (e.2.2.2 k hk).symm
set_option maxHeartbeats 4000000 in
set_option maxRecDepth 100000 in
theorem met_X2_copy (l : Launch) (Γ : g_C) (htr : l.stackTraces = false) (ph : g_H) (i : Nat) (ad na : Nat → Nat) (mc : Nat → Int32) (w : m_w) (i2 : Nat)  (hW : g_Wl Γ ph i ad na mc w) (hw : WF w) (hT : g_Tr 34 ph) (him : i2 ≠ i) (hi2 : i2 ≠ 0) : g_Met l yX2_copy (ws_ yX2_copy cX2_copy 3 (some (.object "CrumblingWall$Wall"))) (g_rm 7 44 230) Γ [.ref (ad 0)] ph (g_or (fun rv_ ph' => ∃ ad' na' mc', ad' 0 = rv_ ∧ g_Wl Γ ph' i2 ad' na' mc' w ∧ g_frR i2 ph ph')) g_no := by
  refine g_start (y := yX2_copy) (cc := cX2_copy) (maxL := 3) (ret := (some (.object "CrumblingWall$Wall"))) (rm := g_rm 7 44 230) (by decide) (Nat.le_of_ble_eq_true rfl) ?_
  intro pg e s m A below meth cd ls Q hQ S hr hlk hex hnm hK I hl
  have hx := S.1
  have hb := S.2.1
  have hown := S.2.2.2.1
  have hts := S.2.2.2.2
  have S : CallFix pg m cd cX2_copy 3 s A lw_all "CrumblingWall$Wall" := S
  have hl : lv_has ls 3 [(0, .ref (ad 0))] := hl
  have hwc := hw.1; have hwl := hw.2.1; have hwa := hw.2.2.1
  have hW0 := hW
  have hG : g_frR i2 ph ph := g_frR.refl i2 ph
  refine g_new S hK I 100 i2 k_X2 q1382 q200 q121 (fs := [.null, .null, .null, .null, .null, .null, .int 0, .int 0, .int 0, .int 0, .int 0, .int 0, .int 0, .int 0, .int 0]) (by decide) (Nat.le_of_ble_eq_true rfl) (Nat.le_of_ble_eq_true rfl) dX2_copy_0 (fun q H hfq I => ?_)
  have I : g_I Γ (gput ph 100 i2 q (.inr (1, [.null, .null, .null, .null, .null, .null, .int 0, .int 0, .int 0, .int 0, .int 0, .int 0, .int 0, .int 0, .int 0]))) s _ _ := I
  have hW : g_Wl Γ (gput ph 100 i2 q (.inr (1, [.null, .null, .null, .null, .null, .null, .int 0, .int 0, .int 0, .int 0, .int 0, .int 0, .int 0, .int 0, .int 0]))) i ad na mc w := hW.putI him
  have hc_q : (gput ph 100 i2 q (.inr (1, [.null, .null, .null, .null, .null, .null, .int 0, .int 0, .int 0, .int 0, .int 0, .int 0, .int 0, .int 0, .int 0]))) 100 i2 q = some (.inr (1, [.null, .null, .null, .null, .null, .null, .int 0, .int 0, .int 0, .int 0, .int 0, .int 0, .int 0, .int 0, .int 0])) := (gput_self _ _ _ _ _)
  have hG : g_frR i2 ph (gput ph 100 i2 q (.inr (1, [.null, .null, .null, .null, .null, .null, .int 0, .int 0, .int 0, .int 0, .int 0, .int 0, .int 0, .int 0, .int 0]))) := hG.trans g_frR.put
  generalize gput ph 100 i2 q (.inr (1, [.null, .null, .null, .null, .null, .null, .int 0, .int 0, .int 0, .int 0, .int 0, .int 0, .int 0, .int 0, .int 0])) = P_1 at I hG hW hc_q
  refine lv_dup hx hb dX2_copy_3 rfl ?_
  refine lv_aload_n hx hb dX2_copy_4 rfl (lv_at hl 0 rfl) ?_
  refine g_get S hK I k_X2 (v := .ref (ad 6)) (g_at.of hW.o0) 3 (by decide) q650 rfl rfl dX2_copy_5 ?_
  refine lv_iconst (v := 0) hx hb dX2_copy_8 (by decide) ?_
  have hne : ad 11 ≠ g_c Γ 257 := fun z => by have h1 := I.1.ge (hW.cl (c := 1) (by decide)); have h2 := hK.2.2.2.2.2.2.2 257 (Nat.le_refl _); rw [show ad (10 + 1) = ad 11 from rfl, z] at h1; omega
  refine g_cFr (g_runF S hK I (As := [.int 0]) (rest := [.ref q, .ref q]) (met_J4_get l Γ P_1 106 i (ad 6) (ad 10) (ad 11) 0 hW.o6 (Or.inl rfl) hne) (ci := 20) rfl (va_cwF 1 hts (lw_F q787 q807 q809 q127 q811) rfl rfl rfl (hK.F 2 rfl) (by decide +kernel) ⟨Nat.le_of_ble_eq_true rfl, Nat.le_of_ble_eq_true rfl⟩) (g_recv hK I (g_at.of hW.o6) (ci := 20) rfl) rfl hl.1 rfl (Nat.le_of_ble_eq_true rfl) dX2_copy_9 ⟨by dsimp only [g_rm]; omega, by dsimp only [g_rm]; omega⟩) I (fun r_9 ph1 H locs hp I => ?_)
  obtain ⟨hp, hph⟩ := hp
  rw [hph] at I
  have hp : r_9 = ad (10 + 0) := hp
  rw [hp]
  refine g_castS S hK (ci := 2) rfl q204 (g_recv hK I (g_at.of (hW.cl (c := 0) (by decide))) (ci := 2) rfl) dX2_copy_14 ?_
  refine g_cr (g_runV S hK I (As := []) (rest := [.ref q, .ref q]) (met_X3_copy l Γ htr P_1 i ad na mc w 0 110 i2 hW hw (by decide) him) (cwV 0 hts (lw_V q1383 q1384 q1385 q122 q1386) rfl rfl rfl (by decide +kernel) ⟨Nat.le_of_ble_eq_true rfl, Nat.le_of_ble_eq_true rfl⟩) (g_recv hK I (g_at.of (hW.cl (c := 0) (by omega))) (ci := 2) rfl) rfl hl.1 rfl (Nat.le_of_ble_eq_true rfl) dX2_copy_17 ⟨by dsimp only [g_rm]; omega, by dsimp only [g_rm]; omega⟩) I (fun c0 ph1 H locs hp I => ?_)
  obtain ⟨hn1, hg9⟩ := hp
  have hW : g_Wl Γ ph1 i ad na mc w := hW.fr (g_frR.of hg9 (by simp)) (Ne.symm him)
  have hc_q : ph1 100 i2 q = some (.inr (1, [.null, .null, .null, .null, .null, .null, .int 0, .int 0, .int 0, .int 0, .int 0, .int 0, .int 0, .int 0, .int 0])) := by rw [hg9 100 i2 (by simp)]; exact hc_q
  have hc_c0 : ph1 110 i2 c0 = some (clW w 0) := hn1
  have hG : g_frR i2 ph ph1 := hG.trans (g_frR.of hg9 (by simp))
  generalize ph1 = P_2 at I hG hW hc_q hc_c0
  refine lv_aload_n hx hb dX2_copy_20 rfl (lv_at hl 0 rfl) ?_
  refine g_get S hK I k_X2 (v := .ref (ad 6)) (g_at.of hW.o0) 3 (by decide) q650 rfl rfl dX2_copy_21 ?_
  refine lv_iconst (v := 1) hx hb dX2_copy_24 (by decide) ?_
  have hne : ad 11 ≠ g_c Γ 257 := fun z => by have h1 := I.1.ge (hW.cl (c := 1) (by decide)); have h2 := hK.2.2.2.2.2.2.2 257 (Nat.le_refl _); rw [show ad (10 + 1) = ad 11 from rfl, z] at h1; omega
  refine g_cFr (g_runF S hK I (As := [.int 1]) (rest := [.ref c0, .ref q, .ref q]) (met_J4_get l Γ P_2 106 i (ad 6) (ad 10) (ad 11) 1 hW.o6 (Or.inr rfl) hne) (ci := 20) rfl (va_cwF 1 hts (lw_F q787 q807 q809 q127 q811) rfl rfl rfl (hK.F 2 rfl) (by decide +kernel) ⟨Nat.le_of_ble_eq_true rfl, Nat.le_of_ble_eq_true rfl⟩) (g_recv hK I (g_at.of hW.o6) (ci := 20) rfl) rfl hl.1 rfl (Nat.le_of_ble_eq_true rfl) dX2_copy_25 ⟨by dsimp only [g_rm]; omega, by dsimp only [g_rm]; omega⟩) I (fun r_25 ph1 H locs hp I => ?_)
  obtain ⟨hp, hph⟩ := hp
  rw [hph] at I
  have hp : r_25 = ad (10 + 1) := hp
  rw [hp]
  refine g_castS S hK (ci := 2) rfl q204 (g_recv hK I (g_at.of (hW.cl (c := 1) (by decide))) (ci := 2) rfl) dX2_copy_30 ?_
  refine g_cr (g_runV S hK I (As := []) (rest := [.ref c0, .ref q, .ref q]) (met_X3_copy l Γ htr P_2 i ad na mc w 1 111 i2 hW hw (by decide) him) (cwV 0 hts (lw_V q1383 q1384 q1385 q122 q1386) rfl rfl rfl (by decide +kernel) ⟨Nat.le_of_ble_eq_true rfl, Nat.le_of_ble_eq_true rfl⟩) (g_recv hK I (g_at.of (hW.cl (c := 1) (by omega))) (ci := 2) rfl) rfl hl.1 rfl (Nat.le_of_ble_eq_true rfl) dX2_copy_33 ⟨by dsimp only [g_rm]; omega, by dsimp only [g_rm]; omega⟩) I (fun c1 ph1 H locs hp I => ?_)
  obtain ⟨hn1, hg9⟩ := hp
  have hW : g_Wl Γ ph1 i ad na mc w := hW.fr (g_frR.of hg9 (by simp)) (Ne.symm him)
  have hc_q : ph1 100 i2 q = some (.inr (1, [.null, .null, .null, .null, .null, .null, .int 0, .int 0, .int 0, .int 0, .int 0, .int 0, .int 0, .int 0, .int 0])) := by rw [hg9 100 i2 (by simp)]; exact hc_q
  have hc_c0 : ph1 110 i2 c0 = some (clW w 0) := by rw [hg9 110 i2 (by simp)]; exact hc_c0
  have hc_c1 : ph1 111 i2 c1 = some (clW w 1) := hn1
  have hG : g_frR i2 ph ph1 := hG.trans (g_frR.of hg9 (by simp))
  generalize ph1 = P_3 at I hG hW hc_q hc_c0 hc_c1
  refine g_cr (g_runS S hK I (As := [.ref c0, .ref c1]) (rest := [.ref q, .ref q]) (met_J0_of l Γ P_3 106 i2 c0 c1) (va_cwS 2 hts (lw_S q229 q230 q123 q231) rfl rfl rfl (by decide +kernel) ⟨Nat.le_of_ble_eq_true rfl, Nat.le_of_ble_eq_true rfl⟩) rfl hl.1 rfl (Nat.le_of_ble_eq_true rfl) dX2_copy_36 ⟨by dsimp only [g_rm]; omega, by dsimp only [g_rm]; omega⟩) I (fun q6 ph1 H locs hp I => ?_)
  obtain ⟨hn1, hg9⟩ := hp
  have hW : g_Wl Γ ph1 i ad na mc w := hW.fr (g_frR.of hg9 (by simp)) (Ne.symm him)
  have hc_q : ph1 100 i2 q = some (.inr (1, [.null, .null, .null, .null, .null, .null, .int 0, .int 0, .int 0, .int 0, .int 0, .int 0, .int 0, .int 0, .int 0])) := by rw [hg9 100 i2 (by simp)]; exact hc_q
  have hc_c0 : ph1 110 i2 c0 = some (clW w 0) := by rw [hg9 110 i2 (by simp)]; exact hc_c0
  have hc_c1 : ph1 111 i2 c1 = some (clW w 1) := by rw [hg9 111 i2 (by simp)]; exact hc_c1
  have hc_q6 : ph1 106 i2 q6 = some (.inr (20, [.ref c0, .ref c1])) := hn1
  have hG : g_frR i2 ph ph1 := hG.trans (g_frR.of hg9 (by simp))
  generalize ph1 = P_4 at I hG hW hc_q hc_c0 hc_c1 hc_q6
  refine g_cv (g_runI S hK I (As := [.ref q6]) (rest := [.ref q]) (met_X2_init_2 l Γ P_4 i2 q q6 c0 c1 w hi2 hc_q hc_q6 hc_c0 hc_c1) (cwI 1 hts (lw_meth q259) rfl rfl rfl (hts _ q121) (hts _ q257) (hts _ q258) rfl (by decide +kernel) ⟨Nat.le_of_ble_eq_true rfl, Nat.le_of_ble_eq_true rfl⟩) rfl hl.1 rfl (Nat.le_of_ble_eq_true rfl) dX2_copy_39 ⟨by dsimp only [g_rm]; omega, by dsimp only [g_rm]; omega⟩) I (fun ph1 H locs hp I => ?_)
  obtain ⟨ad0, na0, mc0, he, hV, hg9⟩ := hp
  have hG : g_frR i2 ph ph1 := hG.trans hg9
  have hW : g_Wl Γ ph1 i ad na mc w := hW.fr hg9 (Ne.symm him)
  rw [← v_00] at hV
  generalize ph1 = P0_ at I hW hV hG
  refine lv_astore_n (lv' := [(1, .ref q), (0, .ref (ad 0))]) hx hb dX2_copy_42 rfl hl (by decide) rfl (fun ls hl => ?_)
  refine lv_iconst (v := 0) hx hb dX2_copy_43 (by decide) ?_
  refine lv_istore_n (lv' := [(2, .int 0), (1, .ref q), (0, .ref (ad 0))]) hx hb dX2_copy_44 rfl hl (by decide) rfl (fun ls hl => ?_)
  have L_45 : ∀ (d : Nat) (k : Nat) (P9 : g_H) (ad2 : Nat → Nat) (na2 : Nat → Nat) (mc2 : Nat → Int32), (hk : k ≤ nN w) → (hV : g_Wl Γ P9 i2 ad2 na2 mc2 (vHW w k)) → (he : ad2 0 = q) → (hG : g_frR i2 ph P9) → nN w - k < d → ∀ (H : Heap) (locs : List Loc) (ls : Array Slot), g_I Γ P9 s H locs → lv_has ls 3 [(0, .ref (ad 0)), (1, .ref q), (2, .int (nI k))] → W pg l e (g_rm 7 44 230) s m A below meth cd H locs (11 + k) (75 + 5 * k) Q (F0 m 45 ls []) := by
    intro d
    induction d with
    | zero => intro k P9 ad2 na2 mc2 hk hV he hG hd; exact absurd hd (Nat.not_lt_zero _)
    | succ d ih =>
      intro k P9 ad2 na2 mc2 hk hV he hG hd H locs ls I hl
      have hW := hW0.fr hG (Ne.symm him)
      refine lv_iload_n hx hb dX2_copy_45 rfl (lv_at hl 2 rfl) ?_
      refine lv_aload_n hx hb dX2_copy_46 rfl (lv_at hl 0 rfl) ?_
      refine g_get S hK I k_X2 (v := .ref (ad 1)) (g_at.of hW.o0) 0 (by decide) q643 rfl rfl dX2_copy_47 ?_
      refine g_ci (g_runV S hK I (As := []) (rest := [.int (nI k)]) (met_J7_size l Γ P9 101 i (ad 1) (ad 2) (mc 1) (w 0) hW.o1) (cwV 0 hts (lw_V q1353 q994 q3516 q130 q995) rfl rfl rfl (by decide +kernel) ⟨Nat.le_of_ble_eq_true rfl, Nat.le_of_ble_eq_true rfl⟩) (g_recv hK I (g_at.of hW.o1) (ci := 21) rfl) rfl hl.1 rfl (Nat.le_of_ble_eq_true rfl) dX2_copy_50 ⟨by dsimp only [g_rm]; omega, by dsimp only [g_rm]; omega⟩) I (fun r_50 ph1 H locs hp I => ?_)
      obtain ⟨hp, hph⟩ := hp
      rw [hph] at I
      have hp : r_50 = (w 0) := hp
      rw [hp, show (w 0) = (nI (nN w)) from hw.1.1]
      refine lv_icmp_ge (tgt := 84) hx hb dX2_copy_53 (by decide) (fun c_53 => ?_) (fun c_53 => ?_)
      · have n_53 := Int32.not_lt.mpr c_53
        obtain rfl : k = nN w := by rw [nI_leI (by omega) (by omega)] at c_53; omega
        refine W.widen (k := 31) (n := 175) (by dsimp only [g_rm]; omega) (by dsimp only [g_rm]; omega) ?_
        refine lv_iconst (v := 0) hx hb dX2_copy_84 (by decide) ?_
        refine lv_istore_n (lv' := [(2, .int 0), (0, .ref (ad 0)), (1, .ref q)]) hx hb dX2_copy_85 rfl hl (by decide) rfl (fun ls hl => ?_)
        have L_86 : ∀ (d : Nat) (k : Nat) (P9 : g_H) (ad2 : Nat → Nat) (na2 : Nat → Nat) (mc2 : Nat → Int32), (hk : k ≤ nLa w) → (hV : g_Wl Γ P9 i2 ad2 na2 mc2 (vLW w k)) → (he : ad2 0 = q) → (hG : g_frR i2 ph P9) → nLa w - k < d → ∀ (H : Heap) (locs : List Loc) (ls : Array Slot), g_I Γ P9 s H locs → lv_has ls 3 [(0, .ref (ad 0)), (1, .ref q), (2, .int (nI k))] → W pg l e (g_rm 7 44 230) s m A below meth cd H locs (31 + k) (175 + 5 * k) Q (F0 m 86 ls []) := by
          intro d
          induction d with
          | zero => intro k P9 ad2 na2 mc2 hk hV he hG hd; exact absurd hd (Nat.not_lt_zero _)
          | succ d ih =>
            intro k P9 ad2 na2 mc2 hk hV he hG hd H locs ls I hl
            have hW := hW0.fr hG (Ne.symm him)
            refine lv_iload_n hx hb dX2_copy_86 rfl (lv_at hl 2 rfl) ?_
            refine lv_aload_n hx hb dX2_copy_87 rfl (lv_at hl 0 rfl) ?_
            refine g_get S hK I k_X2 (v := .ref (ad 3)) (g_at.of hW.o0) 1 (by decide) q646 rfl rfl dX2_copy_88 ?_
            refine g_ci (g_runV S hK I (As := []) (rest := [.int (nI k)]) (met_J7_size l Γ P9 103 i (ad 3) (ad 4) (mc 2) (w 104) hW.o3) (cwV 0 hts (lw_V q1353 q994 q3516 q130 q995) rfl rfl rfl (by decide +kernel) ⟨Nat.le_of_ble_eq_true rfl, Nat.le_of_ble_eq_true rfl⟩) (g_recv hK I (g_at.of hW.o3) (ci := 21) rfl) rfl hl.1 rfl (Nat.le_of_ble_eq_true rfl) dX2_copy_91 ⟨by dsimp only [g_rm]; omega, by dsimp only [g_rm]; omega⟩) I (fun r_91 ph1 H locs hp I => ?_)
            obtain ⟨hp, hph⟩ := hp
            rw [hph] at I
            have hp : r_91 = (w 104) := hp
            rw [hp, show (w 104) = (nI (nLa w)) from hw.2.1.1]
            refine lv_icmp_ge (tgt := 125) hx hb dX2_copy_94 (by decide) (fun c_94 => ?_) (fun c_94 => ?_)
            · have n_94 := Int32.not_lt.mpr c_94
              obtain rfl : k = nLa w := by rw [nI_leI (by omega) (by omega)] at c_94; omega
              refine W.widen (k := 35) (n := 195) (by dsimp only [g_rm]; omega) (by dsimp only [g_rm]; omega) ?_
              refine lv_aload_n hx hb dX2_copy_125 rfl (lv_at hl 0 rfl) ?_
              refine g_get S hK I k_X2 (v := .ref (ad 5)) (g_at.of hW.o0) 2 (by decide) q648 rfl rfl dX2_copy_126 ?_
              refine g_cr (g_runU S hK I (As := []) (rest := []) (met_J23_iterator l Γ P9 105 i (ad 5) 200 (nAn w) na (anI Γ w) (mc 0) 30 0 hW.o5 (by omega) (by decide) (by decide)) (g_cwD (n := 0) hts q894 q147 (by decide) (by decide +kernel) q889 q890 (g_declN (hK.N q891 rfl)) q892 q893 ⟨Nat.le_of_ble_eq_true rfl, Nat.le_of_ble_eq_true rfl⟩) (g_recv hK I (g_at.of hW.o5.1) (ci := 24) rfl) rfl hl.1 rfl (Nat.le_of_ble_eq_true rfl) dX2_copy_129 ⟨by dsimp only [g_rm]; omega, by dsimp only [g_rm]; omega⟩) I (fun u ph1 H locs hp I => ?_)
              obtain ⟨hfu, hu9, hg9⟩ := hp
              generalize ph1 = P6 at I hu9 hg9
              have hV := hV.frL hg9 (by simp)
              rw [← v_a0 (by omega) (by omega)] at hV
              have hG : g_frT 34 i2 ph P6 := (g_frT.ofR hG).trans (g_frT.ofL hg9 (by simp))
              refine lv_astore_n (lv' := [(2, .ref u), (0, .ref (ad 0)), (1, .ref q)]) hx hb dX2_copy_132 rfl hl (by decide) rfl (fun ls hl => ?_)
              have L_133 : ∀ (d : Nat) (k : Nat) (P9 : g_H) (ad2 : Nat → Nat) (na2 : Nat → Nat) (mc2 : Nat → Int32) (lr9 : Value), (hk : k ≤ nAn w) → (hV : g_Wl Γ P9 i2 ad2 na2 mc2 (vAW w k)) → (he : ad2 0 = q) → (hG : g_frT 34 i2 ph P9) → (hu9 : P9 30 0 u = some (.inr (26, [lr9, lkK k (nAn w) na, .int (nI k), .int (mc 0), .ref (ad 5)]))) → nAn w - k < d → ∀ (H : Heap) (locs : List Loc) (ls : Array Slot), g_I Γ P9 s H locs → lv_has ls 3 [(0, .ref (ad 0)), (1, .ref q), (2, .ref u)] → W pg l e (g_rm 7 44 230) s m A below meth cd H locs (36 + k) (200 + 3 * k) Q (F0 m 133 ls []) := by
                intro d
                induction d with
                | zero => intro k P9 ad2 na2 mc2 lr9 hk hV he hG hu9 hd; exact absurd hd (Nat.not_lt_zero _)
                | succ d ih =>
                  intro k P9 ad2 na2 mc2 lr9 hk hV he hG hu9 hd H locs ls I hl
                  have hW := hW0.frT hG (Ne.symm him)
                  refine lv_aload_n hx hb dX2_copy_133 rfl (lv_at hl 2 rfl) ?_
                  refine g_cFi (g_runF S hK I (As := []) (rest := []) (met_J32_hasNext l Γ P9 105 i (ad 5) 200 (nAn w) na (anI Γ w) (mc 0) 30 0 u k lr9 hW.o5 hu9 (by omega) (by omega)) (ci := 26) rfl (va_cwF 0 hts (lw_F q982 q1014 q1016 q167 q1018) rfl rfl rfl (hK.F 3 rfl) (by decide +kernel) ⟨Nat.le_of_ble_eq_true rfl, Nat.le_of_ble_eq_true rfl⟩) (g_recv hK I (g_at.of hu9) (ci := 26) rfl) rfl hl.1 rfl (Nat.le_of_ble_eq_true rfl) dX2_copy_134 ⟨by dsimp only [g_rm]; omega, by dsimp only [g_rm]; omega⟩) I (fun r_134 ph1 H locs hp I => ?_)
                  obtain ⟨hp, hph⟩ := hp
                  rw [hph] at I
                  have hp : r_134 = (b2i (decide (k < nAn w))) := hp
                  rw [hp]
                  refine lv_if_eq (tgt := 161) hx hb dX2_copy_139 (by decide) (fun c_139 => ?_) (fun c_139 => ?_)
                  · have p_139 := of_decide_eq_false ((b2i_eq0 _).mp c_139)
                    have c_139 := p_139
                    obtain rfl : k = nAn w := by omega
                    refine W.widen (k := 44) (n := 224) (by dsimp only [g_rm]; omega) (by dsimp only [g_rm]; omega) ?_
                    obtain ⟨P5, I, hV, hG⟩ := hV.empty I hG hT (by decide)
                    have hW := hW0.fr hG (Ne.symm him)
                    have hv := vA_wf hw
                    refine lv_aload_n hx hb dX2_copy_161 rfl (lv_at hl 0 rfl) ?_
                    refine g_get S hK I k_X2 (v := .ref (ad 8)) (g_at.of hW.o0) 5 (by decide) q652 rfl rfl dX2_copy_162 ?_
                    refine lv_iconst (v := 0) hx hb dX2_copy_165 (by decide) ?_
                    refine lv_aload_n hx hb dX2_copy_166 rfl (lv_at hl 1 rfl) ?_
                    refine g_get S hK I k_X2 (v := .ref (ad2 8)) (g_at.of (by rw [← he]; exact hV.o0)) 5 (by decide) q652 rfl rfl dX2_copy_167 ?_
                    refine lv_iconst (v := 0) hx hb dX2_copy_170 (by decide) ?_
                    refine lv_bipush (v := 16) hx hb dX2_copy_171 (by decide) ?_
                    refine g_copyf S hK I hl.1 (sp' := 0) (dp' := 0) (n' := 16) hW.o8 hV.o8 q1625 rfl rfl rfl (by decide) (by decide) (by decide) (by decide) (by decide) (Nat.le_of_ble_eq_true rfl) (Nat.le_of_ble_eq_true rfl) dX2_copy_173 (fun H locs I => ?_)
                    have hV := hV.putf (w' := vFW w) hv (fun j hj => vFW_n hj) (vF_foF (g := foF (vAW w (nAn w))) (fun k hk => if_neg (by omega)))
                    have hG := hG.trans (g_frR.put (i := i2) (j := 108) (q := ad2 8) (e := .inl (g_t Γ 5, 16, .inr (.inr (.inl (va_cpy (foF w) (foF (vAW w (nAn w))) 0 0 16))))))
                    have hW := hW0.fr hG (Ne.symm him)
                    generalize gput P5 108 i2 (ad2 8) (.inl (g_t Γ 5, 16, .inr (.inr (.inl (va_cpy (foF w) (foF (vAW w (nAn w))) 0 0 16))))) = P_5 at I hV hG hW
                    have hv : WF (vFW w) := by have z := vF_wf hw (x := 0) ⟨0, by decide, rfl⟩; rw [upd_same ((vFW_n (by decide)).trans (vA_145 hw (by decide)))] at z; exact z
                    refine lv_aload_n hx hb dX2_copy_176 rfl (lv_at hl 1 rfl) ?_
                    refine lv_aload_n hx hb dX2_copy_177 rfl (lv_at hl 0 rfl) ?_
                    refine g_get S hK I k_X2 (v := .int (w 145)) (g_at.of hW.o0) 6 (by decide) q654 rfl rfl dX2_copy_178 ?_
                    have ho : P_5 100 i2 q = some (.inr (1, [.ref (ad2 1), .ref (ad2 3), .ref (ad2 5), .ref (ad2 6), .ref (ad2 7), .ref (ad2 8), .int ((vFW w) 145), .int ((vFW w) 101), .int ((vFW w) 102), .int ((vFW w) 103), .int ((vFW w) 140), .int ((vFW w) 141), .int ((vFW w) 142), .int ((vFW w) 143), .int ((vFW w) 144)])) := by rw [← he]; exact hV.o0
                    refine g_put S hK I k_X2 (v := .int (w 145)) ho 6 (by decide) q654 rfl rfl rfl rfl (Nat.le_of_ble_eq_true rfl) dX2_copy_181 (fun H locs I => ?_)
                    obtain ⟨P_6, I, hV, hG⟩ : ∃ zz, g_I Γ zz s H locs ∧ g_Wl Γ zz i2 ad2 na2 mc2 (upd (vFW w) 145 (w 145)) ∧ g_frR i2 ph zz := ⟨_, I, (by have z := hV.put_145 hv (v := w 145); rw [he] at z; exact z), hG.trans g_frR.put⟩
                    have hW := hW0.fr hG (Ne.symm him)
                    have hv : WF (upd (vFW w) 145 (w 145)) := vF_wf hw ⟨nFo w, hw.2.2.2.1.2, hw.2.2.2.1.1⟩
                    refine lv_aload_n hx hb dX2_copy_184 rfl (lv_at hl 1 rfl) ?_
                    refine lv_aload_n hx hb dX2_copy_185 rfl (lv_at hl 0 rfl) ?_
                    refine g_get S hK I k_X2 (v := .int (w 101)) (g_at.of hW.o0) 7 (by decide) q656 rfl rfl dX2_copy_186 ?_
                    have ho : P_6 100 i2 q = some (.inr (1, [.ref (ad2 1), .ref (ad2 3), .ref (ad2 5), .ref (ad2 6), .ref (ad2 7), .ref (ad2 8), .int ((upd (vFW w) 145 (w 145)) 145), .int ((upd (vFW w) 145 (w 145)) 101), .int ((upd (vFW w) 145 (w 145)) 102), .int ((upd (vFW w) 145 (w 145)) 103), .int ((upd (vFW w) 145 (w 145)) 140), .int ((upd (vFW w) 145 (w 145)) 141), .int ((upd (vFW w) 145 (w 145)) 142), .int ((upd (vFW w) 145 (w 145)) 143), .int ((upd (vFW w) 145 (w 145)) 144)])) := by rw [← he]; exact hV.o0
                    refine g_put S hK I k_X2 (v := .int (w 101)) ho 7 (by decide) q656 rfl rfl rfl rfl (Nat.le_of_ble_eq_true rfl) dX2_copy_189 (fun H locs I => ?_)
                    obtain ⟨P_7, I, hV, hG⟩ : ∃ zz, g_I Γ zz s H locs ∧ g_Wl Γ zz i2 ad2 na2 mc2 (upd (upd (vFW w) 145 (w 145)) 101 (w 101)) ∧ g_frR i2 ph zz := ⟨_, I, (by have z := hV.put_101 hv (v := w 101); rw [he] at z; exact z), hG.trans g_frR.put⟩
                    have hW := hW0.fr hG (Ne.symm him)
                    have hv : WF (upd (upd (vFW w) 145 (w 145)) 101 (w 101)) := hv.any (by omega)
                    refine lv_aload_n hx hb dX2_copy_192 rfl (lv_at hl 1 rfl) ?_
                    refine lv_aload_n hx hb dX2_copy_193 rfl (lv_at hl 0 rfl) ?_
                    refine g_get S hK I k_X2 (v := .int (w 102)) (g_at.of hW.o0) 8 (by decide) q658 rfl rfl dX2_copy_194 ?_
                    have ho : P_7 100 i2 q = some (.inr (1, [.ref (ad2 1), .ref (ad2 3), .ref (ad2 5), .ref (ad2 6), .ref (ad2 7), .ref (ad2 8), .int ((upd (upd (vFW w) 145 (w 145)) 101 (w 101)) 145), .int ((upd (upd (vFW w) 145 (w 145)) 101 (w 101)) 101), .int ((upd (upd (vFW w) 145 (w 145)) 101 (w 101)) 102), .int ((upd (upd (vFW w) 145 (w 145)) 101 (w 101)) 103), .int ((upd (upd (vFW w) 145 (w 145)) 101 (w 101)) 140), .int ((upd (upd (vFW w) 145 (w 145)) 101 (w 101)) 141), .int ((upd (upd (vFW w) 145 (w 145)) 101 (w 101)) 142), .int ((upd (upd (vFW w) 145 (w 145)) 101 (w 101)) 143), .int ((upd (upd (vFW w) 145 (w 145)) 101 (w 101)) 144)])) := by rw [← he]; exact hV.o0
                    refine g_put S hK I k_X2 (v := .int (w 102)) ho 8 (by decide) q658 rfl rfl rfl rfl (Nat.le_of_ble_eq_true rfl) dX2_copy_197 (fun H locs I => ?_)
                    obtain ⟨P_8, I, hV, hG⟩ : ∃ zz, g_I Γ zz s H locs ∧ g_Wl Γ zz i2 ad2 na2 mc2 (upd (upd (upd (vFW w) 145 (w 145)) 101 (w 101)) 102 (w 102)) ∧ g_frR i2 ph zz := ⟨_, I, (by have z := hV.put_102 hv (v := w 102); rw [he] at z; exact z), hG.trans g_frR.put⟩
                    have hW := hW0.fr hG (Ne.symm him)
                    have hv : WF (upd (upd (upd (vFW w) 145 (w 145)) 101 (w 101)) 102 (w 102)) := hv.any (by omega)
                    refine lv_aload_n hx hb dX2_copy_200 rfl (lv_at hl 1 rfl) ?_
                    refine lv_aload_n hx hb dX2_copy_201 rfl (lv_at hl 0 rfl) ?_
                    refine g_get S hK I k_X2 (v := .int (w 103)) (g_at.of hW.o0) 9 (by decide) q660 rfl rfl dX2_copy_202 ?_
                    have ho : P_8 100 i2 q = some (.inr (1, [.ref (ad2 1), .ref (ad2 3), .ref (ad2 5), .ref (ad2 6), .ref (ad2 7), .ref (ad2 8), .int ((upd (upd (upd (vFW w) 145 (w 145)) 101 (w 101)) 102 (w 102)) 145), .int ((upd (upd (upd (vFW w) 145 (w 145)) 101 (w 101)) 102 (w 102)) 101), .int ((upd (upd (upd (vFW w) 145 (w 145)) 101 (w 101)) 102 (w 102)) 102), .int ((upd (upd (upd (vFW w) 145 (w 145)) 101 (w 101)) 102 (w 102)) 103), .int ((upd (upd (upd (vFW w) 145 (w 145)) 101 (w 101)) 102 (w 102)) 140), .int ((upd (upd (upd (vFW w) 145 (w 145)) 101 (w 101)) 102 (w 102)) 141), .int ((upd (upd (upd (vFW w) 145 (w 145)) 101 (w 101)) 102 (w 102)) 142), .int ((upd (upd (upd (vFW w) 145 (w 145)) 101 (w 101)) 102 (w 102)) 143), .int ((upd (upd (upd (vFW w) 145 (w 145)) 101 (w 101)) 102 (w 102)) 144)])) := by rw [← he]; exact hV.o0
                    refine g_put S hK I k_X2 (v := .int (w 103)) ho 9 (by decide) q660 rfl rfl rfl rfl (Nat.le_of_ble_eq_true rfl) dX2_copy_205 (fun H locs I => ?_)
                    obtain ⟨P_9, I, hV, hG⟩ : ∃ zz, g_I Γ zz s H locs ∧ g_Wl Γ zz i2 ad2 na2 mc2 (upd (upd (upd (upd (vFW w) 145 (w 145)) 101 (w 101)) 102 (w 102)) 103 (w 103)) ∧ g_frR i2 ph zz := ⟨_, I, (by have z := hV.put_103 hv (v := w 103); rw [he] at z; exact z), hG.trans g_frR.put⟩
                    have hW := hW0.fr hG (Ne.symm him)
                    have hv : WF (upd (upd (upd (upd (vFW w) 145 (w 145)) 101 (w 101)) 102 (w 102)) 103 (w 103)) := hv.any (by omega)
                    refine lv_aload_n hx hb dX2_copy_208 rfl (lv_at hl 1 rfl) ?_
                    refine lv_aload_n hx hb dX2_copy_209 rfl (lv_at hl 0 rfl) ?_
                    refine g_get S hK I k_X2 (v := .int (w 140)) (g_at.of hW.o0) 10 (by decide) q662 rfl rfl dX2_copy_210 ?_
                    have ho : P_9 100 i2 q = some (.inr (1, [.ref (ad2 1), .ref (ad2 3), .ref (ad2 5), .ref (ad2 6), .ref (ad2 7), .ref (ad2 8), .int ((upd (upd (upd (upd (vFW w) 145 (w 145)) 101 (w 101)) 102 (w 102)) 103 (w 103)) 145), .int ((upd (upd (upd (upd (vFW w) 145 (w 145)) 101 (w 101)) 102 (w 102)) 103 (w 103)) 101), .int ((upd (upd (upd (upd (vFW w) 145 (w 145)) 101 (w 101)) 102 (w 102)) 103 (w 103)) 102), .int ((upd (upd (upd (upd (vFW w) 145 (w 145)) 101 (w 101)) 102 (w 102)) 103 (w 103)) 103), .int ((upd (upd (upd (upd (vFW w) 145 (w 145)) 101 (w 101)) 102 (w 102)) 103 (w 103)) 140), .int ((upd (upd (upd (upd (vFW w) 145 (w 145)) 101 (w 101)) 102 (w 102)) 103 (w 103)) 141), .int ((upd (upd (upd (upd (vFW w) 145 (w 145)) 101 (w 101)) 102 (w 102)) 103 (w 103)) 142), .int ((upd (upd (upd (upd (vFW w) 145 (w 145)) 101 (w 101)) 102 (w 102)) 103 (w 103)) 143), .int ((upd (upd (upd (upd (vFW w) 145 (w 145)) 101 (w 101)) 102 (w 102)) 103 (w 103)) 144)])) := by rw [← he]; exact hV.o0
                    refine g_put S hK I k_X2 (v := .int (w 140)) ho 10 (by decide) q662 rfl rfl rfl rfl (Nat.le_of_ble_eq_true rfl) dX2_copy_213 (fun H locs I => ?_)
                    obtain ⟨P_10, I, hV, hG⟩ : ∃ zz, g_I Γ zz s H locs ∧ g_Wl Γ zz i2 ad2 na2 mc2 (upd (upd (upd (upd (upd (vFW w) 145 (w 145)) 101 (w 101)) 102 (w 102)) 103 (w 103)) 140 (w 140)) ∧ g_frR i2 ph zz := ⟨_, I, (by have z := hV.put_140 hv (v := w 140); rw [he] at z; exact z), hG.trans g_frR.put⟩
                    have hW := hW0.fr hG (Ne.symm him)
                    have hv : WF (upd (upd (upd (upd (upd (vFW w) 145 (w 145)) 101 (w 101)) 102 (w 102)) 103 (w 103)) 140 (w 140)) := hv.any (by omega)
                    refine lv_aload_n hx hb dX2_copy_216 rfl (lv_at hl 1 rfl) ?_
                    refine lv_aload_n hx hb dX2_copy_217 rfl (lv_at hl 0 rfl) ?_
                    refine g_get S hK I k_X2 (v := .int (w 141)) (g_at.of hW.o0) 11 (by decide) q664 rfl rfl dX2_copy_218 ?_
                    have ho : P_10 100 i2 q = some (.inr (1, [.ref (ad2 1), .ref (ad2 3), .ref (ad2 5), .ref (ad2 6), .ref (ad2 7), .ref (ad2 8), .int ((upd (upd (upd (upd (upd (vFW w) 145 (w 145)) 101 (w 101)) 102 (w 102)) 103 (w 103)) 140 (w 140)) 145), .int ((upd (upd (upd (upd (upd (vFW w) 145 (w 145)) 101 (w 101)) 102 (w 102)) 103 (w 103)) 140 (w 140)) 101), .int ((upd (upd (upd (upd (upd (vFW w) 145 (w 145)) 101 (w 101)) 102 (w 102)) 103 (w 103)) 140 (w 140)) 102), .int ((upd (upd (upd (upd (upd (vFW w) 145 (w 145)) 101 (w 101)) 102 (w 102)) 103 (w 103)) 140 (w 140)) 103), .int ((upd (upd (upd (upd (upd (vFW w) 145 (w 145)) 101 (w 101)) 102 (w 102)) 103 (w 103)) 140 (w 140)) 140), .int ((upd (upd (upd (upd (upd (vFW w) 145 (w 145)) 101 (w 101)) 102 (w 102)) 103 (w 103)) 140 (w 140)) 141), .int ((upd (upd (upd (upd (upd (vFW w) 145 (w 145)) 101 (w 101)) 102 (w 102)) 103 (w 103)) 140 (w 140)) 142), .int ((upd (upd (upd (upd (upd (vFW w) 145 (w 145)) 101 (w 101)) 102 (w 102)) 103 (w 103)) 140 (w 140)) 143), .int ((upd (upd (upd (upd (upd (vFW w) 145 (w 145)) 101 (w 101)) 102 (w 102)) 103 (w 103)) 140 (w 140)) 144)])) := by rw [← he]; exact hV.o0
                    refine g_put S hK I k_X2 (v := .int (w 141)) ho 11 (by decide) q664 rfl rfl rfl rfl (Nat.le_of_ble_eq_true rfl) dX2_copy_221 (fun H locs I => ?_)
                    obtain ⟨P_11, I, hV, hG⟩ : ∃ zz, g_I Γ zz s H locs ∧ g_Wl Γ zz i2 ad2 na2 mc2 (upd (upd (upd (upd (upd (upd (vFW w) 145 (w 145)) 101 (w 101)) 102 (w 102)) 103 (w 103)) 140 (w 140)) 141 (w 141)) ∧ g_frR i2 ph zz := ⟨_, I, (by have z := hV.put_141 hv (v := w 141); rw [he] at z; exact z), hG.trans g_frR.put⟩
                    have hW := hW0.fr hG (Ne.symm him)
                    have hv : WF (upd (upd (upd (upd (upd (upd (vFW w) 145 (w 145)) 101 (w 101)) 102 (w 102)) 103 (w 103)) 140 (w 140)) 141 (w 141)) := hv.any (by omega)
                    refine lv_aload_n hx hb dX2_copy_224 rfl (lv_at hl 1 rfl) ?_
                    refine lv_aload_n hx hb dX2_copy_225 rfl (lv_at hl 0 rfl) ?_
                    refine g_get S hK I k_X2 (v := .int (w 142)) (g_at.of hW.o0) 12 (by decide) q666 rfl rfl dX2_copy_226 ?_
                    have ho : P_11 100 i2 q = some (.inr (1, [.ref (ad2 1), .ref (ad2 3), .ref (ad2 5), .ref (ad2 6), .ref (ad2 7), .ref (ad2 8), .int ((upd (upd (upd (upd (upd (upd (vFW w) 145 (w 145)) 101 (w 101)) 102 (w 102)) 103 (w 103)) 140 (w 140)) 141 (w 141)) 145), .int ((upd (upd (upd (upd (upd (upd (vFW w) 145 (w 145)) 101 (w 101)) 102 (w 102)) 103 (w 103)) 140 (w 140)) 141 (w 141)) 101), .int ((upd (upd (upd (upd (upd (upd (vFW w) 145 (w 145)) 101 (w 101)) 102 (w 102)) 103 (w 103)) 140 (w 140)) 141 (w 141)) 102), .int ((upd (upd (upd (upd (upd (upd (vFW w) 145 (w 145)) 101 (w 101)) 102 (w 102)) 103 (w 103)) 140 (w 140)) 141 (w 141)) 103), .int ((upd (upd (upd (upd (upd (upd (vFW w) 145 (w 145)) 101 (w 101)) 102 (w 102)) 103 (w 103)) 140 (w 140)) 141 (w 141)) 140), .int ((upd (upd (upd (upd (upd (upd (vFW w) 145 (w 145)) 101 (w 101)) 102 (w 102)) 103 (w 103)) 140 (w 140)) 141 (w 141)) 141), .int ((upd (upd (upd (upd (upd (upd (vFW w) 145 (w 145)) 101 (w 101)) 102 (w 102)) 103 (w 103)) 140 (w 140)) 141 (w 141)) 142), .int ((upd (upd (upd (upd (upd (upd (vFW w) 145 (w 145)) 101 (w 101)) 102 (w 102)) 103 (w 103)) 140 (w 140)) 141 (w 141)) 143), .int ((upd (upd (upd (upd (upd (upd (vFW w) 145 (w 145)) 101 (w 101)) 102 (w 102)) 103 (w 103)) 140 (w 140)) 141 (w 141)) 144)])) := by rw [← he]; exact hV.o0
                    refine g_put S hK I k_X2 (v := .int (w 142)) ho 12 (by decide) q666 rfl rfl rfl rfl (Nat.le_of_ble_eq_true rfl) dX2_copy_229 (fun H locs I => ?_)
                    obtain ⟨P_12, I, hV, hG⟩ : ∃ zz, g_I Γ zz s H locs ∧ g_Wl Γ zz i2 ad2 na2 mc2 (upd (upd (upd (upd (upd (upd (upd (vFW w) 145 (w 145)) 101 (w 101)) 102 (w 102)) 103 (w 103)) 140 (w 140)) 141 (w 141)) 142 (w 142)) ∧ g_frR i2 ph zz := ⟨_, I, (by have z := hV.put_142 hv (v := w 142); rw [he] at z; exact z), hG.trans g_frR.put⟩
                    have hW := hW0.fr hG (Ne.symm him)
                    have hv : WF (upd (upd (upd (upd (upd (upd (upd (vFW w) 145 (w 145)) 101 (w 101)) 102 (w 102)) 103 (w 103)) 140 (w 140)) 141 (w 141)) 142 (w 142)) := hv.any (by omega)
                    refine lv_aload_n hx hb dX2_copy_232 rfl (lv_at hl 1 rfl) ?_
                    refine lv_aload_n hx hb dX2_copy_233 rfl (lv_at hl 0 rfl) ?_
                    refine g_get S hK I k_X2 (v := .int (w 143)) (g_at.of hW.o0) 13 (by decide) q668 rfl rfl dX2_copy_234 ?_
                    have ho : P_12 100 i2 q = some (.inr (1, [.ref (ad2 1), .ref (ad2 3), .ref (ad2 5), .ref (ad2 6), .ref (ad2 7), .ref (ad2 8), .int ((upd (upd (upd (upd (upd (upd (upd (vFW w) 145 (w 145)) 101 (w 101)) 102 (w 102)) 103 (w 103)) 140 (w 140)) 141 (w 141)) 142 (w 142)) 145), .int ((upd (upd (upd (upd (upd (upd (upd (vFW w) 145 (w 145)) 101 (w 101)) 102 (w 102)) 103 (w 103)) 140 (w 140)) 141 (w 141)) 142 (w 142)) 101), .int ((upd (upd (upd (upd (upd (upd (upd (vFW w) 145 (w 145)) 101 (w 101)) 102 (w 102)) 103 (w 103)) 140 (w 140)) 141 (w 141)) 142 (w 142)) 102), .int ((upd (upd (upd (upd (upd (upd (upd (vFW w) 145 (w 145)) 101 (w 101)) 102 (w 102)) 103 (w 103)) 140 (w 140)) 141 (w 141)) 142 (w 142)) 103), .int ((upd (upd (upd (upd (upd (upd (upd (vFW w) 145 (w 145)) 101 (w 101)) 102 (w 102)) 103 (w 103)) 140 (w 140)) 141 (w 141)) 142 (w 142)) 140), .int ((upd (upd (upd (upd (upd (upd (upd (vFW w) 145 (w 145)) 101 (w 101)) 102 (w 102)) 103 (w 103)) 140 (w 140)) 141 (w 141)) 142 (w 142)) 141), .int ((upd (upd (upd (upd (upd (upd (upd (vFW w) 145 (w 145)) 101 (w 101)) 102 (w 102)) 103 (w 103)) 140 (w 140)) 141 (w 141)) 142 (w 142)) 142), .int ((upd (upd (upd (upd (upd (upd (upd (vFW w) 145 (w 145)) 101 (w 101)) 102 (w 102)) 103 (w 103)) 140 (w 140)) 141 (w 141)) 142 (w 142)) 143), .int ((upd (upd (upd (upd (upd (upd (upd (vFW w) 145 (w 145)) 101 (w 101)) 102 (w 102)) 103 (w 103)) 140 (w 140)) 141 (w 141)) 142 (w 142)) 144)])) := by rw [← he]; exact hV.o0
                    refine g_put S hK I k_X2 (v := .int (w 143)) ho 13 (by decide) q668 rfl rfl rfl rfl (Nat.le_of_ble_eq_true rfl) dX2_copy_237 (fun H locs I => ?_)
                    obtain ⟨P_13, I, hV, hG⟩ : ∃ zz, g_I Γ zz s H locs ∧ g_Wl Γ zz i2 ad2 na2 mc2 (upd (upd (upd (upd (upd (upd (upd (upd (vFW w) 145 (w 145)) 101 (w 101)) 102 (w 102)) 103 (w 103)) 140 (w 140)) 141 (w 141)) 142 (w 142)) 143 (w 143)) ∧ g_frR i2 ph zz := ⟨_, I, (by have z := hV.put_143 hv (v := w 143); rw [he] at z; exact z), hG.trans g_frR.put⟩
                    have hW := hW0.fr hG (Ne.symm him)
                    have hv : WF (upd (upd (upd (upd (upd (upd (upd (upd (vFW w) 145 (w 145)) 101 (w 101)) 102 (w 102)) 103 (w 103)) 140 (w 140)) 141 (w 141)) 142 (w 142)) 143 (w 143)) := hv.any (by omega)
                    refine lv_aload_n hx hb dX2_copy_240 rfl (lv_at hl 1 rfl) ?_
                    refine lv_aload_n hx hb dX2_copy_241 rfl (lv_at hl 0 rfl) ?_
                    refine g_get S hK I k_X2 (v := .int (w 144)) (g_at.of hW.o0) 14 (by decide) q670 rfl rfl dX2_copy_242 ?_
                    have ho : P_13 100 i2 q = some (.inr (1, [.ref (ad2 1), .ref (ad2 3), .ref (ad2 5), .ref (ad2 6), .ref (ad2 7), .ref (ad2 8), .int ((upd (upd (upd (upd (upd (upd (upd (upd (vFW w) 145 (w 145)) 101 (w 101)) 102 (w 102)) 103 (w 103)) 140 (w 140)) 141 (w 141)) 142 (w 142)) 143 (w 143)) 145), .int ((upd (upd (upd (upd (upd (upd (upd (upd (vFW w) 145 (w 145)) 101 (w 101)) 102 (w 102)) 103 (w 103)) 140 (w 140)) 141 (w 141)) 142 (w 142)) 143 (w 143)) 101), .int ((upd (upd (upd (upd (upd (upd (upd (upd (vFW w) 145 (w 145)) 101 (w 101)) 102 (w 102)) 103 (w 103)) 140 (w 140)) 141 (w 141)) 142 (w 142)) 143 (w 143)) 102), .int ((upd (upd (upd (upd (upd (upd (upd (upd (vFW w) 145 (w 145)) 101 (w 101)) 102 (w 102)) 103 (w 103)) 140 (w 140)) 141 (w 141)) 142 (w 142)) 143 (w 143)) 103), .int ((upd (upd (upd (upd (upd (upd (upd (upd (vFW w) 145 (w 145)) 101 (w 101)) 102 (w 102)) 103 (w 103)) 140 (w 140)) 141 (w 141)) 142 (w 142)) 143 (w 143)) 140), .int ((upd (upd (upd (upd (upd (upd (upd (upd (vFW w) 145 (w 145)) 101 (w 101)) 102 (w 102)) 103 (w 103)) 140 (w 140)) 141 (w 141)) 142 (w 142)) 143 (w 143)) 141), .int ((upd (upd (upd (upd (upd (upd (upd (upd (vFW w) 145 (w 145)) 101 (w 101)) 102 (w 102)) 103 (w 103)) 140 (w 140)) 141 (w 141)) 142 (w 142)) 143 (w 143)) 142), .int ((upd (upd (upd (upd (upd (upd (upd (upd (vFW w) 145 (w 145)) 101 (w 101)) 102 (w 102)) 103 (w 103)) 140 (w 140)) 141 (w 141)) 142 (w 142)) 143 (w 143)) 143), .int ((upd (upd (upd (upd (upd (upd (upd (upd (vFW w) 145 (w 145)) 101 (w 101)) 102 (w 102)) 103 (w 103)) 140 (w 140)) 141 (w 141)) 142 (w 142)) 143 (w 143)) 144)])) := by rw [← he]; exact hV.o0
                    refine g_put S hK I k_X2 (v := .int (w 144)) ho 14 (by decide) q670 rfl rfl rfl rfl (Nat.le_of_ble_eq_true rfl) dX2_copy_245 (fun H locs I => ?_)
                    obtain ⟨P_14, I, hV, hG⟩ : ∃ zz, g_I Γ zz s H locs ∧ g_Wl Γ zz i2 ad2 na2 mc2 (upd (upd (upd (upd (upd (upd (upd (upd (upd (vFW w) 145 (w 145)) 101 (w 101)) 102 (w 102)) 103 (w 103)) 140 (w 140)) 141 (w 141)) 142 (w 142)) 143 (w 143)) 144 (w 144)) ∧ g_frR i2 ph zz := ⟨_, I, (by have z := hV.put_144 hv (v := w 144); rw [he] at z; exact z), hG.trans g_frR.put⟩
                    have hW := hW0.fr hG (Ne.symm him)
                    have hv : WF (upd (upd (upd (upd (upd (upd (upd (upd (upd (vFW w) 145 (w 145)) 101 (w 101)) 102 (w 102)) 103 (w 103)) 140 (w 140)) 141 (w 141)) 142 (w 142)) 143 (w 143)) 144 (w 144)) := hv.any (by omega)
                    refine lv_aload_n hx hb dX2_copy_248 rfl (lv_at hl 1 rfl) ?_
                    exact g_aret S hr (Or.inl ⟨_, rfl⟩) hlk I dX2_copy_249 (by dsimp only [g_rm]; omega) (by dsimp only [g_rm]; omega) hQ ⟨_, rfl, ad2, na2, mc2, he, hV.done hw, hG⟩
                  · have p_139 := of_decide_eq_true ((b2i_ne0 _).mp c_139)
                    have c_139 := p_139
                    have hkl : k < nAn w := c_139
                    refine lv_aload_n hx hb dX2_copy_142 rfl (lv_at hl 1 rfl) ?_
                    refine g_get S hK I k_X2 (v := .ref (ad2 5)) (g_at.of (by rw [← he]; exact hV.o0)) 2 (by decide) q648 rfl rfl dX2_copy_143 ?_
                    refine lv_aload_n hx hb dX2_copy_146 rfl (lv_at hl 2 rfl) ?_
                    have hb9 : (w (132 + k)).toNatClampNeg < nN w ∧ nI (w (132 + k)).toNatClampNeg = w (132 + k) := okHx hw (hw.2.2.2.2.2.2.2 k hkl)
                    have hb8 := hb9.1
                    refine g_cFr (g_runF S hK I (As := []) (rest := [.ref (ad2 5)]) (met_J32_next l Γ P9 105 i (ad 5) 200 (nAn w) na (anI Γ w) (mc 0) 30 0 u k lr9 hW.o5 hu9 (by omega) hkl (by decide) (by decide)) (ci := 26) rfl (va_cwF 0 hts (lw_F q1020 q1194 q1196 q167 q1198) rfl rfl rfl (hK.F 4 rfl) (by decide +kernel) ⟨Nat.le_of_ble_eq_true rfl, Nat.le_of_ble_eq_true rfl⟩) (g_recv hK I (g_at.of hu9) (ci := 26) rfl) rfl hl.1 rfl (Nat.le_of_ble_eq_true rfl) dX2_copy_147 ⟨by dsimp only [g_rm]; omega, by dsimp only [g_rm]; omega⟩) I (fun r_147 ph1 H locs hp I => ?_)
                    obtain ⟨hp, hu9, hg9⟩ := hp
                    generalize ph1 = P8 at I hu9 hg9
                    have hV := hV.frL hg9 (by simp)
                    have hG : g_frT 34 i2 ph P8 := hG.trans (g_frT.ofL hg9 (by simp))
                    have hp : r_147 = (g_bx Γ (w (132 + k)).toNatClampNeg) := hp
                    rw [hp]
                    refine g_castI S hK q1200 (g_recvB hK I (by omega)) dX2_copy_152 ?_
                    have hvn := vAW_nA (w := w) (k := k) (by omega) (by omega) (by omega)
                    have hL9 := hV.o5
                    rw [hvn.2.2] at hL9
                    refine g_cv (g_runV S hK I (As := [.ref (g_bx Γ (w (132 + k)).toNatClampNeg)]) (rest := []) (met_J24_addLast l Γ P8 105 i2 (ad2 5) 200 (g_bx Γ (w (132 + k)).toNatClampNeg) k na2 (anI Γ (vAW w k)) (mc2 0) (by decide) hL9) (cwV 1 hts (lw_V q1595 q1596 q1597 q148 q1598) rfl rfl rfl (by decide +kernel) ⟨Nat.le_of_ble_eq_true rfl, Nat.le_of_ble_eq_true rfl⟩) (g_recv hK I (g_at.of hL9.1) (ci := 24) rfl) rfl hl.1 rfl (Nat.le_of_ble_eq_true rfl) dX2_copy_155 ⟨by dsimp only [g_rm]; omega, by dsimp only [g_rm]; omega⟩) I (fun ph1 H locs hp I => ?_)
                    obtain ⟨q9, hfq9, hL8, hf8⟩ := hp
                    generalize ph1 = P7 at I hL8 hf8
                    have hu9 : P7 30 0 u = some (.inr (26, [.ref (na k), lkK (k + 1) (nAn w) na, .int (nI (k + 1)), .int (mc 0), .ref (ad 5)])) := by rw [hf8 30 0 (by simp)]; exact hu9
                    have hV := hV.addA (n := k + 1) (ph' := P7) (w' := vAW w (k + 1)) (by rw [hvn.1]; omega) (by rw [hvn.2.1]; omega) hL8 (vAW_nA (by omega) (by omega) (by omega)).2.2 (fun t ht => vAW_it ht) (fun j h1 h2 h3 => hf8 j i2 (by simp; omega)) (fun j h => vAW_s h (by omega))
                    have hG : g_frT 34 i2 ph P7 := hG.trans (g_frT.ofL hf8 (by simp))
                    refine lv_goto (tgt := 133) hx hb dX2_copy_158 (by decide) ?_
                    refine W.widen (k := (36 + (k + 1))) (n := (200 + 3 * (k + 1))) (by dsimp only [g_rm]; omega) (by dsimp only [g_rm]; omega) ?_
                    exact ih (k + 1) P7 _ _ _ _ hkl hV he hG hu9 (by omega) _ _ _ I (lv_sub hl [0, 1, 2] rfl)
              exact L_133 _ 0 P6 ad2 na2 mc2 _ (Nat.zero_le _) hV he hG hu9 (Nat.lt_succ_self _) _ _ _ I (lv_sub hl [1, 2, 0] rfl)
            · have n_94 := Int32.not_le.mp c_94
              have hkl : k < nLa w := by rw [nI_leI (by omega) (by omega)] at c_94; omega
              refine lv_aload_n hx hb dX2_copy_97 rfl (lv_at hl 1 rfl) ?_
              refine g_get S hK I k_X2 (v := .ref (ad2 3)) (g_at.of (by rw [← he]; exact hV.o0)) 1 (by decide) q646 rfl rfl dX2_copy_98 ?_
              refine lv_aload_n hx hb dX2_copy_101 rfl (lv_at hl 0 rfl) ?_
              refine g_get S hK I k_X2 (v := .ref (ad 3)) (g_at.of hW.o0) 1 (by decide) q646 rfl rfl dX2_copy_102 ?_
              refine lv_iload_n hx hb dX2_copy_105 rfl (lv_at hl 2 rfl) ?_
              refine g_cr (g_runV S hK I (As := [.int (nI k)]) (rest := [.ref (ad2 3)]) (met_w_get3 l Γ P9 i ad na mc w hW hw k (by omega)) (cwV 1 hts (lw_V q883 q793 q3509 q130 q795) rfl rfl rfl (by decide +kernel) ⟨Nat.le_of_ble_eq_true rfl, Nat.le_of_ble_eq_true rfl⟩) (g_recv hK I (g_at.of hW.o3) (ci := 21) rfl) rfl hl.1 rfl (Nat.le_of_ble_eq_true rfl) dX2_copy_106 ⟨by dsimp only [g_rm]; omega, by dsimp only [g_rm]; omega⟩) I (fun r_106 ph1 H locs hp I => ?_)
              obtain ⟨hp, hph⟩ := hp
              rw [hph] at I
              have hp : r_106 = (ad (20 + k)) := hp
              rw [hp]
              refine g_castS S hK (ci := 10) rfl q1559 (g_recv hK I (g_at.of (hW.la (k := k) (by omega))) (ci := 10) rfl) dX2_copy_109 ?_
              refine g_cr (g_runV S hK I (As := []) (rest := [.ref (ad2 3)]) (met_X12_copy l Γ htr P9 i ad na mc w k (120 + k) i2 hW hw hkl him) (cwV 0 hts (lw_V q1560 q1561 q1562 q162 q1563) rfl rfl rfl (by decide +kernel) ⟨Nat.le_of_ble_eq_true rfl, Nat.le_of_ble_eq_true rfl⟩) (g_recv hK I (g_at.of (hW.la (k := k) (by omega))) (ci := 10) rfl) rfl hl.1 rfl (Nat.le_of_ble_eq_true rfl) dX2_copy_112 ⟨by dsimp only [g_rm]; omega, by dsimp only [g_rm]; omega⟩) I (fun q9 ph1 H locs hp I => ?_)
              obtain ⟨hn9, hf9⟩ := hp
              generalize ph1 = P8 at I hn9 hf9
              have hq9 : P8 103 i2 (ad2 3) = some (.inr (21, [.int (mc2 2), .ref (ad2 4), .int (nI k)])) := by rw [hf9 103 i2 (by simp; omega)]; exact hV.o3
              have hd9 : P8 104 i2 (ad2 4) = some (.inl (g_t Γ 7, 4, .inr (.inr (.inr (.inr (rfs k (fun t => ad2 (20 + t)))))))) := by have z := hV.o4; rw [(vLW_nL (w := w) (k := k) (by omega) (by omega)).2.1] at z; rw [hf9 104 i2 (by simp; omega)]; exact z
              refine g_ci (g_runV S hK I (As := [.ref q9]) (rest := []) (met_J7_add l Γ P8 103 i2 (ad2 3) 104 (ad2 4) q9 4 k (mc2 2) (rfs k (fun t => ad2 (20 + t))) hq9 hd9 (by decide) (g_st.of (ci := 10) rfl q3580 hn9) (by omega) (by decide)) (cwV 1 hts (lw_V q1530 q1531 q1532 q130 q1533) rfl rfl rfl (by decide +kernel) ⟨Nat.le_of_ble_eq_true rfl, Nat.le_of_ble_eq_true rfl⟩) (g_recv hK I (g_at.of hq9) (ci := 21) rfl) rfl hl.1 rfl (Nat.le_of_ble_eq_true rfl) dX2_copy_115 ⟨by dsimp only [g_rm]; omega, by dsimp only [g_rm]; omega⟩) I (fun r_115 ph1 H locs hp I => ?_)
              obtain ⟨hp, hl9, hd8, hf8⟩ := hp
              generalize ph1 = P7 at I hl9 hd8 hf8
              have hn8 : P7 (120 + k) i2 q9 = some (laW w k) := by rw [hf8 _ i2 (by simp; omega)]; exact hn9
              have hV := hV.addL (n := k) (ph' := P7) (w' := vLW w (k + 1)) (vLW_nL (by omega) (by omega)).2.1 (by omega) (by rw [(vLW_nL (by omega) (by omega)).1]; omega) (by rw [(vLW_nL (by omega) (by omega)).2.2]; decide) rfl hl9 hd8 (by rw [vLW_h]; exact hn8) (fun j h1 h2 h3 h4 => by rw [hf8 j i2 (by simp; omega), hf9 j i2 (by simp; omega)]) (fun j h1 h2 => vLW_s h1 h2)
              have he : (fun t => if t = 20 + k then q9 else ad2 t) 0 = q := (if_neg (by omega)).trans he
              have hG := hG.trans ((g_frR.of hf9 (by simp)).trans (g_frR.of hf8 (by simp)))
              refine lv_pop hx hb dX2_copy_118 rfl ?_
              refine lv_iinc (v := nI (k + 1)) (lv' := [(2, .int (nI (k + 1))), (0, .ref (ad 0)), (1, .ref q)]) hx hb dX2_copy_119 hl (k := 2) rfl (nI_1 k) (by decide) rfl (fun ls hl => ?_)
              refine lv_goto (tgt := 86) hx hb dX2_copy_122 (by decide) ?_
              refine W.widen (k := (31 + (k + 1))) (n := (175 + 5 * (k + 1))) (by dsimp only [g_rm]; omega) (by dsimp only [g_rm]; omega) ?_
              exact ih (k + 1) P7 _ _ _ hkl hV he hG (by omega) _ _ _ I (lv_sub hl [1, 2, 0] rfl)
        exact L_86 _ 0 P9 ad2 na2 mc2 (Nat.zero_le _) (by rw [v_l0 (by omega)]; exact hV) he hG (Nat.lt_succ_self _) _ _ _ I (lv_sub hl [1, 2, 0] rfl)
      · have n_53 := Int32.not_le.mp c_53
        have hkl : k < nN w := by rw [nI_leI (by omega) (by omega)] at c_53; omega
        refine lv_aload_n hx hb dX2_copy_56 rfl (lv_at hl 1 rfl) ?_
        refine g_get S hK I k_X2 (v := .ref (ad2 1)) (g_at.of (by rw [← he]; exact hV.o0)) 0 (by decide) q643 rfl rfl dX2_copy_57 ?_
        refine lv_aload_n hx hb dX2_copy_60 rfl (lv_at hl 0 rfl) ?_
        refine g_get S hK I k_X2 (v := .ref (ad 1)) (g_at.of hW.o0) 0 (by decide) q643 rfl rfl dX2_copy_61 ?_
        refine lv_iload_n hx hb dX2_copy_64 rfl (lv_at hl 2 rfl) ?_
        refine g_cr (g_runV S hK I (As := [.int (nI k)]) (rest := [.ref (ad2 1)]) (met_w_get1 l Γ P9 i ad na mc w hW hw k (by omega)) (cwV 1 hts (lw_V q883 q793 q3509 q130 q795) rfl rfl rfl (by decide +kernel) ⟨Nat.le_of_ble_eq_true rfl, Nat.le_of_ble_eq_true rfl⟩) (g_recv hK I (g_at.of hW.o1) (ci := 21) rfl) rfl hl.1 rfl (Nat.le_of_ble_eq_true rfl) dX2_copy_65 ⟨by dsimp only [g_rm]; omega, by dsimp only [g_rm]; omega⟩) I (fun r_65 ph1 H locs hp I => ?_)
        obtain ⟨hp, hph⟩ := hp
        rw [hph] at I
        have hp : r_65 = (ad (30 + k)) := hp
        rw [hp]
        refine h_cast S hK I (ho_or hW hw (k := k) (by omega)) q1389 hca_Hold dX2_copy_68 ?_
        refine g_cr (by obtain ⟨fs9, h9⟩ := ho_or hW hw (k := k) hkl; rcases h9 with ⟨e9, r9⟩ | ⟨e9, r9⟩ | ⟨e9, r9⟩ | ⟨e9, r9⟩; exact (g_runU S hK I (As := []) (rest := [.ref (ad2 1)]) (met_X7_copy l Γ htr P9 i ad na mc w k (130 + k) i2 hW hw hkl him) (g_cwD (n := 0) hts q1397 q157 (by decide) (by decide +kernel) q1390 q1392 (va_Decl.of (hts _ q1391) (hts _ q1397)) q1394 q1391 ⟨Nat.le_of_ble_eq_true rfl, Nat.le_of_ble_eq_true rfl⟩) (g_recv hK I (g_at.of r9) (ci := 7) rfl) rfl hl.1 rfl (Nat.le_of_ble_eq_true rfl) dX2_copy_71 ⟨by dsimp only [g_rm]; omega, by dsimp only [g_rm]; omega⟩); exact (g_runU S hK I (As := []) (rest := [.ref (ad2 1)]) (met_X7_copy l Γ htr P9 i ad na mc w k (130 + k) i2 hW hw hkl him) (g_cwD (n := 0) hts q1397 q157 (by decide) (by decide +kernel) q1390 q1392 (va_Decl.of (hts _ q1391) (hts _ q1397)) q1396 q1391 ⟨Nat.le_of_ble_eq_true rfl, Nat.le_of_ble_eq_true rfl⟩) (g_recv hK I (g_at.of r9) (ci := 9) rfl) rfl hl.1 rfl (Nat.le_of_ble_eq_true rfl) dX2_copy_71 ⟨by dsimp only [g_rm]; omega, by dsimp only [g_rm]; omega⟩); exact (g_runU S hK I (As := []) (rest := [.ref (ad2 1)]) (met_X7_copy l Γ htr P9 i ad na mc w k (130 + k) i2 hW hw hkl him) (g_cwD (n := 0) hts q1397 q157 (by decide) (by decide +kernel) q1390 q1392 (va_Decl.of (hts _ q1391) (hts _ q1397)) q1395 q1391 ⟨Nat.le_of_ble_eq_true rfl, Nat.le_of_ble_eq_true rfl⟩) (g_recv hK I (g_at.of r9) (ci := 8) rfl) rfl hl.1 rfl (Nat.le_of_ble_eq_true rfl) dX2_copy_71 ⟨by dsimp only [g_rm]; omega, by dsimp only [g_rm]; omega⟩); exact (g_runU S hK I (As := []) (rest := [.ref (ad2 1)]) (met_X7_copy l Γ htr P9 i ad na mc w k (130 + k) i2 hW hw hkl him) (g_cwD (n := 0) hts q1397 q157 (by decide) (by decide +kernel) q1390 q1392 (va_Decl.of (hts _ q1391) (hts _ q1397)) q1393 q1391 ⟨Nat.le_of_ble_eq_true rfl, Nat.le_of_ble_eq_true rfl⟩) (g_recv hK I (g_at.of r9) (ci := 6) rfl) rfl hl.1 rfl (Nat.le_of_ble_eq_true rfl) dX2_copy_71 ⟨by dsimp only [g_rm]; omega, by dsimp only [g_rm]; omega⟩)) I (fun q9 ph1 H locs hp I => ?_)
        obtain ⟨hn9, hf9⟩ := hp
        generalize ph1 = P8 at I hn9 hf9
        have hq9 : P8 101 i2 (ad2 1) = some (.inr (21, [.int (mc2 1), .ref (ad2 2), .int (nI k)])) := by rw [hf9 101 i2 (by simp; omega)]; exact hV.o1
        have hd9 : P8 102 i2 (ad2 2) = some (.inl (g_t Γ 7, 20, .inr (.inr (.inr (.inr (rfs k (fun t => ad2 (30 + t)))))))) := by have z := hV.o2; rw [(vHW_nN (w := w) (k := k) (by omega)).1] at z; rw [hf9 102 i2 (by simp; omega)]; exact z
        refine g_ci (g_runV S hK I (As := [.ref q9]) (rest := []) (met_J7_add l Γ P8 101 i2 (ad2 1) 102 (ad2 2) q9 20 k (mc2 1) (rfs k (fun t => ad2 (30 + t))) hq9 hd9 (by decide) (ho_st (ho_of hw hkl hn9)) (by omega) (by decide)) (cwV 1 hts (lw_V q1530 q1531 q1532 q130 q1533) rfl rfl rfl (by decide +kernel) ⟨Nat.le_of_ble_eq_true rfl, Nat.le_of_ble_eq_true rfl⟩) (g_recv hK I (g_at.of hq9) (ci := 21) rfl) rfl hl.1 rfl (Nat.le_of_ble_eq_true rfl) dX2_copy_74 ⟨by dsimp only [g_rm]; omega, by dsimp only [g_rm]; omega⟩) I (fun r_74 ph1 H locs hp I => ?_)
        obtain ⟨hp, hl9, hd8, hf8⟩ := hp
        generalize ph1 = P7 at I hl9 hd8 hf8
        have hn8 : P7 (130 + k) i2 q9 = some (hoW w k) := by rw [hf8 _ i2 (by simp; omega)]; exact hn9
        have hV := hV.addH (n := k) (ph' := P7) (w' := vHW w (k + 1)) (vHW_nN (by omega)).1 (by omega) (by rw [(vHW_nN (by omega)).2.1]; decide) (by rw [(vHW_nN (by omega)).2.2]; decide) rfl hl9 hd8 (by rw [vHW_h]; exact hn8) (fun j h1 h2 h3 h4 => by rw [hf8 j i2 (by simp; omega), hf9 j i2 (by simp; omega)]) (fun j h1 h2 => vHW_s h1 h2)
        have he : (fun t => if t = 30 + k then q9 else ad2 t) 0 = q := (if_neg (by omega)).trans he
        have hG := hG.trans ((g_frR.of hf9 (by simp)).trans (g_frR.of hf8 (by simp)))
        refine lv_pop hx hb dX2_copy_77 rfl ?_
        refine lv_iinc (v := nI (k + 1)) (lv' := [(2, .int (nI (k + 1))), (0, .ref (ad 0)), (1, .ref q)]) hx hb dX2_copy_78 hl (k := 2) rfl (nI_1 k) (by decide) rfl (fun ls hl => ?_)
        refine lv_goto (tgt := 45) hx hb dX2_copy_81 (by decide) ?_
        refine W.widen (k := (11 + (k + 1))) (n := (75 + 5 * (k + 1))) (by dsimp only [g_rm]; omega) (by dsimp only [g_rm]; omega) ?_
        exact ih (k + 1) P7 _ _ _ hkl hV he hG (by omega) _ _ _ I (lv_sub hl [1, 2, 0] rfl)
  exact L_45 _ 0 P0_ ad0 na0 mc0 (Nat.zero_le _) hV he hG (Nat.lt_succ_self _) _ _ _ I (lv_sub hl [2, 1, 0] rfl)


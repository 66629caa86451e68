/-! THE WALL: a move; the rope measured backward -/
set_option maxRecDepth 100000
theorem mv_grip {w : m_w} (hw : WF w) {c p : Int32} (hc : vp_in c 2) (hp : okP w p) (hm : nMove w c p = none) : ∃ q, q ≤ 20 ∧ w (125 + 3 * c.toNatClampNeg + 2) - (dst w (plc w c) p + bits (carr w c)) = nI q := by
  obtain ⟨g, g1, g2⟩ := hw.grip hc
  obtain ⟨q, q1, q2⟩ := cost_le hw hc hp
  have h1 := nMove_g hm
  rw [g2, q2] at h1
  have h2 := gr_sub g1 q1 h1
  refine ⟨g - q, by omega, ?_⟩
  show cX w c 2 - cost w c p = _
  rw [g2, q2]
  exact h2.1
theorem mvR_K {w : m_w} {c p : Int32} : wrK (mv0 w c p) p.toNatClampNeg (wrn ((mv0 w c p) (1 + 5 * p.toNatClampNeg + 2)) + (if bits (carr (mv0 w c p) c) = 2 then 1 else 0)) = mvR w c p := by
  rw [wrK_eq]
  unfold mvR wearO wrn hX
  by_cases e : mv0 w c p (1 + 5 * p.toNatClampNeg + 2) = 3
  · rw [if_pos e, if_neg (fun z => by rw [e] at z; exact absurd z (by decide)), if_neg (fun z => by rw [e] at z; exact absurd z (by decide)), if_neg (fun z => z.1 e)]
    rfl
  · rw [if_neg e]
    by_cases b : bits (carr (mv0 w c p) c) = 2
    · rw [if_pos b, if_pos (⟨e, b⟩ : ¬ _ ∧ _)]
    · rw [if_neg b, if_neg (show ¬ (¬ mv0 w c p (1 + 5 * p.toNatClampNeg + 2) = 3 ∧ bits (carr (mv0 w c p) c) = 2) from fun z => b z.2)]
theorem szn : ∀ b, b ≤ 20 → sz (0 - nI b) = nI b ∧ sz (nI b - 0) = nI b := by
  have h : ∀ b, b < 21 → sz (0 - Int32.ofNat b) = Int32.ofNat b ∧ sz (Int32.ofNat b - 0) = Int32.ofNat b := by decide +kernel
  exact fun b hb => h b (by omega)
theorem dst_all {w : m_w} (hw : WF w) {x y : Int32} (hx : okP w x) (hy : okP w y) : dst w x y = asd w x y + uod w x y := by
  by_cases h1 : x = -1
  · subst h1
    have e2 : asd w (-1) y = 0 := if_pos (Or.inl rfl)
    rw [e2, Int32.zero_add]
    by_cases h2 : y = -1
    · subst h2
      unfold dst uod rowP
      rw [if_pos ⟨rfl, rfl⟩, if_pos rfl]
      decide
    · obtain ⟨-, d, d1, d2⟩ := hXr hw hy h2
      have e1 : dst w (-1) y = hX w y 1 := by unfold dst; rw [if_neg (fun q => h2 q.2), if_pos rfl]
      have e3 : uod w (-1) y = sz (0 - hX w y 1) := by unfold uod rowP; rw [if_pos rfl, if_neg h2]
      rw [e1, e3, d2]
      exact (szn d d1).1.symm
  · by_cases h2 : y = -1
    · subst h2
      obtain ⟨-, d, d1, d2⟩ := hXr hw hx h1
      have e1 : dst w x (-1) = hX w x 1 := by unfold dst; rw [if_neg (fun q => h1 q.1), if_neg h1, if_pos rfl]
      have e2 : asd w x (-1) = 0 := if_pos (Or.inr rfl)
      have e3 : uod w x (-1) = sz (hX w x 1 - 0) := by unfold uod rowP; rw [if_neg h1, if_pos rfl]
      rw [e1, e2, e3, d2, Int32.zero_add]
      exact (szn d d1).2.symm
    · exact dst_eq h1 h2
theorem i32_lc (a b c : Int32) : a + (b + c) = b + (a + c) := by rw [← Int32.add_assoc, Int32.add_comm a b, Int32.add_assoc]
theorem ag_step {w : m_w} (hw : WF w) {sx sy q a : Int32} {k : Nat} {x : Int32} (hq : okP w q) (ha : okP w (w (132 + k))) (h : sx + sy + (ropeN w x (k + 1)).1 + dst w (ropeN w x (k + 1)).2 q = a) : sx + asd w q (w (132 + k)) + (sy + uod w q (w (132 + k))) + (ropeN w x k).1 + dst w (ropeN w x k).2 (w (132 + k)) = a := by
  have e : ropeN w x (k + 1) = ((ropeN w x k).1 + dst w (ropeN w x k).2 (w (132 + k)), w (132 + k)) := rfl
  rw [e, dst_comm hw ha hq, dst_all hw hq ha] at h
  rw [← h]
  simp only [Int32.add_assoc, Int32.add_comm, i32_lc]
theorem ag_end {w : m_w} (hw : WF w) {sx sy q a x : Int32} (hq : okP w q) (hx : okP w x) (h : sx + sy + (ropeN w x 0).1 + dst w (ropeN w x 0).2 q = a) : sx + asd w q x + sy + uod w q x = a := by
  have e : ropeN w x 0 = (0, x) := rfl
  rw [e, dst_comm hw hx hq, dst_all hw hq hx, Int32.add_zero] at h
  rw [← h]
  simp only [Int32.add_assoc, Int32.add_comm, i32_lc]
theorem okP_N {w w' : m_w} (e : nN w' = nN w) {p : Int32} (h : okP w p) : okP w' p := by
  unfold okP at h ⊢
  rw [e]
  exact h
set_option maxHeartbeats 4000000 in
set_option maxRecDepth 100000 in
theorem met_X2_moves (l : Launch) (Γ : g_C) (htr : l.stackTraces = false) (ph : g_H) (i : Nat) (ad na : Nat → Nat) (mc : Nat → Int32) (w : m_w) (c p : Int32) (cr : Nat → Int32) (n0 : Nat)  (hW : g_Wl Γ ph i ad na mc w) (hw : WF w) (hT : g_Tr 36 ph) (hc : vp_in c 2) (hp0 : okP w p) (hn9 : n0 ≤ 9) : g_Met l yX2_moves (ws_ yX2_moves cX2_moves 5 (some .int)) (g_rm 12 409 2069) Γ [.ref (ad 0), .int c, .int p] ph (g_oi (fun rv_ ph' => nMove w c p = none ∧ rv_ = (cX (minW (mvFl w cr n0 c p).1) c 1) ∧ ∃ na' mc', g_Wl Γ ph' i ad na' mc' (minW (mvFl w cr n0 c p).1) ∧ g_frR i ph ph')) (xR (nMove w c p) ph) := by
  refine g_start (y := yX2_moves) (cc := cX2_moves) (maxL := 5) (ret := (some .int)) (rm := g_rm 12 409 2069) (by decide) (Nat.le_of_ble_eq_true rfl) ?_
  intro pg e s m A below meth cd ls Q hQ S hr hlk hex hnm hK I hl
  have hx := S.1
  have hb := S.2.1
  have hown := S.2.2.2.1
  have hts := S.2.2.2.2
  have S : CallFix pg m cd cX2_moves 5 s A lw_all "CrumblingWall$Wall" := S
  have hl : lv_has ls 5 [(0, .ref (ad 0)), (1, .int c), (2, .int p)] := hl
  have hwc := hw.1; have hwl := hw.2.1; have hwa := hw.2.2.1
  have hc2 := (okC hc).1
  have hT0 := hT
  have hw0 := hw
  have hpl := hw.pl hc
  refine lv_aload_n hx hb dX2_moves_0 rfl (lv_at hl 0 rfl) ?_
  refine lv_iload_n hx hb dX2_moves_1 rfl (lv_at hl 1 rfl) ?_
  refine lv_iload_n hx hb dX2_moves_2 rfl (lv_at hl 2 rfl) ?_
  refine g_cvx (g_runV S hK I (As := [.int c, .int p]) (rest := []) (met_X2_checkMove l Γ htr ph i ad na mc w c p hW hw (g_Tr.sub hT (by decide)) hc hp0) (cwV 2 hts (lw_V q1932 q1933 q1934 q121 q1935) rfl rfl rfl (by decide +kernel) ⟨Nat.le_of_ble_eq_true rfl, Nat.le_of_ble_eq_true rfl⟩) (g_recv hK I (g_at.of hW.o0) (ci := 1) rfl) rfl hl.1 rfl (Nat.le_of_ble_eq_true rfl) dX2_moves_3 ⟨Nat.le_of_ble_eq_true rfl, Nat.le_of_ble_eq_true rfl⟩) I (fun E9 ce9 q9 ph1 H locs hp I hcell hv9 hcl => ?_) (fun ph1 H locs hp I => ?_)
  · obtain ⟨rfl, r9, hr9, hx9, hf9⟩ := hp
    exact g_out S hlk hex I hcell hv9 hcl (Nat.le_of_ble_eq_true rfl) (Nat.le_of_ble_eq_true rfl) hQ ⟨rfl, r9, hr9, hx9, hf9⟩
  obtain ⟨hy_3, hp⟩ := hp
  rw [hp] at I
  refine lv_aload_n hx hb dX2_moves_6 rfl (lv_at hl 0 rfl) ?_
  refine lv_iload_n hx hb dX2_moves_7 rfl (lv_at hl 1 rfl) ?_
  refine g_cr (g_runV S hK I (As := [.int c]) (rest := []) (met_X2_climber l Γ htr ph i ad na mc w c hW hw  hc) (cwV 1 hts (lw_V q782 q783 q784 q121 q785) rfl rfl rfl (by decide +kernel) ⟨Nat.le_of_ble_eq_true rfl, Nat.le_of_ble_eq_true rfl⟩) (g_recv hK I (g_at.of hW.o0) (ci := 1) rfl) rfl hl.1 rfl (Nat.le_of_ble_eq_true rfl) dX2_moves_8 ⟨Nat.le_of_ble_eq_true rfl, Nat.le_of_ble_eq_true rfl⟩) I (fun r_8 ph1 H locs hp I => ?_)
  obtain ⟨hp, hph⟩ := hp
  rw [hph] at I
  have hp : r_8 = (ad (10 + c.toNatClampNeg)) := hp
  rw [hp]
  refine lv_astore_n (lv' := [(3, .ref (ad (10 + c.toNatClampNeg))), (0, .ref (ad 0)), (1, .int c), (2, .int p)]) hx hb dX2_moves_11 rfl hl (by decide) rfl (fun ls hl => ?_)
  refine lv_aload_n hx hb dX2_moves_12 rfl (lv_at hl 0 rfl) ?_
  refine lv_dup hx hb dX2_moves_13 rfl ?_
  refine g_getN S hK I k_X3 (v := .int (w (125 + 3 * c.toNatClampNeg + 2))) (g_at.of (hW.cl (c := c.toNatClampNeg) (by omega))) 3 (by decide) q219 rfl rfl dX2_moves_14 ?_
  refine lv_aload_n hx hb dX2_moves_17 rfl (lv_at hl 1 rfl) ?_
  refine lv_iload_n hx hb dX2_moves_18 rfl (lv_at hl 2 rfl) ?_
  refine lv_aload_n hx hb dX2_moves_19 rfl (lv_at hl 1 rfl) ?_
  refine lv_iload_n hx hb dX2_moves_20 rfl (lv_at hl 2 rfl) ?_
  refine g_cr (g_runV S hK I (As := [.int c]) (rest := [.int c, .ref (ad 0), .int (w (125 + 3 * c.toNatClampNeg + 2)), .ref (ad (10 + c.toNatClampNeg))]) (met_X2_at l Γ htr ph i ad na mc w c hW hw  hc) (cwV 1 hts (lw_V q778 q779 q780 q121 q781) rfl rfl rfl (by decide +kernel) ⟨Nat.le_of_ble_eq_true rfl, Nat.le_of_ble_eq_true rfl⟩) (g_recv hK I (g_at.of hW.o0) (ci := 1) rfl) rfl hl.1 rfl (Nat.le_of_ble_eq_true rfl) dX2_moves_21 ⟨Nat.le_of_ble_eq_true rfl, Nat.le_of_ble_eq_true rfl⟩) I (fun r_21 ph1 H locs hp I => ?_)
  obtain ⟨hp, hph⟩ := hp
  rw [hph] at I
  have hp : r_21 = (plA ad (plc w c)) := hp
  rw [hp]
  refine lv_aload_n hx hb dX2_moves_24 rfl (lv_at hl 1 rfl) ?_
  refine lv_iload_n hx hb dX2_moves_25 rfl (lv_at hl 3 rfl) ?_
  refine g_cr (g_runV S hK I (As := [.int p]) (rest := [.ref (plA ad (plc w c)), .int c, .ref (ad 0), .int (w (125 + 3 * c.toNatClampNeg + 2)), .ref (ad (10 + c.toNatClampNeg))]) (met_X2_place l Γ htr ph i ad na mc w p hW hw  hp0) (cwV 1 hts (lw_V q879 q880 q881 q121 q882) rfl rfl rfl (by decide +kernel) ⟨Nat.le_of_ble_eq_true rfl, Nat.le_of_ble_eq_true rfl⟩) (g_recv hK I (g_at.of hW.o0) (ci := 1) rfl) rfl hl.1 rfl (Nat.le_of_ble_eq_true rfl) dX2_moves_26 ⟨Nat.le_of_ble_eq_true rfl, Nat.le_of_ble_eq_true rfl⟩) I (fun r_26 ph1 H locs hp I => ?_)
  obtain ⟨hp, hph⟩ := hp
  rw [hph] at I
  have hp : r_26 = (plA ad p) := hp
  rw [hp]
  refine g_cFi (by rcases pl_or hW hw (p := (plc w c)) hpl with ⟨e8, fs9, r9⟩ | ⟨e8, b8, n8, a8, fs9, h9⟩; rotate_left; rcases h9 with ⟨e9, r9⟩ | ⟨e9, r9⟩ | ⟨e9, r9⟩ | ⟨e9, r9⟩; exact (g_runF S hK I (As := [.ref (plA ad p)]) (rest := [.int c, .ref (ad 0), .int (w (125 + 3 * c.toNatClampNeg + 2)), .ref (ad (10 + c.toNatClampNeg))]) (met_p_distance_H l Γ htr ph i ad na mc w (plc w c) p hW hw hpl hp0 e8) (ci := 7) rfl (va_cwF 1 hts (lw_F q1206 q1281 q1212 q157 q1214) rfl rfl rfl (hK.F 14 rfl) (by decide +kernel) ⟨Nat.le_of_ble_eq_true rfl, Nat.le_of_ble_eq_true rfl⟩) (g_recv hK I (g_at.of r9) (ci := 7) rfl) rfl hl.1 rfl (Nat.le_of_ble_eq_true rfl) dX2_moves_29 ⟨Nat.le_of_ble_eq_true rfl, Nat.le_of_ble_eq_true rfl⟩); exact (g_runF S hK I (As := [.ref (plA ad p)]) (rest := [.int c, .ref (ad 0), .int (w (125 + 3 * c.toNatClampNeg + 2)), .ref (ad (10 + c.toNatClampNeg))]) (met_p_distance_H l Γ htr ph i ad na mc w (plc w c) p hW hw hpl hp0 e8) (ci := 9) rfl (va_cwF 1 hts (lw_F q1206 q1292 q1212 q157 q1214) rfl rfl rfl (hK.F 22 rfl) (by decide +kernel) ⟨Nat.le_of_ble_eq_true rfl, Nat.le_of_ble_eq_true rfl⟩) (g_recv hK I (g_at.of r9) (ci := 9) rfl) rfl hl.1 rfl (Nat.le_of_ble_eq_true rfl) dX2_moves_29 ⟨Nat.le_of_ble_eq_true rfl, Nat.le_of_ble_eq_true rfl⟩); exact (g_runF S hK I (As := [.ref (plA ad p)]) (rest := [.int c, .ref (ad 0), .int (w (125 + 3 * c.toNatClampNeg + 2)), .ref (ad (10 + c.toNatClampNeg))]) (met_p_distance_H l Γ htr ph i ad na mc w (plc w c) p hW hw hpl hp0 e8) (ci := 8) rfl (va_cwF 1 hts (lw_F q1206 q1283 q1212 q157 q1214) rfl rfl rfl (hK.F 18 rfl) (by decide +kernel) ⟨Nat.le_of_ble_eq_true rfl, Nat.le_of_ble_eq_true rfl⟩) (g_recv hK I (g_at.of r9) (ci := 8) rfl) rfl hl.1 rfl (Nat.le_of_ble_eq_true rfl) dX2_moves_29 ⟨Nat.le_of_ble_eq_true rfl, Nat.le_of_ble_eq_true rfl⟩); exact (g_runF S hK I (As := [.ref (plA ad p)]) (rest := [.int c, .ref (ad 0), .int (w (125 + 3 * c.toNatClampNeg + 2)), .ref (ad (10 + c.toNatClampNeg))]) (met_p_distance_H l Γ htr ph i ad na mc w (plc w c) p hW hw hpl hp0 e8) (ci := 6) rfl (va_cwF 1 hts (lw_F q1206 q1210 q1212 q157 q1214) rfl rfl rfl (hK.F 10 rfl) (by decide +kernel) ⟨Nat.le_of_ble_eq_true rfl, Nat.le_of_ble_eq_true rfl⟩) (g_recv hK I (g_at.of r9) (ci := 6) rfl) rfl hl.1 rfl (Nat.le_of_ble_eq_true rfl) dX2_moves_29 ⟨Nat.le_of_ble_eq_true rfl, Nat.le_of_ble_eq_true rfl⟩); exact (g_runF S hK I (As := [.ref (plA ad p)]) (rest := [.int c, .ref (ad 0), .int (w (125 + 3 * c.toNatClampNeg + 2)), .ref (ad (10 + c.toNatClampNeg))]) (met_p_distance_G l Γ htr ph i ad na mc w (plc w c) p hW hw hpl hp0 e8) (ci := 3) rfl (va_cwF 1 hts (lw_F q1206 q1285 q1287 q149 q1289) rfl rfl rfl (hK.F 26 rfl) (by decide +kernel) ⟨Nat.le_of_ble_eq_true rfl, Nat.le_of_ble_eq_true rfl⟩) (g_recv hK I (g_at.of r9) (ci := 3) rfl) rfl hl.1 rfl (Nat.le_of_ble_eq_true rfl) dX2_moves_29 ⟨Nat.le_of_ble_eq_true rfl, Nat.le_of_ble_eq_true rfl⟩)) I (fun r_29 ph1 H locs hp I => ?_)
  obtain ⟨hp, hph⟩ := hp
  rw [hph] at I
  have hp : r_29 = (dst w (plc w c) p) := hp
  rw [hp]
  refine g_ci (g_runV S hK I (As := [.int c, .int (dst w (plc w c) p)]) (rest := [.int (w (125 + 3 * c.toNatClampNeg + 2)), .ref (ad (10 + c.toNatClampNeg))]) (met_X2_grip l Γ htr ph i ad na mc w c (dst w (plc w c) p) hW hw  ) (cwV 2 hts (lw_V q1944 q1946 qs18 q121 q1947) rfl rfl rfl (by decide +kernel) ⟨Nat.le_of_ble_eq_true rfl, Nat.le_of_ble_eq_true rfl⟩) (g_recv hK I (g_at.of hW.o0) (ci := 1) rfl) rfl hl.1 rfl (Nat.le_of_ble_eq_true rfl) dX2_moves_34 ⟨Nat.le_of_ble_eq_true rfl, Nat.le_of_ble_eq_true rfl⟩) I (fun r_34 ph1 H locs hp I => ?_)
  obtain ⟨hp, hph⟩ := hp
  rw [hph] at I
  have hp : r_34 = ((dst w (plc w c) p) + bits (carr w c)) := hp
  rw [hp]
  refine lv_isub hx hb dX2_moves_37 ?_
  refine g_putN S hK I k_X3 (v := .int ((w (125 + 3 * c.toNatClampNeg + 2)) - ((dst w (plc w c) p) + bits (carr w c)))) (hW.cl (c := c.toNatClampNeg) (by omega)) 3 (by decide) q219 rfl rfl rfl rfl (Nat.le_of_ble_eq_true rfl) dX2_moves_38 (fun H locs I => ?_)
  obtain ⟨P_1, I, hW, hG⟩ : ∃ zz, g_I Γ zz s H locs ∧ g_Wl Γ zz i ad na mc (upd w (125 + 3 * c.toNatClampNeg + 2) ((w (125 + 3 * c.toNatClampNeg + 2)) - ((dst w (plc w c) p) + bits (carr w c)))) ∧ g_frR i ph zz := ⟨_, I, (hW.putc_2 hw (c := c.toNatClampNeg) (by omega)), g_frR.put⟩
  have hF : g_frR i ph P_1 := hG
  have hT : g_Tr 36 P_1 := hT.fr hG hW.ne
  have eR : nN (upd w (125 + 3 * c.toNatClampNeg + 2) ((w (125 + 3 * c.toNatClampNeg + 2)) - ((dst w (plc w c) p) + bits (carr w c)))) = nN w ∧ nLa (upd w (125 + 3 * c.toNatClampNeg + 2) ((w (125 + 3 * c.toNatClampNeg + 2)) - ((dst w (plc w c) p) + bits (carr w c)))) = nLa w := by refine ⟨nN_eq ?_, nLa_eq ?_⟩ <;> first | exact upd_n (by omega) | rw [upd_n (by omega), upd_n (by omega)] | (rw [minW_n hw (by omega)])
  have eN : nN (upd w (125 + 3 * c.toNatClampNeg + 2) ((w (125 + 3 * c.toNatClampNeg + 2)) - ((dst w (plc w c) p) + bits (carr w c)))) = nN w := eR.1
  have eL : nLa (upd w (125 + 3 * c.toNatClampNeg + 2) ((w (125 + 3 * c.toNatClampNeg + 2)) - ((dst w (plc w c) p) + bits (carr w c)))) = nLa w := eR.2
  have hw : WF (upd w (125 + 3 * c.toNatClampNeg + 2) ((w (125 + 3 * c.toNatClampNeg + 2)) - ((dst w (plc w c) p) + bits (carr w c)))) := (hw.cgrip (c := c.toNatClampNeg) (by omega) (mv_grip hw0 hc hp0 hy_3))
  refine lv_aload_n hx hb dX2_moves_41 rfl (lv_at hl 0 rfl) ?_
  refine lv_iload_n hx hb dX2_moves_42 rfl (lv_at hl 3 rfl) ?_
  refine lv_iconst (v := 0) hx hb dX2_moves_43 (by decide) ?_
  have eN0 := eN
  refine g_cv (g_runV S hK I (As := [.int p, .int 0]) (rest := []) (met_X3_comes l Γ htr P_1 i ad na mc (upd w (125 + 3 * c.toNatClampNeg + 2) ((w (125 + 3 * c.toNatClampNeg + 2)) - ((dst w (plc w c) p) + bits (carr w c)))) c.toNatClampNeg p 0 hW hw  (by omega) (okP_N eN hp0) ⟨0, by decide, rfl⟩) (cwV 2 hts (lw_V q1959 q1960 q1961 q122 q1962) rfl rfl rfl (by decide +kernel) ⟨Nat.le_of_ble_eq_true rfl, Nat.le_of_ble_eq_true rfl⟩) (g_recv hK I (g_at.of (hW.cl (c := c.toNatClampNeg) (by omega))) (ci := 2) rfl) rfl hl.1 rfl (Nat.le_of_ble_eq_true rfl) dX2_moves_44 ⟨Nat.le_of_ble_eq_true rfl, Nat.le_of_ble_eq_true rfl⟩) I (fun ph1 H locs hp I => ?_)
  obtain ⟨na_3, mc_4, hW, hG⟩ := hp
  have I : g_I Γ ph1 s H locs := I
  generalize ph1 = P_2 at I hW hG
  have hF : g_frR i ph P_2 := hF.trans hG
  have hT : g_Tr 36 P_2 := hT.fr hG hW.ne
  have eR : nN (upd (upd (upd w (125 + 3 * c.toNatClampNeg + 2) ((w (125 + 3 * c.toNatClampNeg + 2)) - ((dst w (plc w c) p) + bits (carr w c)))) (125 + 3 * c.toNatClampNeg) p) (125 + 3 * c.toNatClampNeg + 1) 0) = nN (upd w (125 + 3 * c.toNatClampNeg + 2) ((w (125 + 3 * c.toNatClampNeg + 2)) - ((dst w (plc w c) p) + bits (carr w c)))) ∧ nLa (upd (upd (upd w (125 + 3 * c.toNatClampNeg + 2) ((w (125 + 3 * c.toNatClampNeg + 2)) - ((dst w (plc w c) p) + bits (carr w c)))) (125 + 3 * c.toNatClampNeg) p) (125 + 3 * c.toNatClampNeg + 1) 0) = nLa (upd w (125 + 3 * c.toNatClampNeg + 2) ((w (125 + 3 * c.toNatClampNeg + 2)) - ((dst w (plc w c) p) + bits (carr w c)))) := by refine ⟨nN_eq ?_, nLa_eq ?_⟩ <;> first | exact upd_n (by omega) | rw [upd_n (by omega), upd_n (by omega)] | (rw [minW_n hw (by omega)])
  have eN : nN (upd (upd (upd w (125 + 3 * c.toNatClampNeg + 2) ((w (125 + 3 * c.toNatClampNeg + 2)) - ((dst w (plc w c) p) + bits (carr w c)))) (125 + 3 * c.toNatClampNeg) p) (125 + 3 * c.toNatClampNeg + 1) 0) = nN w := eR.1.trans eN
  have eL : nLa (upd (upd (upd w (125 + 3 * c.toNatClampNeg + 2) ((w (125 + 3 * c.toNatClampNeg + 2)) - ((dst w (plc w c) p) + bits (carr w c)))) (125 + 3 * c.toNatClampNeg) p) (125 + 3 * c.toNatClampNeg + 1) 0) = nLa w := eR.2.trans eL
  have hw : WF (upd (upd (upd w (125 + 3 * c.toNatClampNeg + 2) ((w (125 + 3 * c.toNatClampNeg + 2)) - ((dst w (plc w c) p) + bits (carr w c)))) (125 + 3 * c.toNatClampNeg) p) (125 + 3 * c.toNatClampNeg + 1) 0) := ((hw.cplace (c := c.toNatClampNeg) (by omega) (okP_N eN0 hp0)).cstat (c := c.toNatClampNeg) (by omega) ⟨0, by decide, rfl⟩)
  refine lv_aload_n hx hb dX2_moves_47 rfl (lv_at hl 1 rfl) ?_
  refine lv_dup hx hb dX2_moves_48 rfl ?_
  refine g_get S hK I k_X2 (v := .int ((upd (upd (upd w (125 + 3 * c.toNatClampNeg + 2) ((w (125 + 3 * c.toNatClampNeg + 2)) - ((dst w (plc w c) p) + bits (carr w c)))) (125 + 3 * c.toNatClampNeg) p) (125 + 3 * c.toNatClampNeg + 1) 0) 141)) (g_at.of hW.o0) 11 (by decide) q664 rfl rfl dX2_moves_49 ?_
  refine lv_iconst (v := 1) hx hb dX2_moves_52 (by decide) ?_
  refine lv_iadd hx hb dX2_moves_53 ?_
  refine g_put S hK I k_X2 (v := .int (((upd (upd (upd w (125 + 3 * c.toNatClampNeg + 2) ((w (125 + 3 * c.toNatClampNeg + 2)) - ((dst w (plc w c) p) + bits (carr w c)))) (125 + 3 * c.toNatClampNeg) p) (125 + 3 * c.toNatClampNeg + 1) 0) 141) + 1)) hW.o0 11 (by decide) q664 rfl rfl rfl rfl (Nat.le_of_ble_eq_true rfl) dX2_moves_54 (fun H locs I => ?_)
  obtain ⟨P_5, I, hW, hG⟩ : ∃ zz, g_I Γ zz s H locs ∧ g_Wl Γ zz i ad na_3 mc_4 (upd (upd (upd (upd w (125 + 3 * c.toNatClampNeg + 2) ((w (125 + 3 * c.toNatClampNeg + 2)) - ((dst w (plc w c) p) + bits (carr w c)))) (125 + 3 * c.toNatClampNeg) p) (125 + 3 * c.toNatClampNeg + 1) 0) 141 (((upd (upd (upd w (125 + 3 * c.toNatClampNeg + 2) ((w (125 + 3 * c.toNatClampNeg + 2)) - ((dst w (plc w c) p) + bits (carr w c)))) (125 + 3 * c.toNatClampNeg) p) (125 + 3 * c.toNatClampNeg + 1) 0) 141) + 1)) ∧ g_frR i P_2 zz := ⟨_, I, (hW.put_141 hw), g_frR.put⟩
  have hF : g_frR i ph P_5 := hF.trans hG
  have hT : g_Tr 36 P_5 := hT.fr hG hW.ne
  have eR : nN (upd (upd (upd (upd w (125 + 3 * c.toNatClampNeg + 2) ((w (125 + 3 * c.toNatClampNeg + 2)) - ((dst w (plc w c) p) + bits (carr w c)))) (125 + 3 * c.toNatClampNeg) p) (125 + 3 * c.toNatClampNeg + 1) 0) 141 (((upd (upd (upd w (125 + 3 * c.toNatClampNeg + 2) ((w (125 + 3 * c.toNatClampNeg + 2)) - ((dst w (plc w c) p) + bits (carr w c)))) (125 + 3 * c.toNatClampNeg) p) (125 + 3 * c.toNatClampNeg + 1) 0) 141) + 1)) = nN (upd (upd (upd w (125 + 3 * c.toNatClampNeg + 2) ((w (125 + 3 * c.toNatClampNeg + 2)) - ((dst w (plc w c) p) + bits (carr w c)))) (125 + 3 * c.toNatClampNeg) p) (125 + 3 * c.toNatClampNeg + 1) 0) ∧ nLa (upd (upd (upd (upd w (125 + 3 * c.toNatClampNeg + 2) ((w (125 + 3 * c.toNatClampNeg + 2)) - ((dst w (plc w c) p) + bits (carr w c)))) (125 + 3 * c.toNatClampNeg) p) (125 + 3 * c.toNatClampNeg + 1) 0) 141 (((upd (upd (upd w (125 + 3 * c.toNatClampNeg + 2) ((w (125 + 3 * c.toNatClampNeg + 2)) - ((dst w (plc w c) p) + bits (carr w c)))) (125 + 3 * c.toNatClampNeg) p) (125 + 3 * c.toNatClampNeg + 1) 0) 141) + 1)) = nLa (upd (upd (upd w (125 + 3 * c.toNatClampNeg + 2) ((w (125 + 3 * c.toNatClampNeg + 2)) - ((dst w (plc w c) p) + bits (carr w c)))) (125 + 3 * c.toNatClampNeg) p) (125 + 3 * c.toNatClampNeg + 1) 0) := by refine ⟨nN_eq ?_, nLa_eq ?_⟩ <;> first | exact upd_n (by omega) | rw [upd_n (by omega), upd_n (by omega)] | (rw [minW_n hw (by omega)])
  have eN : nN (upd (upd (upd (upd w (125 + 3 * c.toNatClampNeg + 2) ((w (125 + 3 * c.toNatClampNeg + 2)) - ((dst w (plc w c) p) + bits (carr w c)))) (125 + 3 * c.toNatClampNeg) p) (125 + 3 * c.toNatClampNeg + 1) 0) 141 (((upd (upd (upd w (125 + 3 * c.toNatClampNeg + 2) ((w (125 + 3 * c.toNatClampNeg + 2)) - ((dst w (plc w c) p) + bits (carr w c)))) (125 + 3 * c.toNatClampNeg) p) (125 + 3 * c.toNatClampNeg + 1) 0) 141) + 1)) = nN w := eR.1.trans eN
  have eL : nLa (upd (upd (upd (upd w (125 + 3 * c.toNatClampNeg + 2) ((w (125 + 3 * c.toNatClampNeg + 2)) - ((dst w (plc w c) p) + bits (carr w c)))) (125 + 3 * c.toNatClampNeg) p) (125 + 3 * c.toNatClampNeg + 1) 0) 141 (((upd (upd (upd w (125 + 3 * c.toNatClampNeg + 2) ((w (125 + 3 * c.toNatClampNeg + 2)) - ((dst w (plc w c) p) + bits (carr w c)))) (125 + 3 * c.toNatClampNeg) p) (125 + 3 * c.toNatClampNeg + 1) 0) 141) + 1)) = nLa w := eR.2.trans eL
  have hw : WF (upd (upd (upd (upd w (125 + 3 * c.toNatClampNeg + 2) ((w (125 + 3 * c.toNatClampNeg + 2)) - ((dst w (plc w c) p) + bits (carr w c)))) (125 + 3 * c.toNatClampNeg) p) (125 + 3 * c.toNatClampNeg + 1) 0) 141 (((upd (upd (upd w (125 + 3 * c.toNatClampNeg + 2) ((w (125 + 3 * c.toNatClampNeg + 2)) - ((dst w (plc w c) p) + bits (carr w c)))) (125 + 3 * c.toNatClampNeg) p) (125 + 3 * c.toNatClampNeg + 1) 0) 141) + 1)) := (hw.any (by omega))
  have eW : (upd (upd (upd (upd w (125 + 3 * c.toNatClampNeg + 2) ((w (125 + 3 * c.toNatClampNeg + 2)) - ((dst w (plc w c) p) + bits (carr w c)))) (125 + 3 * c.toNatClampNeg) p) (125 + 3 * c.toNatClampNeg + 1) 0) 141 (((upd (upd (upd w (125 + 3 * c.toNatClampNeg + 2) ((w (125 + 3 * c.toNatClampNeg + 2)) - ((dst w (plc w c) p) + bits (carr w c)))) (125 + 3 * c.toNatClampNeg) p) (125 + 3 * c.toNatClampNeg + 1) 0) 141) + 1)) = (mv0 w c p) := rfl
  rw [eW] at hW eN eL
  have hw : WF (mv0 w c p) := eW ▸ hw
  refine lv_iload_n hx hb dX2_moves_57 rfl (lv_at hl 3 rfl) ?_
  refine lv_iconst (v := (-1)) hx hb dX2_moves_58 (by decide) ?_
  have J_116_5 : ∀ (P6 : g_H) (na6 : Nat → Nat) (mc6 : Nat → Int32) (H : Heap) (locs : List Loc) (ls : Array Slot), (hW : g_Wl Γ P6 i ad na6 mc6 (mvFl w cr n0 c p).1) → (hF : g_frR i ph P6) → g_I Γ P6 s H locs → lv_has ls 5 [(3, .ref (ad (10 + c.toNatClampNeg))), (0, .ref (ad 0)), (1, .int c), (2, .int p)] → W pg l e (g_rm 12 409 2069) s m A below meth cd H locs 409 2069 Q (F0 m 116 ls []) := by
    intro P6 na6 mc6 H locs ls hW hF I hl
    have hT := hT0.fr hF hW.ne
    have hw : WF (mvFl w cr n0 c p).1 := (mvFl_ok hw0 hc hp0 hy_3 hn9).1
    have eN : nN (mvFl w cr n0 c p).1 = nN (mvFl w cr n0 c p).1 := rfl
    have eL : nLa (mvFl w cr n0 c p).1 = nLa (mvFl w cr n0 c p).1 := rfl
    have hwl2 := hw.2.1
    refine lv_aload_n hx hb dX2_moves_116 rfl (lv_at hl 1 rfl) ?_
    refine g_cv (g_runV S hK I (As := []) (rest := []) (met_X2_minute l Γ htr P6 i ad na6 mc6 ((mvFl w cr n0 c p).1)  hW hw  ) (cwV 0 hts (lw_V q2141 q2143 qs27 q121 q2144) rfl rfl rfl (by decide +kernel) ⟨Nat.le_of_ble_eq_true rfl, Nat.le_of_ble_eq_true rfl⟩) (g_recv hK I (g_at.of hW.o0) (ci := 1) rfl) rfl hl.1 rfl (Nat.le_of_ble_eq_true rfl) dX2_moves_117 ⟨Nat.le_of_ble_eq_true rfl, Nat.le_of_ble_eq_true rfl⟩) I (fun ph1 H locs hp I => ?_)
    obtain ⟨na_8, mc_9, hW, hG⟩ := hp
    have I : g_I Γ ph1 s H locs := I
    generalize ph1 = P_7 at I hW hG
    have hF : g_frR i ph P_7 := hF.trans hG
    have hT : g_Tr 36 P_7 := hT.fr hG hW.ne
    have eR : nN (minW ((mvFl w cr n0 c p).1)) = nN ((mvFl w cr n0 c p).1) ∧ nLa (minW ((mvFl w cr n0 c p).1)) = nLa ((mvFl w cr n0 c p).1) := by refine ⟨nN_eq ?_, nLa_eq ?_⟩ <;> first | exact upd_n (by omega) | rw [upd_n (by omega), upd_n (by omega)] | (rw [minW_n hw (by omega)])
    have eN : nN (minW ((mvFl w cr n0 c p).1)) = nN ((mvFl w cr n0 c p).1) := eR.1.trans eN
    have eL : nLa (minW ((mvFl w cr n0 c p).1)) = nLa ((mvFl w cr n0 c p).1) := eR.2.trans eL
    have hw : WF (minW ((mvFl w cr n0 c p).1)) := hw.min
    refine lv_aload_n hx hb dX2_moves_120 rfl (lv_at hl 0 rfl) ?_
    refine g_getN S hK I k_X3 (v := .int ((minW ((mvFl w cr n0 c p).1)) (125 + 3 * c.toNatClampNeg + 1))) (g_at.of (hW.cl (c := c.toNatClampNeg) (by omega))) 2 (by decide) q215 rfl rfl dX2_moves_121 ?_
    exact g_iret S hr hlk I dX2_moves_124 (Nat.le_of_ble_eq_true rfl) (Nat.le_of_ble_eq_true rfl) hQ ⟨_, rfl, hy_3, rfl, ⟨_, _, hW, hF⟩⟩
  refine lv_icmp_eq (tgt := 116) hx hb dX2_moves_59 (by decide) (fun c_59 => ?_) (fun c_59 => ?_)
  · refine W.widen (k := 409) (n := 2069) (by dsimp only [g_rm]; omega) (by dsimp only [g_rm]; omega) ?_
    exact J_116_5 P_5 na_3 mc_4 _ _ _ (by have z : (mvFl w cr n0 c p) = (mv0 w c p, cr, n0) := if_pos c_59; rw [z]; exact hW) hF I (lv_sub hl [0, 1, 2, 3] rfl)
  · have hp1 : p.toNatClampNeg < nN (mv0 w c p) ∧ nI p.toNatClampNeg = p := by rw [eN]; exact okHx hw0 (hp0.resolve_left c_59)
    have hp2 := hp1.1
    refine lv_aload_n hx hb dX2_moves_62 rfl (lv_at hl 1 rfl) ?_
    refine g_get S hK I k_X2 (v := .ref (ad 1)) (g_at.of hW.o0) 0 (by decide) q643 rfl rfl dX2_moves_63 ?_
    refine lv_iload_n hx hb dX2_moves_66 rfl (lv_at hl 3 rfl) ?_
    refine g_cr (g_runV S hK I (As := [.int p]) (rest := []) (by have z := (met_w_get1 l Γ P_5 i ad na_3 mc_4 (mv0 w c p) hW hw p.toNatClampNeg hp1.1); rw [hp1.2] at z; exact z) (cwV 1 hts (lw_V q883 q793 q3509 q130 q795) rfl rfl rfl (by decide +kernel) ⟨Nat.le_of_ble_eq_true rfl, Nat.le_of_ble_eq_true rfl⟩) (g_recv hK I (g_at.of hW.o1) (ci := 21) rfl) rfl hl.1 rfl (Nat.le_of_ble_eq_true rfl) dX2_moves_67 ⟨Nat.le_of_ble_eq_true rfl, Nat.le_of_ble_eq_true rfl⟩) I (fun r_67 ph1 H locs hp I => ?_)
    obtain ⟨hp, hph⟩ := hp
    rw [hph] at I
    have hp : r_67 = (ad (30 + p.toNatClampNeg)) := hp
    rw [hp]
    refine h_cast S hK I (ho_or hW hw (k := p.toNatClampNeg) (by omega)) q1389 hca_Hold dX2_moves_70 ?_
    refine lv_astore (lv' := [(4, .ref (ad (30 + p.toNatClampNeg))), (3, .ref (ad (10 + c.toNatClampNeg))), (0, .ref (ad 0)), (1, .int c), (2, .int p)]) hx hb dX2_moves_73 hl (by decide) rfl (fun ls hl => ?_)
    refine lv_aload hx hb dX2_moves_75 (lv_at hl 0 rfl) ?_
    refine lv_aload hx hb dX2_moves_77 (lv_at hl 0 rfl) ?_
    refine g_ci (by obtain ⟨fs9, h9⟩ := ho_or hW hw (k := p.toNatClampNeg) (by omega); rcases h9 with ⟨e9, r9⟩ | ⟨e9, r9⟩ | ⟨e9, r9⟩ | ⟨e9, r9⟩; exact (g_runU S hK I (As := []) (rest := [.ref (ad (30 + p.toNatClampNeg))]) (met_X9_worn_k l Γ P_5 (ad (30 + p.toNatClampNeg)) (kd := ((mv0 w c p) (1 + 5 * p.toNatClampNeg + 2))) e9) (g_cwD (n := 0) hts q1971 q159 (by decide) (by decide +kernel) q1963 q1965 (g_declN (hK.N q1964 rfl)) q1969 q1970 ⟨Nat.le_of_ble_eq_true rfl, Nat.le_of_ble_eq_true rfl⟩) (g_recv hK I (g_at.of r9) (ci := 7) rfl) rfl hl.1 rfl (Nat.le_of_ble_eq_true rfl) dX2_moves_79 ⟨Nat.le_of_ble_eq_true rfl, Nat.le_of_ble_eq_true rfl⟩); exact (g_runU S hK I (As := []) (rest := [.ref (ad (30 + p.toNatClampNeg))]) (met_X11_worn_k l Γ P_5 (ad (30 + p.toNatClampNeg)) (kd := ((mv0 w c p) (1 + 5 * p.toNatClampNeg + 2))) e9) (g_cwD (n := 0) hts q1977 q161 (by decide) (by decide +kernel) q1963 q1965 (g_declN (hK.N q1964 rfl)) q1975 q1976 ⟨Nat.le_of_ble_eq_true rfl, Nat.le_of_ble_eq_true rfl⟩) (g_recv hK I (g_at.of r9) (ci := 9) rfl) rfl hl.1 rfl (Nat.le_of_ble_eq_true rfl) dX2_moves_79 ⟨Nat.le_of_ble_eq_true rfl, Nat.le_of_ble_eq_true rfl⟩); exact (g_runU S hK I (As := []) (rest := [.ref (ad (30 + p.toNatClampNeg))]) (met_X10_worn_k l Γ P_5 (ad (30 + p.toNatClampNeg)) (kd := ((mv0 w c p) (1 + 5 * p.toNatClampNeg + 2))) e9) (g_cwD (n := 0) hts q1974 q160 (by decide) (by decide +kernel) q1963 q1965 (g_declN (hK.N q1964 rfl)) q1972 q1973 ⟨Nat.le_of_ble_eq_true rfl, Nat.le_of_ble_eq_true rfl⟩) (g_recv hK I (g_at.of r9) (ci := 8) rfl) rfl hl.1 rfl (Nat.le_of_ble_eq_true rfl) dX2_moves_79 ⟨Nat.le_of_ble_eq_true rfl, Nat.le_of_ble_eq_true rfl⟩); exact (g_runU S hK I (As := []) (rest := [.ref (ad (30 + p.toNatClampNeg))]) (met_X8_worn_k l Γ P_5 (ad (30 + p.toNatClampNeg)) (kd := ((mv0 w c p) (1 + 5 * p.toNatClampNeg + 2))) e9) (g_cwD (n := 0) hts q1968 q158 (by decide) (by decide +kernel) q1963 q1965 (g_declN (hK.N q1964 rfl)) q1966 q1967 ⟨Nat.le_of_ble_eq_true rfl, Nat.le_of_ble_eq_true rfl⟩) (g_recv hK I (g_at.of r9) (ci := 6) rfl) rfl hl.1 rfl (Nat.le_of_ble_eq_true rfl) dX2_moves_79 ⟨Nat.le_of_ble_eq_true rfl, Nat.le_of_ble_eq_true rfl⟩)) I (fun r_79 ph1 H locs hp I => ?_)
    obtain ⟨hp, hph⟩ := hp
    rw [hph] at I
    have hp : r_79 = wrn ((mv0 w c p) (1 + 5 * p.toNatClampNeg + 2)) := hp
    rw [hp]
    refine lv_aload_n hx hb dX2_moves_82 rfl (lv_at hl 2 rfl) ?_
    refine lv_iload_n hx hb dX2_moves_83 rfl (lv_at hl 3 rfl) ?_
    refine g_ci (g_runV S hK I (As := [.int c]) (rest := [.int (wrn ((mv0 w c p) (1 + 5 * p.toNatClampNeg + 2))), .ref (ad (30 + p.toNatClampNeg))]) (met_X2_carriedBy l Γ htr P_5 i ad na_3 mc_4 (mv0 w c p) c hW hw  ) (cwV 1 hts (lw_V q1948 q1913 q1914 q121 q1915) rfl rfl rfl (by decide +kernel) ⟨Nat.le_of_ble_eq_true rfl, Nat.le_of_ble_eq_true rfl⟩) (g_recv hK I (g_at.of hW.o0) (ci := 1) rfl) rfl hl.1 rfl (Nat.le_of_ble_eq_true rfl) dX2_moves_84 ⟨Nat.le_of_ble_eq_true rfl, Nat.le_of_ble_eq_true rfl⟩) I (fun r_84 ph1 H locs hp I => ?_)
    obtain ⟨hp, hph⟩ := hp
    rw [hph] at I
    have hp : r_84 = (carr (mv0 w c p) c) := hp
    rw [hp]
    obtain ⟨q16, hq16, eq16⟩ := carr16 hw (c := c)
    rw [eq16]
    refine g_ci (g_runS S hK I (As := [.int (nI q16)]) (rest := [.int (wrn ((mv0 w c p) (1 + 5 * p.toNatClampNeg + 2))), .ref (ad (30 + p.toNatClampNeg))]) (met_J22_bitCount l Γ P_5 q16 hq16) (va_cwS 1 hts (lw_S q1949 q1950 q146 q1951) rfl rfl rfl (by decide +kernel) ⟨Nat.le_of_ble_eq_true rfl, Nat.le_of_ble_eq_true rfl⟩) rfl hl.1 rfl (Nat.le_of_ble_eq_true rfl) dX2_moves_87 ⟨Nat.le_of_ble_eq_true rfl, Nat.le_of_ble_eq_true rfl⟩) I (fun r_87 ph1 H locs hp I => ?_)
    obtain ⟨hp, hph⟩ := hp
    rw [hph] at I
    have hp : r_87 = bits (carr (mv0 w c p) c) := by rw [eq16]; exact hp
    rw [hp]
    refine lv_iconst (v := 2) hx hb dX2_moves_90 (by decide) ?_
    have J_99_9 : ∀ (x1 : Int32) (H : Heap) (locs : List Loc) (ls : Array Slot), (hx1 : x1 = (if bits (carr (mv0 w c p) c) = 2 then 1 else 0)) → g_I Γ P_5 s H locs → lv_has ls 5 [(4, .ref (ad (30 + p.toNatClampNeg))), (3, .ref (ad (10 + c.toNatClampNeg))), (0, .ref (ad 0)), (1, .int c), (2, .int p)] → W pg l e (g_rm 12 409 2069) s m A below meth cd H locs 9 69 Q (F0 m 99 ls [.int x1, .int (wrn ((mv0 w c p) (1 + 5 * p.toNatClampNeg + 2))), .ref (ad (30 + p.toNatClampNeg))]) := by
      intro x1 H locs ls hx1 I hl
      subst hx1
      refine lv_iadd hx hb dX2_moves_99 ?_
      refine g_cv (by obtain ⟨fs9, h9⟩ := ho_or hW hw (k := p.toNatClampNeg) (by omega); rcases h9 with ⟨e9, r9⟩ | ⟨e9, r9⟩ | ⟨e9, r9⟩ | ⟨e9, r9⟩; exact (g_runU S hK I (As := [.int ((wrn ((mv0 w c p) (1 + 5 * p.toNatClampNeg + 2))) + (if bits (carr (mv0 w c p) c) = 2 then 1 else 0))]) (rest := []) (met_X7_wears l Γ htr P_5 i ad na_3 mc_4 (mv0 w c p) p.toNatClampNeg ((wrn ((mv0 w c p) (1 + 5 * p.toNatClampNeg + 2))) + (if bits (carr (mv0 w c p) c) = 2 then 1 else 0)) hW hw  (by omega)) (g_cwD (n := 1) hts q1985 q157 (by decide) (by decide +kernel) q1978 q1980 (va_Decl.of (hts _ q1979) (hts _ q1985)) q1982 q1979 ⟨Nat.le_of_ble_eq_true rfl, Nat.le_of_ble_eq_true rfl⟩) (g_recv hK I (g_at.of r9) (ci := 7) rfl) rfl hl.1 rfl (Nat.le_of_ble_eq_true rfl) dX2_moves_100 ⟨Nat.le_of_ble_eq_true rfl, Nat.le_of_ble_eq_true rfl⟩); exact (g_runU S hK I (As := [.int ((wrn ((mv0 w c p) (1 + 5 * p.toNatClampNeg + 2))) + (if bits (carr (mv0 w c p) c) = 2 then 1 else 0))]) (rest := []) (met_X7_wears l Γ htr P_5 i ad na_3 mc_4 (mv0 w c p) p.toNatClampNeg ((wrn ((mv0 w c p) (1 + 5 * p.toNatClampNeg + 2))) + (if bits (carr (mv0 w c p) c) = 2 then 1 else 0)) hW hw  (by omega)) (g_cwD (n := 1) hts q1985 q157 (by decide) (by decide +kernel) q1978 q1980 (va_Decl.of (hts _ q1979) (hts _ q1985)) q1984 q1979 ⟨Nat.le_of_ble_eq_true rfl, Nat.le_of_ble_eq_true rfl⟩) (g_recv hK I (g_at.of r9) (ci := 9) rfl) rfl hl.1 rfl (Nat.le_of_ble_eq_true rfl) dX2_moves_100 ⟨Nat.le_of_ble_eq_true rfl, Nat.le_of_ble_eq_true rfl⟩); exact (g_runU S hK I (As := [.int ((wrn ((mv0 w c p) (1 + 5 * p.toNatClampNeg + 2))) + (if bits (carr (mv0 w c p) c) = 2 then 1 else 0))]) (rest := []) (met_X7_wears l Γ htr P_5 i ad na_3 mc_4 (mv0 w c p) p.toNatClampNeg ((wrn ((mv0 w c p) (1 + 5 * p.toNatClampNeg + 2))) + (if bits (carr (mv0 w c p) c) = 2 then 1 else 0)) hW hw  (by omega)) (g_cwD (n := 1) hts q1985 q157 (by decide) (by decide +kernel) q1978 q1980 (va_Decl.of (hts _ q1979) (hts _ q1985)) q1983 q1979 ⟨Nat.le_of_ble_eq_true rfl, Nat.le_of_ble_eq_true rfl⟩) (g_recv hK I (g_at.of r9) (ci := 8) rfl) rfl hl.1 rfl (Nat.le_of_ble_eq_true rfl) dX2_moves_100 ⟨Nat.le_of_ble_eq_true rfl, Nat.le_of_ble_eq_true rfl⟩); exact (g_runU S hK I (As := [.int ((wrn ((mv0 w c p) (1 + 5 * p.toNatClampNeg + 2))) + (if bits (carr (mv0 w c p) c) = 2 then 1 else 0))]) (rest := []) (met_X7_wears l Γ htr P_5 i ad na_3 mc_4 (mv0 w c p) p.toNatClampNeg ((wrn ((mv0 w c p) (1 + 5 * p.toNatClampNeg + 2))) + (if bits (carr (mv0 w c p) c) = 2 then 1 else 0)) hW hw  (by omega)) (g_cwD (n := 1) hts q1985 q157 (by decide) (by decide +kernel) q1978 q1980 (va_Decl.of (hts _ q1979) (hts _ q1985)) q1981 q1979 ⟨Nat.le_of_ble_eq_true rfl, Nat.le_of_ble_eq_true rfl⟩) (g_recv hK I (g_at.of r9) (ci := 6) rfl) rfl hl.1 rfl (Nat.le_of_ble_eq_true rfl) dX2_moves_100 ⟨Nat.le_of_ble_eq_true rfl, Nat.le_of_ble_eq_true rfl⟩)) I (fun ph1 H locs hp I => ?_)
      obtain ⟨na_12, mc_13, hW, hG⟩ := hp
      have I : g_I Γ ph1 s H locs := I
      generalize ph1 = P_11 at I hW hG
      have hF : g_frR i ph P_11 := hF.trans hG
      have hT : g_Tr 36 P_11 := hT.fr hG hW.ne
      have eR : nN (wrK (mv0 w c p) p.toNatClampNeg ((wrn ((mv0 w c p) (1 + 5 * p.toNatClampNeg + 2))) + (if bits (carr (mv0 w c p) c) = 2 then 1 else 0))) = nN (mv0 w c p) ∧ nLa (wrK (mv0 w c p) p.toNatClampNeg ((wrn ((mv0 w c p) (1 + 5 * p.toNatClampNeg + 2))) + (if bits (carr (mv0 w c p) c) = 2 then 1 else 0))) = nLa (mv0 w c p) := by refine ⟨nN_eq ?_, nLa_eq ?_⟩ <;> exact wrK_n (by omega)
      have eN : nN (wrK (mv0 w c p) p.toNatClampNeg ((wrn ((mv0 w c p) (1 + 5 * p.toNatClampNeg + 2))) + (if bits (carr (mv0 w c p) c) = 2 then 1 else 0))) = nN w := eR.1.trans eN
      have eL : nLa (wrK (mv0 w c p) p.toNatClampNeg ((wrn ((mv0 w c p) (1 + 5 * p.toNatClampNeg + 2))) + (if bits (carr (mv0 w c p) c) = 2 then 1 else 0))) = nLa w := eR.2.trans eL
      have hw : WF (wrK (mv0 w c p) p.toNatClampNeg ((wrn ((mv0 w c p) (1 + 5 * p.toNatClampNeg + 2))) + (if bits (carr (mv0 w c p) c) = 2 then 1 else 0))) := (hw.wrK (by have := hw0.1.2; omega))
      have eW : (wrK (mv0 w c p) p.toNatClampNeg ((wrn ((mv0 w c p) (1 + 5 * p.toNatClampNeg + 2))) + (if bits (carr (mv0 w c p) c) = 2 then 1 else 0))) = (mvR w c p) := mvR_K
      rw [eW] at hW eN eL
      have hw : WF (mvR w c p) := eW ▸ hw
      refine lv_aload hx hb dX2_moves_103 (lv_at hl 0 rfl) ?_
      refine g_ci (by obtain ⟨fs9, h9⟩ := ho_or hW hw (k := p.toNatClampNeg) (by omega); rcases h9 with ⟨e9, r9⟩ | ⟨e9, r9⟩ | ⟨e9, r9⟩ | ⟨e9, r9⟩; exact (g_runU S hK I (As := []) (rest := []) (met_X7_hasCrumbled l Γ htr P_11 i ad na_12 mc_13 (mvR w c p) p.toNatClampNeg hW hw  (by omega)) (g_cwD (n := 0) hts q1373 q157 (by decide) (by decide +kernel) q1920 q1368 (va_Decl.of (hts _ q1367) (hts _ q1373)) q1370 q1367 ⟨Nat.le_of_ble_eq_true rfl, Nat.le_of_ble_eq_true rfl⟩) (g_recv hK I (g_at.of r9) (ci := 7) rfl) rfl hl.1 rfl (Nat.le_of_ble_eq_true rfl) dX2_moves_105 ⟨Nat.le_of_ble_eq_true rfl, Nat.le_of_ble_eq_true rfl⟩); exact (g_runU S hK I (As := []) (rest := []) (met_X7_hasCrumbled l Γ htr P_11 i ad na_12 mc_13 (mvR w c p) p.toNatClampNeg hW hw  (by omega)) (g_cwD (n := 0) hts q1373 q157 (by decide) (by decide +kernel) q1920 q1368 (va_Decl.of (hts _ q1367) (hts _ q1373)) q1372 q1367 ⟨Nat.le_of_ble_eq_true rfl, Nat.le_of_ble_eq_true rfl⟩) (g_recv hK I (g_at.of r9) (ci := 9) rfl) rfl hl.1 rfl (Nat.le_of_ble_eq_true rfl) dX2_moves_105 ⟨Nat.le_of_ble_eq_true rfl, Nat.le_of_ble_eq_true rfl⟩); exact (g_runU S hK I (As := []) (rest := []) (met_X7_hasCrumbled l Γ htr P_11 i ad na_12 mc_13 (mvR w c p) p.toNatClampNeg hW hw  (by omega)) (g_cwD (n := 0) hts q1373 q157 (by decide) (by decide +kernel) q1920 q1368 (va_Decl.of (hts _ q1367) (hts _ q1373)) q1371 q1367 ⟨Nat.le_of_ble_eq_true rfl, Nat.le_of_ble_eq_true rfl⟩) (g_recv hK I (g_at.of r9) (ci := 8) rfl) rfl hl.1 rfl (Nat.le_of_ble_eq_true rfl) dX2_moves_105 ⟨Nat.le_of_ble_eq_true rfl, Nat.le_of_ble_eq_true rfl⟩); exact (g_runU S hK I (As := []) (rest := []) (met_X7_hasCrumbled l Γ htr P_11 i ad na_12 mc_13 (mvR w c p) p.toNatClampNeg hW hw  (by omega)) (g_cwD (n := 0) hts q1373 q157 (by decide) (by decide +kernel) q1920 q1368 (va_Decl.of (hts _ q1367) (hts _ q1373)) q1369 q1367 ⟨Nat.le_of_ble_eq_true rfl, Nat.le_of_ble_eq_true rfl⟩) (g_recv hK I (g_at.of r9) (ci := 6) rfl) rfl hl.1 rfl (Nat.le_of_ble_eq_true rfl) dX2_moves_105 ⟨Nat.le_of_ble_eq_true rfl, Nat.le_of_ble_eq_true rfl⟩)) I (fun r_105 ph1 H locs hp I => ?_)
      obtain ⟨hp, hph⟩ := hp
      rw [hph] at I
      have hp : r_105 = (b2i (hasCr (mvR w c p) (nI p.toNatClampNeg))) := hp
      rw [hp]
      rw [hp1.2]
      refine lv_if_eq (tgt := 116) hx hb dX2_moves_108 (by decide) (fun c_108 => ?_) (fun c_108 => ?_)
      · have p_108 := (b2i_eq0 _).mp c_108
        refine W.widen (k := 409) (n := 2069) (by dsimp only [g_rm]; omega) (by dsimp only [g_rm]; omega) ?_
        exact J_116_5 P_11 na_12 mc_13 _ _ _ (by have z : (mvFl w cr n0 c p) = (mvR w c p, cr, n0) := (if_neg c_59).trans (if_neg (by intro z; rw [z] at c_108; exact absurd c_108 (by decide))); rw [z]; exact hW) hF I (lv_sub hl [1, 2, 3, 4] rfl)
      · have p_108 := (b2i_ne0 _).mp c_108
        refine lv_aload_n hx hb dX2_moves_111 rfl (lv_at hl 2 rfl) ?_
        refine lv_iload_n hx hb dX2_moves_112 rfl (lv_at hl 4 rfl) ?_
        refine g_cv (g_runV S hK I (As := [.int p]) (rest := []) (met_X2_crumbles l Γ htr P_11 i ad na_12 mc_13 (mvR w c p) cr p hW hw hT (by rw [eN]; exact hp0.resolve_left c_59)) (cwV 1 hts (lw_V q1996 q1998 qs20 q121 q1999) rfl rfl rfl (by decide +kernel) ⟨Nat.le_of_ble_eq_true rfl, Nat.le_of_ble_eq_true rfl⟩) (g_recv hK I (g_at.of hW.o0) (ci := 1) rfl) rfl hl.1 rfl (Nat.le_of_ble_eq_true rfl) dX2_moves_113 ⟨Nat.le_of_ble_eq_true rfl, Nat.le_of_ble_eq_true rfl⟩) I (fun ph1 H locs hp I => ?_)
        obtain ⟨na8, mc8, hW, hG⟩ := hp
        have hF := hF.trans hG
        generalize ph1 = P7 at I hW hG hF
        refine W.widen (k := 409) (n := 2069) (by dsimp only [g_rm]; omega) (by dsimp only [g_rm]; omega) ?_
        exact J_116_5 P7 na8 mc8 _ _ _ (by have z : (mvFl w cr n0 c p) = (crW (mvR w c p) cr p) := (if_neg c_59).trans (if_pos (by by_cases z : hasCr (mvR w c p) p = true; exact z; rw [Bool.not_eq_true] at z; rw [z] at c_108; exact absurd rfl c_108)); rw [z]; exact hW) hF I (lv_sub hl [1, 2, 3, 4] rfl)
    refine lv_icmp_ne (tgt := 98) hx hb dX2_moves_91 (by decide) (fun c_91 => ?_) (fun c_91 => ?_)
    · refine lv_iconst (v := 0) hx hb dX2_moves_98 (by decide) ?_
      exact J_99_9 0 _ _ _ (by simp [c_91]) I (lv_sub hl [0, 1, 2, 3, 4] rfl)
    · refine lv_iconst (v := 1) hx hb dX2_moves_94 (by decide) ?_
      refine lv_goto (tgt := 99) hx hb dX2_moves_95 (by decide) ?_
      exact J_99_9 1 _ _ _ (by simp [c_91]) I (lv_sub hl [0, 1, 2, 3, 4] rfl)

set_option maxHeartbeats 4000000 in
set_option maxRecDepth 100000 in
theorem met_X2_outAgain (l : Launch) (Γ : g_C) (htr : l.stackTraces = false) (ph : g_H) (i : Nat) (ad na : Nat → Nat) (mc : Nat → Int32) (w : m_w)  (hW : g_Wl Γ ph i ad na mc w) (hw : WF w) (hT : g_Tr 34 ph) : g_Met l yX2_outAgain (ws_ yX2_outAgain cX2_outAgain 6 (some .int)) (g_rm 6 2 7) Γ [.ref (ad 0)] ph (g_oi (fun rv_ ph' => rv_ = (ropeO w) ∧ ph' = ph)) g_no := by
  refine g_start (y := yX2_outAgain) (cc := cX2_outAgain) (maxL := 6) (ret := (some .int)) (rm := g_rm 6 2 7) (by decide) (Nat.le_of_ble_eq_true rfl) ?_
  intro pg e s m A below meth cd ls Q hQ S hr hlk hex hnm hK I hl
  have hx := S.1
  have hb := S.2.1
  have hown := S.2.2.2.1
  have hts := S.2.2.2.2
  have S : CallFix pg m cd cX2_outAgain 6 s A lw_all "CrumblingWall$Wall" := S
  have hl : lv_has ls 6 [(0, .ref (ad 0))] := hl
  have hwc := hw.1; have hwl := hw.2.1; have hwa := hw.2.2.1
  refine lv_iconst (v := 0) hx hb dX2_outAgain_0 (by decide) ?_
  refine lv_istore_n (lv' := [(1, .int 0), (0, .ref (ad 0))]) hx hb dX2_outAgain_1 rfl hl (by decide) rfl (fun ls hl => ?_)
  refine lv_iconst (v := 0) hx hb dX2_outAgain_2 (by decide) ?_
  refine lv_istore_n (lv' := [(2, .int 0), (1, .int 0), (0, .ref (ad 0))]) hx hb dX2_outAgain_3 rfl hl (by decide) rfl (fun ls hl => ?_)
  refine lv_aload_n hx hb dX2_outAgain_4 rfl (lv_at hl 2 rfl) ?_
  refine lv_iconst (v := 0) hx hb dX2_outAgain_5 (by decide) ?_
  refine g_cr (g_runV S hK I (As := [.int 0]) (rest := []) (met_X2_at l Γ htr ph i ad na mc w 0 hW hw  (vp_lit (by decide))) (cwV 1 hts (lw_V q778 q779 q780 q121 q781) rfl rfl rfl (by decide +kernel) ⟨Nat.le_of_ble_eq_true rfl, Nat.le_of_ble_eq_true rfl⟩) (g_recv hK I (g_at.of hW.o0) (ci := 1) rfl) rfl hl.1 rfl (Nat.le_of_ble_eq_true rfl) dX2_outAgain_6 ⟨Nat.le_of_ble_eq_true rfl, Nat.le_of_ble_eq_true rfl⟩) I (fun r_6 ph1 H locs hp I => ?_)
  obtain ⟨hp, hph⟩ := hp
  rw [hph] at I
  have hp : r_6 = (plA ad (plc w 0)) := hp
  rw [hp]
  refine lv_astore_n (lv' := [(3, .ref (plA ad (plc w 0))), (2, .int 0), (1, .int 0), (0, .ref (ad 0))]) hx hb dX2_outAgain_9 rfl hl (by decide) rfl (fun ls hl => ?_)
  refine lv_aload_n hx hb dX2_outAgain_10 rfl (lv_at hl 3 rfl) ?_
  refine g_get S hK I k_X2 (v := .ref (ad 5)) (g_at.of hW.o0) 2 (by decide) q648 rfl rfl dX2_outAgain_11 ?_
  refine g_cr (g_runV S hK I (As := []) (rest := []) (met_J24_descendingIterator l Γ ph 105 i (ad 5) 200 (nAn w) na (anI Γ w) (mc 0) 30 0 31 hW.o5 (by omega) (by decide) (by decide) (by decide) (by decide) (by decide)) (cwV 0 hts (lw_V q1302 q1303 q1304 q148 q1305) rfl rfl rfl (by decide +kernel) ⟨Nat.le_of_ble_eq_true rfl, Nat.le_of_ble_eq_true rfl⟩) (g_recv hK I (g_at.of hW.o5.1) (ci := 24) rfl) rfl hl.1 rfl (Nat.le_of_ble_eq_true rfl) dX2_outAgain_14 ⟨Nat.le_of_ble_eq_true rfl, Nat.le_of_ble_eq_true rfl⟩) I (fun v ph1 H locs hp I => ?_)
  obtain ⟨hfv, u, hv9, hu9, hg9⟩ := hp
  generalize ph1 = P_1 at I hv9 hu9 hg9
  have hW0 := hW
  have hW : g_Wl Γ P_1 i ad na mc w := hW0.frL hg9 (by simp)
  have hu9 : P_1 30 0 u = some (.inr (26, [.null, lkK (nAn w) (nAn w) na, .int (nI (nAn w)), .int (mc 0), .ref (ad 5)])) := by rw [show lkK (nAn w) (nAn w) na = .null from if_neg (Nat.lt_irrefl _)]; exact hu9
  refine lv_astore (lv' := [(4, .ref v), (3, .ref (plA ad (plc w 0))), (2, .int 0), (1, .int 0), (0, .ref (ad 0))]) hx hb dX2_outAgain_17 hl (by decide) rfl (fun ls hl => ?_)
  have L_19 : ∀ (d : Nat) (k : Nat) (P9 : g_H) (lr9 : Value) (sx : Int32) (sy : Int32) (q9 : Int32), (hk : k ≤ nAn w) → (hP9 : g_fr [(30, 0), (31, 0)] ph P9) → (hv9 : P9 31 0 v = some (.inr (29, [.ref u, .ref (ad 5)]))) → (hu9 : P9 30 0 u = some (.inr (26, [lr9, lkK k (nAn w) na, .int (nI k), .int (mc 0), .ref (ad 5)]))) → (hq9 : okP w q9) → (hE : sx + sy + (ropeN w (plc w 1) k).1 + dst w (ropeN w (plc w 1) k).2 q9 = ropeO w) → k < d → ∀ (H : Heap) (locs : List Loc) (ls : Array Slot), g_I Γ P9 s H locs → lv_has ls 6 [(0, .ref (ad 0)), (1, .int sx), (2, .int sy), (3, .ref (plA ad q9)), (4, .ref v)] → W pg l e (g_rm 6 2 7) s m A below meth cd H locs 2 7 Q (F0 m 19 ls []) := by
    intro d
    induction d with
    | zero => intro k P9 lr9 sx sy q9 hk hP9 hv9 hu9 hq9 hE hd; exact absurd hd (Nat.not_lt_zero _)
    | succ d ih =>
      intro k P9 lr9 sx sy q9 hk hP9 hv9 hu9 hq9 hE hd H locs ls I hl
      have hW := hW0.frL hP9 (by simp)
      refine lv_aload hx hb dX2_outAgain_19 (lv_at hl 4 rfl) ?_
      refine g_cFi (g_runF S hK I (As := []) (rest := []) (met_J40_hasNext l Γ P9 105 i (ad 5) (nAn w) na (mc 0) 30 0 u k 31 0 v lr9 _ hu9 hv9 (by omega)) (ci := 29) rfl (va_cwF 0 hts (lw_F q982 q1004 q1006 q177 q1008) rfl rfl rfl (hK.F 6 rfl) (by decide +kernel) ⟨Nat.le_of_ble_eq_true rfl, Nat.le_of_ble_eq_true rfl⟩) (g_recv hK I (g_at.of hv9) (ci := 29) rfl) rfl hl.1 rfl (Nat.le_of_ble_eq_true rfl) dX2_outAgain_21 ⟨Nat.le_of_ble_eq_true rfl, Nat.le_of_ble_eq_true rfl⟩) I (fun r_21 ph1 H locs hp I => ?_)
      obtain ⟨hp, hph⟩ := hp
      rw [hph] at I
      have hp : r_21 = (b2i (decide (0 < k))) := hp
      rw [hp]
      refine lv_if_eq (tgt := 76) hx hb dX2_outAgain_26 (by decide) (fun c_26 => ?_) (fun c_26 => ?_)
      · have p_26 := of_decide_eq_false ((b2i_eq0 _).mp c_26)
        have c_26 := p_26
        obtain rfl : k = 0 := by omega
        have I := I.forget hP9 hT (by simp)
        have hW := hW0
        refine lv_iload_n hx hb dX2_outAgain_76 rfl (lv_at hl 1 rfl) ?_
        refine lv_aload_n hx hb dX2_outAgain_77 rfl (lv_at hl 3 rfl) ?_
        refine lv_aload_n hx hb dX2_outAgain_78 rfl (lv_at hl 0 rfl) ?_
        refine lv_iconst (v := 1) hx hb dX2_outAgain_79 (by decide) ?_
        refine g_cr (g_runV S hK I (As := [.int 1]) (rest := [.ref (plA ad q9), .int sx]) (met_X2_at l Γ htr ph i ad na mc w 1 hW hw  (vp_lit (by decide))) (cwV 1 hts (lw_V q778 q779 q780 q121 q781) rfl rfl rfl (by decide +kernel) ⟨Nat.le_of_ble_eq_true rfl, Nat.le_of_ble_eq_true rfl⟩) (g_recv hK I (g_at.of hW.o0) (ci := 1) rfl) rfl hl.1 rfl (Nat.le_of_ble_eq_true rfl) dX2_outAgain_80 ⟨Nat.le_of_ble_eq_true rfl, Nat.le_of_ble_eq_true rfl⟩) I (fun r_80 ph1 H locs hp I => ?_)
        obtain ⟨hp, hph⟩ := hp
        rw [hph] at I
        have hp : r_80 = (plA ad (plc w 1)) := hp
        rw [hp]
        refine g_cFi (by rcases pl_or hW hw (p := q9) hq9 with ⟨e8, fs9, r9⟩ | ⟨e8, b8, n8, a8, fs9, h9⟩; rotate_left; rcases h9 with ⟨e9, r9⟩ | ⟨e9, r9⟩ | ⟨e9, r9⟩ | ⟨e9, r9⟩; exact (g_runF S hK I (As := [.ref (plA ad (plc w 1))]) (rest := [.int sx]) (met_p_aside_H l Γ htr ph i ad na mc w q9 (plc w 1) hW hw hq9 (hw.pl (c := 1) (vp_lit (by decide))) e8) (ci := 7) rfl (va_cwF 1 hts (lw_F q1323 q1329 q1240 q157 q1246) rfl rfl rfl (hK.F 15 rfl) (by decide +kernel) ⟨Nat.le_of_ble_eq_true rfl, Nat.le_of_ble_eq_true rfl⟩) (g_recv hK I (g_at.of r9) (ci := 7) rfl) rfl hl.1 rfl (Nat.le_of_ble_eq_true rfl) dX2_outAgain_83 ⟨Nat.le_of_ble_eq_true rfl, Nat.le_of_ble_eq_true rfl⟩); exact (g_runF S hK I (As := [.ref (plA ad (plc w 1))]) (rest := [.int sx]) (met_p_aside_H l Γ htr ph i ad na mc w q9 (plc w 1) hW hw hq9 (hw.pl (c := 1) (vp_lit (by decide))) e8) (ci := 9) rfl (va_cwF 1 hts (lw_F q1323 q1338 q1240 q157 q1246) rfl rfl rfl (hK.F 23 rfl) (by decide +kernel) ⟨Nat.le_of_ble_eq_true rfl, Nat.le_of_ble_eq_true rfl⟩) (g_recv hK I (g_at.of r9) (ci := 9) rfl) rfl hl.1 rfl (Nat.le_of_ble_eq_true rfl) dX2_outAgain_83 ⟨Nat.le_of_ble_eq_true rfl, Nat.le_of_ble_eq_true rfl⟩); exact (g_runF S hK I (As := [.ref (plA ad (plc w 1))]) (rest := [.int sx]) (met_p_aside_H l Γ htr ph i ad na mc w q9 (plc w 1) hW hw hq9 (hw.pl (c := 1) (vp_lit (by decide))) e8) (ci := 8) rfl (va_cwF 1 hts (lw_F q1323 q1331 q1240 q157 q1246) rfl rfl rfl (hK.F 19 rfl) (by decide +kernel) ⟨Nat.le_of_ble_eq_true rfl, Nat.le_of_ble_eq_true rfl⟩) (g_recv hK I (g_at.of r9) (ci := 8) rfl) rfl hl.1 rfl (Nat.le_of_ble_eq_true rfl) dX2_outAgain_83 ⟨Nat.le_of_ble_eq_true rfl, Nat.le_of_ble_eq_true rfl⟩); exact (g_runF S hK I (As := [.ref (plA ad (plc w 1))]) (rest := [.int sx]) (met_p_aside_H l Γ htr ph i ad na mc w q9 (plc w 1) hW hw hq9 (hw.pl (c := 1) (vp_lit (by decide))) e8) (ci := 6) rfl (va_cwF 1 hts (lw_F q1323 q1326 q1240 q157 q1246) rfl rfl rfl (hK.F 11 rfl) (by decide +kernel) ⟨Nat.le_of_ble_eq_true rfl, Nat.le_of_ble_eq_true rfl⟩) (g_recv hK I (g_at.of r9) (ci := 6) rfl) rfl hl.1 rfl (Nat.le_of_ble_eq_true rfl) dX2_outAgain_83 ⟨Nat.le_of_ble_eq_true rfl, Nat.le_of_ble_eq_true rfl⟩); exact (g_runF S hK I (As := [.ref (plA ad (plc w 1))]) (rest := [.int sx]) (met_p_aside_G l Γ htr ph i ad na mc w q9 (plc w 1) hW hw hq9 (hw.pl (c := 1) (vp_lit (by decide))) e8) (ci := 3) rfl (va_cwF 1 hts (lw_F q1323 q1333 q1335 q149 q1337) rfl rfl rfl (hK.F 27 rfl) (by decide +kernel) ⟨Nat.le_of_ble_eq_true rfl, Nat.le_of_ble_eq_true rfl⟩) (g_recv hK I (g_at.of r9) (ci := 3) rfl) rfl hl.1 rfl (Nat.le_of_ble_eq_true rfl) dX2_outAgain_83 ⟨Nat.le_of_ble_eq_true rfl, Nat.le_of_ble_eq_true rfl⟩)) I (fun r_83 ph1 H locs hp I => ?_)
        obtain ⟨hp, hph⟩ := hp
        rw [hph] at I
        have hp : r_83 = (asd w q9 (plc w 1)) := hp
        rw [hp]
        refine lv_iadd hx hb dX2_outAgain_88 ?_
        refine lv_iload_n hx hb dX2_outAgain_89 rfl (lv_at hl 2 rfl) ?_
        refine lv_iadd hx hb dX2_outAgain_90 ?_
        refine lv_aload_n hx hb dX2_outAgain_91 rfl (lv_at hl 3 rfl) ?_
        refine lv_aload_n hx hb dX2_outAgain_92 rfl (lv_at hl 0 rfl) ?_
        refine lv_iconst (v := 1) hx hb dX2_outAgain_93 (by decide) ?_
        refine g_cr (g_runV S hK I (As := [.int 1]) (rest := [.ref (plA ad q9), .int ((sx + (asd w q9 (plc w 1))) + sy)]) (met_X2_at l Γ htr ph i ad na mc w 1 hW hw  (vp_lit (by decide))) (cwV 1 hts (lw_V q778 q779 q780 q121 q781) rfl rfl rfl (by decide +kernel) ⟨Nat.le_of_ble_eq_true rfl, Nat.le_of_ble_eq_true rfl⟩) (g_recv hK I (g_at.of hW.o0) (ci := 1) rfl) rfl hl.1 rfl (Nat.le_of_ble_eq_true rfl) dX2_outAgain_94 ⟨Nat.le_of_ble_eq_true rfl, Nat.le_of_ble_eq_true rfl⟩) I (fun r_94 ph1 H locs hp I => ?_)
        obtain ⟨hp, hph⟩ := hp
        rw [hph] at I
        have hp : r_94 = (plA ad (plc w 1)) := hp
        rw [hp]
        refine g_cFi (by rcases pl_or hW hw (p := q9) hq9 with ⟨e8, fs9, r9⟩ | ⟨e8, b8, n8, a8, fs9, h9⟩; rotate_left; rcases h9 with ⟨e9, r9⟩ | ⟨e9, r9⟩ | ⟨e9, r9⟩ | ⟨e9, r9⟩; exact (g_runFD (n := 0) S hK I (As := [.ref (plA ad (plc w 1))]) (rest := [.int ((sx + (asd w q9 (plc w 1))) + sy)]) (met_X13_upOrDown l Γ htr ph i ad na mc w q9 (plc w 1) hW hw hq9 (hw.pl (c := 1) (vp_lit (by decide)))) (ci := 7) rfl (by decide) q1341 q1224 (g_recv hK I (g_at.of r9) (ci := 7) rfl) ⟨Nat.le_of_ble_eq_true rfl, Nat.le_of_ble_eq_true rfl⟩ rfl hl.1 rfl (Nat.le_of_ble_eq_true rfl) dX2_outAgain_97 ⟨Nat.le_of_ble_eq_true rfl, Nat.le_of_ble_eq_true rfl⟩); exact (g_runFD (n := 0) S hK I (As := [.ref (plA ad (plc w 1))]) (rest := [.int ((sx + (asd w q9 (plc w 1))) + sy)]) (met_X13_upOrDown l Γ htr ph i ad na mc w q9 (plc w 1) hW hw hq9 (hw.pl (c := 1) (vp_lit (by decide)))) (ci := 9) rfl (by decide) q1341 q1236 (g_recv hK I (g_at.of r9) (ci := 9) rfl) ⟨Nat.le_of_ble_eq_true rfl, Nat.le_of_ble_eq_true rfl⟩ rfl hl.1 rfl (Nat.le_of_ble_eq_true rfl) dX2_outAgain_97 ⟨Nat.le_of_ble_eq_true rfl, Nat.le_of_ble_eq_true rfl⟩); exact (g_runFD (n := 0) S hK I (As := [.ref (plA ad (plc w 1))]) (rest := [.int ((sx + (asd w q9 (plc w 1))) + sy)]) (met_X13_upOrDown l Γ htr ph i ad na mc w q9 (plc w 1) hW hw hq9 (hw.pl (c := 1) (vp_lit (by decide)))) (ci := 8) rfl (by decide) q1341 q1227 (g_recv hK I (g_at.of r9) (ci := 8) rfl) ⟨Nat.le_of_ble_eq_true rfl, Nat.le_of_ble_eq_true rfl⟩ rfl hl.1 rfl (Nat.le_of_ble_eq_true rfl) dX2_outAgain_97 ⟨Nat.le_of_ble_eq_true rfl, Nat.le_of_ble_eq_true rfl⟩); exact (g_runFD (n := 0) S hK I (As := [.ref (plA ad (plc w 1))]) (rest := [.int ((sx + (asd w q9 (plc w 1))) + sy)]) (met_X13_upOrDown l Γ htr ph i ad na mc w q9 (plc w 1) hW hw hq9 (hw.pl (c := 1) (vp_lit (by decide)))) (ci := 6) rfl (by decide) q1341 q1209 (g_recv hK I (g_at.of r9) (ci := 6) rfl) ⟨Nat.le_of_ble_eq_true rfl, Nat.le_of_ble_eq_true rfl⟩ rfl hl.1 rfl (Nat.le_of_ble_eq_true rfl) dX2_outAgain_97 ⟨Nat.le_of_ble_eq_true rfl, Nat.le_of_ble_eq_true rfl⟩); exact (g_runFD (n := 0) S hK I (As := [.ref (plA ad (plc w 1))]) (rest := [.int ((sx + (asd w q9 (plc w 1))) + sy)]) (met_X13_upOrDown l Γ htr ph i ad na mc w q9 (plc w 1) hW hw hq9 (hw.pl (c := 1) (vp_lit (by decide)))) (ci := 3) rfl (by decide) q1341 q1230 (g_recv hK I (g_at.of r9) (ci := 3) rfl) ⟨Nat.le_of_ble_eq_true rfl, Nat.le_of_ble_eq_true rfl⟩ rfl hl.1 rfl (Nat.le_of_ble_eq_true rfl) dX2_outAgain_97 ⟨Nat.le_of_ble_eq_true rfl, Nat.le_of_ble_eq_true rfl⟩)) I (fun r_97 ph1 H locs hp I => ?_)
        obtain ⟨hp, hph⟩ := hp
        rw [hph] at I
        have hp : r_97 = (uod w q9 (plc w 1)) := hp
        rw [hp]
        refine lv_iadd hx hb dX2_outAgain_102 ?_
        exact g_iret S hr hlk I dX2_outAgain_103 (Nat.le_of_ble_eq_true rfl) (Nat.le_of_ble_eq_true rfl) hQ ⟨_, rfl, (ag_end hw hq9 (hw.pl (c := 1) (vp_lit (by decide))) hE), rfl⟩
      · have p_26 := of_decide_eq_true ((b2i_ne0 _).mp c_26)
        have c_26 := p_26
        obtain ⟨k8, rfl⟩ : ∃ k8, k = k8 + 1 := ⟨k - 1, by omega⟩
        refine lv_aload_n hx hb dX2_outAgain_29 rfl (lv_at hl 0 rfl) ?_
        refine lv_aload hx hb dX2_outAgain_30 (lv_at hl 4 rfl) ?_
        have hkl : k8 < nAn w := by omega
        have hb9 : (w (132 + k8)).toNatClampNeg < nN w ∧ nI (w (132 + k8)).toNatClampNeg = w (132 + k8) := okHx hw (hw.2.2.2.2.2.2.2 k8 hkl)
        have hb8 := hb9.1
        refine g_cFr (g_runF S hK I (As := []) (rest := [.ref (ad 0)]) (met_J40_next l Γ P9 105 i (ad 5) 200 (nAn w) na (anI Γ w) (mc 0) 30 0 u k8 31 0 v lr9 hW.o5 hu9 (by omega) hkl (by decide) (by decide) hv9) (ci := 29) rfl (va_cwF 0 hts (lw_F q1020 q1178 q1180 q177 q1182) rfl rfl rfl (hK.F 7 rfl) (by decide +kernel) ⟨Nat.le_of_ble_eq_true rfl, Nat.le_of_ble_eq_true rfl⟩) (g_recv hK I (g_at.of hv9) (ci := 29) rfl) rfl hl.1 rfl (Nat.le_of_ble_eq_true rfl) dX2_outAgain_32 ⟨Nat.le_of_ble_eq_true rfl, Nat.le_of_ble_eq_true rfl⟩) I (fun r_32 ph1 H locs hp I => ?_)
        obtain ⟨hp, hu9, hg9⟩ := hp
        generalize ph1 = P_2 at I hu9 hg9
        have hv9 : P_2 31 0 v = some (.inr (29, [.ref u, .ref (ad 5)])) := by rw [hg9 31 0 (by simp)]; exact hv9
        have hW : g_Wl Γ P_2 i ad na mc w := hW.frL hg9 (by simp)
        have hP9 := hP9.trans (hg9.mono (by simp))
        have hu9 : P_2 30 0 u = some (.inr (26, [.ref (na k8), lkK k8 (nAn w) na, .int (nI k8), .int (mc 0), .ref (ad 5)])) := by rw [show lkK k8 (nAn w) na = .ref (na k8) from if_pos hkl]; exact hu9
        have hp : r_32 = (g_bx Γ (w (132 + k8)).toNatClampNeg) := hp
        rw [hp]
        refine g_castI S hK q1200 (g_recvB hK I (by omega)) dX2_outAgain_37 ?_
        refine g_ci (g_runV S hK I (As := []) (rest := [.ref (ad 0)]) (met_J22_intValue l Γ P_2 (w (132 + k8)).toNatClampNeg (by omega)) (cwV 0 hts (lw_V q1201 q1202 q1203 q146 q1204) rfl rfl rfl (by decide +kernel) ⟨Nat.le_of_ble_eq_true rfl, Nat.le_of_ble_eq_true rfl⟩) (g_recvB hK I (by omega)) rfl hl.1 rfl (Nat.le_of_ble_eq_true rfl) dX2_outAgain_40 ⟨Nat.le_of_ble_eq_true rfl, Nat.le_of_ble_eq_true rfl⟩) I (fun r_40 ph1 H locs hp I => ?_)
        obtain ⟨hp, hph⟩ := hp
        rw [hph] at I
        have hp : r_40 = (w (132 + k8)) := hp.trans hb9.2
        rw [hp]
        refine g_cr (g_runV S hK I (As := [.int (w (132 + k8))]) (rest := []) (met_X2_place l Γ htr P_2 i ad na mc w (w (132 + k8)) hW hw  (wA_pl hw hkl)) (cwV 1 hts (lw_V q879 q880 q881 q121 q882) rfl rfl rfl (by decide +kernel) ⟨Nat.le_of_ble_eq_true rfl, Nat.le_of_ble_eq_true rfl⟩) (g_recv hK I (g_at.of hW.o0) (ci := 1) rfl) rfl hl.1 rfl (Nat.le_of_ble_eq_true rfl) dX2_outAgain_43 ⟨Nat.le_of_ble_eq_true rfl, Nat.le_of_ble_eq_true rfl⟩) I (fun r_43 ph1 H locs hp I => ?_)
        obtain ⟨hp, hph⟩ := hp
        rw [hph] at I
        have hp : r_43 = (plA ad (w (132 + k8))) := hp
        rw [hp]
        refine lv_astore (lv' := [(5, .ref (plA ad (w (132 + k8)))), (0, .ref (ad 0)), (1, .int sx), (2, .int sy), (3, .ref (plA ad q9)), (4, .ref v)]) hx hb dX2_outAgain_46 hl (by decide) rfl (fun ls hl => ?_)
        refine lv_iload_n hx hb dX2_outAgain_48 rfl (lv_at hl 2 rfl) ?_
        refine lv_aload_n hx hb dX2_outAgain_49 rfl (lv_at hl 4 rfl) ?_
        refine lv_aload hx hb dX2_outAgain_50 (lv_at hl 0 rfl) ?_
        refine g_cFi (by rcases pl_or hW hw (p := q9) hq9 with ⟨e8, fs9, r9⟩ | ⟨e8, b8, n8, a8, fs9, h9⟩; rotate_left; rcases h9 with ⟨e9, r9⟩ | ⟨e9, r9⟩ | ⟨e9, r9⟩ | ⟨e9, r9⟩; exact (g_runF S hK I (As := [.ref (plA ad (w (132 + k8)))]) (rest := [.int sx]) (met_p_aside_H l Γ htr P_2 i ad na mc w q9 (w (132 + k8)) hW hw hq9 (wA_pl hw hkl) e8) (ci := 7) rfl (va_cwF 1 hts (lw_F q1323 q1329 q1240 q157 q1246) rfl rfl rfl (hK.F 15 rfl) (by decide +kernel) ⟨Nat.le_of_ble_eq_true rfl, Nat.le_of_ble_eq_true rfl⟩) (g_recv hK I (g_at.of r9) (ci := 7) rfl) rfl hl.1 rfl (Nat.le_of_ble_eq_true rfl) dX2_outAgain_52 ⟨Nat.le_of_ble_eq_true rfl, Nat.le_of_ble_eq_true rfl⟩); exact (g_runF S hK I (As := [.ref (plA ad (w (132 + k8)))]) (rest := [.int sx]) (met_p_aside_H l Γ htr P_2 i ad na mc w q9 (w (132 + k8)) hW hw hq9 (wA_pl hw hkl) e8) (ci := 9) rfl (va_cwF 1 hts (lw_F q1323 q1338 q1240 q157 q1246) rfl rfl rfl (hK.F 23 rfl) (by decide +kernel) ⟨Nat.le_of_ble_eq_true rfl, Nat.le_of_ble_eq_true rfl⟩) (g_recv hK I (g_at.of r9) (ci := 9) rfl) rfl hl.1 rfl (Nat.le_of_ble_eq_true rfl) dX2_outAgain_52 ⟨Nat.le_of_ble_eq_true rfl, Nat.le_of_ble_eq_true rfl⟩); exact (g_runF S hK I (As := [.ref (plA ad (w (132 + k8)))]) (rest := [.int sx]) (met_p_aside_H l Γ htr P_2 i ad na mc w q9 (w (132 + k8)) hW hw hq9 (wA_pl hw hkl) e8) (ci := 8) rfl (va_cwF 1 hts (lw_F q1323 q1331 q1240 q157 q1246) rfl rfl rfl (hK.F 19 rfl) (by decide +kernel) ⟨Nat.le_of_ble_eq_true rfl, Nat.le_of_ble_eq_true rfl⟩) (g_recv hK I (g_at.of r9) (ci := 8) rfl) rfl hl.1 rfl (Nat.le_of_ble_eq_true rfl) dX2_outAgain_52 ⟨Nat.le_of_ble_eq_true rfl, Nat.le_of_ble_eq_true rfl⟩); exact (g_runF S hK I (As := [.ref (plA ad (w (132 + k8)))]) (rest := [.int sx]) (met_p_aside_H l Γ htr P_2 i ad na mc w q9 (w (132 + k8)) hW hw hq9 (wA_pl hw hkl) e8) (ci := 6) rfl (va_cwF 1 hts (lw_F q1323 q1326 q1240 q157 q1246) rfl rfl rfl (hK.F 11 rfl) (by decide +kernel) ⟨Nat.le_of_ble_eq_true rfl, Nat.le_of_ble_eq_true rfl⟩) (g_recv hK I (g_at.of r9) (ci := 6) rfl) rfl hl.1 rfl (Nat.le_of_ble_eq_true rfl) dX2_outAgain_52 ⟨Nat.le_of_ble_eq_true rfl, Nat.le_of_ble_eq_true rfl⟩); exact (g_runF S hK I (As := [.ref (plA ad (w (132 + k8)))]) (rest := [.int sx]) (met_p_aside_G l Γ htr P_2 i ad na mc w q9 (w (132 + k8)) hW hw hq9 (wA_pl hw hkl) e8) (ci := 3) rfl (va_cwF 1 hts (lw_F q1323 q1333 q1335 q149 q1337) rfl rfl rfl (hK.F 27 rfl) (by decide +kernel) ⟨Nat.le_of_ble_eq_true rfl, Nat.le_of_ble_eq_true rfl⟩) (g_recv hK I (g_at.of r9) (ci := 3) rfl) rfl hl.1 rfl (Nat.le_of_ble_eq_true rfl) dX2_outAgain_52 ⟨Nat.le_of_ble_eq_true rfl, Nat.le_of_ble_eq_true rfl⟩)) I (fun r_52 ph1 H locs hp I => ?_)
        obtain ⟨hp, hph⟩ := hp
        rw [hph] at I
        have hp : r_52 = (asd w q9 (w (132 + k8))) := hp
        rw [hp]
        refine lv_iadd hx hb dX2_outAgain_57 ?_
        refine lv_istore_n (lv' := [(1, .int (sx + (asd w q9 (w (132 + k8))))), (5, .ref (plA ad (w (132 + k8)))), (0, .ref (ad 0)), (2, .int sy), (3, .ref (plA ad q9)), (4, .ref v)]) hx hb dX2_outAgain_58 rfl hl (by decide) rfl (fun ls hl => ?_)
        refine lv_iload_n hx hb dX2_outAgain_59 rfl (lv_at hl 3 rfl) ?_
        refine lv_aload_n hx hb dX2_outAgain_60 rfl (lv_at hl 4 rfl) ?_
        refine lv_aload hx hb dX2_outAgain_61 (lv_at hl 1 rfl) ?_
        refine g_cFi (by rcases pl_or hW hw (p := q9) hq9 with ⟨e8, fs9, r9⟩ | ⟨e8, b8, n8, a8, fs9, h9⟩; rotate_left; rcases h9 with ⟨e9, r9⟩ | ⟨e9, r9⟩ | ⟨e9, r9⟩ | ⟨e9, r9⟩; exact (g_runFD (n := 0) S hK I (As := [.ref (plA ad (w (132 + k8)))]) (rest := [.int sy]) (met_X13_upOrDown l Γ htr P_2 i ad na mc w q9 (w (132 + k8)) hW hw hq9 (wA_pl hw hkl)) (ci := 7) rfl (by decide) q1341 q1224 (g_recv hK I (g_at.of r9) (ci := 7) rfl) ⟨Nat.le_of_ble_eq_true rfl, Nat.le_of_ble_eq_true rfl⟩ rfl hl.1 rfl (Nat.le_of_ble_eq_true rfl) dX2_outAgain_63 ⟨Nat.le_of_ble_eq_true rfl, Nat.le_of_ble_eq_true rfl⟩); exact (g_runFD (n := 0) S hK I (As := [.ref (plA ad (w (132 + k8)))]) (rest := [.int sy]) (met_X13_upOrDown l Γ htr P_2 i ad na mc w q9 (w (132 + k8)) hW hw hq9 (wA_pl hw hkl)) (ci := 9) rfl (by decide) q1341 q1236 (g_recv hK I (g_at.of r9) (ci := 9) rfl) ⟨Nat.le_of_ble_eq_true rfl, Nat.le_of_ble_eq_true rfl⟩ rfl hl.1 rfl (Nat.le_of_ble_eq_true rfl) dX2_outAgain_63 ⟨Nat.le_of_ble_eq_true rfl, Nat.le_of_ble_eq_true rfl⟩); exact (g_runFD (n := 0) S hK I (As := [.ref (plA ad (w (132 + k8)))]) (rest := [.int sy]) (met_X13_upOrDown l Γ htr P_2 i ad na mc w q9 (w (132 + k8)) hW hw hq9 (wA_pl hw hkl)) (ci := 8) rfl (by decide) q1341 q1227 (g_recv hK I (g_at.of r9) (ci := 8) rfl) ⟨Nat.le_of_ble_eq_true rfl, Nat.le_of_ble_eq_true rfl⟩ rfl hl.1 rfl (Nat.le_of_ble_eq_true rfl) dX2_outAgain_63 ⟨Nat.le_of_ble_eq_true rfl, Nat.le_of_ble_eq_true rfl⟩); exact (g_runFD (n := 0) S hK I (As := [.ref (plA ad (w (132 + k8)))]) (rest := [.int sy]) (met_X13_upOrDown l Γ htr P_2 i ad na mc w q9 (w (132 + k8)) hW hw hq9 (wA_pl hw hkl)) (ci := 6) rfl (by decide) q1341 q1209 (g_recv hK I (g_at.of r9) (ci := 6) rfl) ⟨Nat.le_of_ble_eq_true rfl, Nat.le_of_ble_eq_true rfl⟩ rfl hl.1 rfl (Nat.le_of_ble_eq_true rfl) dX2_outAgain_63 ⟨Nat.le_of_ble_eq_true rfl, Nat.le_of_ble_eq_true rfl⟩); exact (g_runFD (n := 0) S hK I (As := [.ref (plA ad (w (132 + k8)))]) (rest := [.int sy]) (met_X13_upOrDown l Γ htr P_2 i ad na mc w q9 (w (132 + k8)) hW hw hq9 (wA_pl hw hkl)) (ci := 3) rfl (by decide) q1341 q1230 (g_recv hK I (g_at.of r9) (ci := 3) rfl) ⟨Nat.le_of_ble_eq_true rfl, Nat.le_of_ble_eq_true rfl⟩ rfl hl.1 rfl (Nat.le_of_ble_eq_true rfl) dX2_outAgain_63 ⟨Nat.le_of_ble_eq_true rfl, Nat.le_of_ble_eq_true rfl⟩)) I (fun r_63 ph1 H locs hp I => ?_)
        obtain ⟨hp, hph⟩ := hp
        rw [hph] at I
        have hp : r_63 = (uod w q9 (w (132 + k8))) := hp
        rw [hp]
        refine lv_iadd hx hb dX2_outAgain_68 ?_
        refine lv_istore_n (lv' := [(2, .int (sy + (uod w q9 (w (132 + k8))))), (1, .int (sx + (asd w q9 (w (132 + k8))))), (5, .ref (plA ad (w (132 + k8)))), (0, .ref (ad 0)), (3, .ref (plA ad q9)), (4, .ref v)]) hx hb dX2_outAgain_69 rfl hl (by decide) rfl (fun ls hl => ?_)
        refine lv_aload hx hb dX2_outAgain_70 (lv_at hl 2 rfl) ?_
        refine lv_astore_n (lv' := [(3, .ref (plA ad (w (132 + k8)))), (2, .int (sy + (uod w q9 (w (132 + k8))))), (1, .int (sx + (asd w q9 (w (132 + k8))))), (5, .ref (plA ad (w (132 + k8)))), (0, .ref (ad 0)), (4, .ref v)]) hx hb dX2_outAgain_72 rfl hl (by decide) rfl (fun ls hl => ?_)
        refine lv_goto (tgt := 19) hx hb dX2_outAgain_73 (by decide) ?_
        exact ih k8 P_2 _ _ _ (w (132 + k8)) (by omega) hP9 hv9 hu9 (wA_pl hw hkl) (ag_step hw hq9 (wA_pl hw hkl) hE) (by omega) _ _ _ I (lv_sub hl [4, 2, 1, 0, 5] rfl)
  exact L_19 _ (nAn w) P_1 _ 0 0 (plc w 0) (Nat.le_refl _) hg9 hv9 hu9 (hw.pl (vp_lit (by decide))) (by unfold ropeO rope; rw [Int32.add_zero, Int32.zero_add]) (Nat.lt_succ_self _) _ _ _ I (lv_sub hl [4, 3, 2, 1, 0] rfl)


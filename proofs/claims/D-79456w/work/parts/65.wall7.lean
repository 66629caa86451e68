/-! THE WALL: falls, moves -/
set_option maxRecDepth 100000
def cF (w : m_w) : Int32 := if isSe w 0 = true ∧ ¬ nAn w = 0 then w (132 + 0) else -1
theorem w131_pos {w : m_w} (hw : WF w) : 0 < w 131 ↔ ¬ nAn w = 0 := by
  have h8 := hw.2.2.1.2
  rw [hw.2.2.1.1, show (0 : Int32) = nI 0 from rfl, nI_ltI (by decide) (by omega)]
  omega
theorem cF_ok {w : m_w} (hw : WF w) : (cF w = -1 ∨ vp_in (cF w) (nN w)) ∧ folF w = if cF w = -1 then toGr w 1 else hangW w 1 (cF w) := by
  unfold cF folF
  simp only [w131_pos hw]
  by_cases h : isSe w 0 = true ∧ ¬ nAn w = 0
  · rw [if_pos h, if_pos h]
    have h1 := hw.2.2.2.2.2.2.2 0 (by omega)
    refine ⟨Or.inr h1, ?_⟩
    rw [if_neg (fun e => by obtain ⟨j, j1, j2, -⟩ := vp_j h1 (Nat.lt_of_le_of_lt hw.1.2 (by decide)); exact nI_m1 (by have := hw.1.2; omega) (j2 ▸ e))]
  · rw [if_neg h, if_neg h]
    exact ⟨Or.inl rfl, by rw [if_pos rfl]⟩
def flC (c h : Int32) (S : m_fl) : m_fl := if c = 0 then ldL h S else (folF S.1, S.2)
theorem dropCN_upd {w : m_w} {c v : Int32} {i : Nat} (hi : 125 ≤ i) : ∀ n, n ≤ 4 → dropCN (upd w i v) c n = upd (dropCN w c n) i v := by
  intro n
  induction n with
  | zero => intro _; rfl
  | succ n ih =>
    intro hn
    show (if dropCN (upd w i v) c n (105 + 5 * n + 1) = c then dropG (dropCN (upd w i v) c n) n else dropCN (upd w i v) c n) = upd (if dropCN w c n (105 + 5 * n + 1) = c then dropG (dropCN w c n) n else dropCN w c n) i v
    rw [ih (by omega), upd_n (show 105 + 5 * n + 1 ≠ i by omega)]
    split
    · unfold dropG
      rw [upd_comm (i := i) (by omega), upd_comm (i := i) (by omega), upd_comm (i := i) (by omega)]
    · rfl
theorem toGr_eq {w : m_w} (hw : WF w) {c : Int32} (hc : vp_in c 2) : toGr w c = dropCN (incW (setC (setC w c 0 (-1)) c 1 2) 144) c (nLa w) := by
  have h4 := hw.2.1.2
  unfold toGr incW setC
  rw [dropCN_upd (by omega) _ h4, dropCN_upd (by omega) _ h4, dropCN_upd (by omega) _ h4]
  congr 1
  obtain ⟨q, h1, h2, h3⟩ := vp_j hc (by decide)
  rw [h3, upd_n (by omega), upd_n (by omega), dropCN_n (by omega), upd_n (by omega), upd_n (by omega)]
set_option maxHeartbeats 4000000 in
set_option maxRecDepth 100000 in
theorem met_X2_catchesFollower (l : Launch) (Γ : g_C) (htr : l.stackTraces = false) (ph : g_H) (i : Nat) (ad na : Nat → Nat) (mc : Nat → Int32) (w : m_w)  (hW : g_Wl Γ ph i ad na mc w) (hw : WF w) : g_Met l yX2_catchesFollower (ws_ yX2_catchesFollower cX2_catchesFollower 1 (some .int)) (g_rm 5 0 0) Γ [.ref (ad 0)] ph (g_oi (fun rv_ ph' => rv_ = (cF w) ∧ ph' = ph)) g_no := by
  refine g_start (y := yX2_catchesFollower) (cc := cX2_catchesFollower) (maxL := 1) (ret := (some .int)) (rm := g_rm 5 0 0) (by decide) (Nat.le_of_ble_eq_true rfl) ?_
  intro pg e s m A below meth cd ls Q hQ S hr hlk hex hnm hK I hl
  have hx := S.1
  have hb := S.2.1
  have hown := S.2.2.2.1
  have hts := S.2.2.2.2
  have S : CallFix pg m cd cX2_catchesFollower 1 s A lw_all "CrumblingWall$Wall" := S
  have hl : lv_has ls 1 [(0, .ref (ad 0))] := hl
  have hwc := hw.1; have hwl := hw.2.1; have hwa := hw.2.2.1
  refine lv_aload_n hx hb dX2_catchesFollower_0 rfl (lv_at hl 0 rfl) ?_
  refine lv_iconst (v := 0) hx hb dX2_catchesFollower_1 (by decide) ?_
  refine g_ci (g_runV S hK I (As := [.int 0]) (rest := []) (met_X2_isSecure l Γ htr ph i ad na mc w 0 hW hw  (vp_lit (by decide))) (cwV 1 hts (lw_V q2121 q1917 q1918 q121 q1919) rfl rfl rfl (by decide +kernel) ⟨Nat.le_of_ble_eq_true rfl, Nat.le_of_ble_eq_true rfl⟩) (g_recv hK I (g_at.of hW.o0) (ci := 1) rfl) rfl hl.1 rfl (Nat.le_of_ble_eq_true rfl) dX2_catchesFollower_2 ⟨Nat.le_of_ble_eq_true rfl, Nat.le_of_ble_eq_true rfl⟩) I (fun r_2 ph1 H locs hp I => ?_)
  obtain ⟨hp, hph⟩ := hp
  rw [hph] at I
  have hp : r_2 = (b2i (isSe w 0)) := hp
  rw [hp]
  refine lv_if_eq (tgt := 34) hx hb dX2_catchesFollower_5 (by decide) (fun c_5 => ?_) (fun c_5 => ?_)
  · have p_5 := (b2i_eq0 _).mp c_5
    refine lv_iconst (v := (-1)) hx hb dX2_catchesFollower_34 (by decide) ?_
    exact g_iret S hr hlk I dX2_catchesFollower_35 (Nat.le_of_ble_eq_true rfl) (Nat.le_of_ble_eq_true rfl) hQ ⟨_, rfl, (by unfold cF; rw [if_neg (fun z => absurd z.1 (by rw [p_5]; decide))]), rfl⟩
  · have p_5 := (b2i_ne0 _).mp c_5
    refine lv_aload_n hx hb dX2_catchesFollower_8 rfl (lv_at hl 0 rfl) ?_
    refine g_get S hK I k_X2 (v := .ref (ad 5)) (g_at.of hW.o0) 2 (by decide) q648 rfl rfl dX2_catchesFollower_9 ?_
    refine g_ci (g_runU S hK I (As := []) (rest := []) (met_J1_isEmpty l Γ ph 105 i (ad 5) (nAn w) (mc 0) _ _ hW.o5.1 (by omega)) (g_cwD (n := 0) hts q2119 q124 (by decide) (by decide +kernel) q2114 q2115 (g_declN (hK.N q2116 rfl)) q2117 q2118 ⟨Nat.le_of_ble_eq_true rfl, Nat.le_of_ble_eq_true rfl⟩) (g_recv hK I (g_at.of hW.o5.1) (ci := 24) rfl) rfl hl.1 rfl (Nat.le_of_ble_eq_true rfl) dX2_catchesFollower_12 ⟨Nat.le_of_ble_eq_true rfl, Nat.le_of_ble_eq_true rfl⟩) I (fun r_12 ph1 H locs hp I => ?_)
    obtain ⟨hp, hph⟩ := hp
    rw [hph] at I
    have hp : r_12 = (b2i (decide (nAn w = 0))) := hp
    rw [hp]
    refine lv_if_ne (tgt := 34) hx hb dX2_catchesFollower_15 (by decide) (fun c_15 => ?_) (fun c_15 => ?_)
    · have p_15 := of_decide_eq_true ((b2i_ne0 _).mp c_15)
      have c_15 := p_15
      refine lv_iconst (v := (-1)) hx hb dX2_catchesFollower_34 (by decide) ?_
      exact g_iret S hr hlk I dX2_catchesFollower_35 (Nat.le_of_ble_eq_true rfl) (Nat.le_of_ble_eq_true rfl) hQ ⟨_, rfl, (by unfold cF; rw [if_neg (fun z => z.2 c_15)]), rfl⟩
    · have p_15 := of_decide_eq_false ((b2i_eq0 _).mp c_15)
      have c_15 := p_15
      refine lv_aload_n hx hb dX2_catchesFollower_18 rfl (lv_at hl 0 rfl) ?_
      refine g_get S hK I k_X2 (v := .ref (ad 5)) (g_at.of hW.o0) 2 (by decide) q648 rfl rfl dX2_catchesFollower_19 ?_
      have hne : ¬ nAn w = 0 := by assumption
      have hln := ll_first hW.o5 hne
      have hb9 : (w (132 + 0)).toNatClampNeg < nN w ∧ nI (w (132 + 0)).toNatClampNeg = w (132 + 0) := okHx hw (hw.2.2.2.2.2.2.2 0 (by omega))
      have hb8 := hb9.1
      refine g_cr (g_runV S hK I (As := []) (rest := []) (met_J24_getFirst l Γ ph 105 i (ad 5) 200 i (na 0) (anI Γ w 0) (mc 0) (nI (nAn w)) _ _ _ hln.1 hln.2) (cwV 0 hts (lw_V q2137 q2138 q2139 q148 q2140) rfl rfl rfl (by decide +kernel) ⟨Nat.le_of_ble_eq_true rfl, Nat.le_of_ble_eq_true rfl⟩) (g_recv hK I (g_at.of hW.o5.1) (ci := 24) rfl) rfl hl.1 rfl (Nat.le_of_ble_eq_true rfl) dX2_catchesFollower_22 ⟨Nat.le_of_ble_eq_true rfl, Nat.le_of_ble_eq_true rfl⟩) I (fun r_22 ph1 H locs hp I => ?_)
      obtain ⟨hp, hph⟩ := hp
      rw [hph] at I
      have hp : r_22 = (g_bx Γ (w (132 + 0)).toNatClampNeg) := hp
      rw [hp]
      refine g_castI S hK q1200 (g_recvB hK I (by omega)) dX2_catchesFollower_25 ?_
      refine g_ci (g_runV S hK I (As := []) (rest := []) (met_J22_intValue l Γ ph (w (132 + 0)).toNatClampNeg (by omega)) (cwV 0 hts (lw_V q1201 q1202 q1203 q146 q1204) rfl rfl rfl (by decide +kernel) ⟨Nat.le_of_ble_eq_true rfl, Nat.le_of_ble_eq_true rfl⟩) (g_recvB hK I (by omega)) rfl hl.1 rfl (Nat.le_of_ble_eq_true rfl) dX2_catchesFollower_28 ⟨Nat.le_of_ble_eq_true rfl, Nat.le_of_ble_eq_true rfl⟩) I (fun r_28 ph1 H locs hp I => ?_)
      obtain ⟨hp, hph⟩ := hp
      rw [hph] at I
      have hp : r_28 = (w (132 + 0)) := hp.trans hb9.2
      rw [hp]
      refine lv_goto (tgt := 35) hx hb dX2_catchesFollower_31 (by decide) ?_
      exact g_iret S hr hlk I dX2_catchesFollower_35 (Nat.le_of_ble_eq_true rfl) (Nat.le_of_ble_eq_true rfl) hQ ⟨_, rfl, (by unfold cF; rw [if_pos ⟨p_5, c_15⟩]), rfl⟩

set_option maxHeartbeats 4000000 in
set_option maxRecDepth 100000 in
theorem met_X2_falls (l : Launch) (Γ : g_C) (htr : l.stackTraces = false) (ph : g_H) (i : Nat) (ad na : Nat → Nat) (mc : Nat → Int32) (w : m_w) (c h : Int32) (dq dd b : Nat) (S2 : (Nat → Int32) × Nat)  (hW : g_Wl Γ ph i ad na mc w) (hw : WF w) (hT : g_Tr 34 ph) (hc : vp_in c 2) (hh : vp_in h (nN w)) (hQ5 : g_CQ Γ ph dq dd b S2.1 S2.2) (hcap : S2.2 + nAn w ≤ 9) : g_Met l yX2_falls (ws_ yX2_falls cX2_falls 6 none) (g_rm 9 20 100) Γ [.ref (ad 0), .int c, .int h, .ref dq] ph (g_ov (fun ph' => (∃ na' mc', g_Wl Γ ph' i ad na' mc' (flC c h (w, S2)).1) ∧ g_CQ Γ ph' dq dd b (flC c h (w, S2)).2.1 (flC c h (w, S2)).2.2 ∧ g_frD i ph ph')) g_no := by
  refine g_start (y := yX2_falls) (cc := cX2_falls) (maxL := 6) (ret := none) (rm := g_rm 9 20 100) (by decide) (Nat.le_of_ble_eq_true rfl) ?_
  intro pg e s m A below meth cd ls Q hQ S hr hlk hex hnm hK I hl
  have hx := S.1
  have hb := S.2.1
  have hown := S.2.2.2.1
  have hts := S.2.2.2.2
  have S : CallFix pg m cd cX2_falls 6 s A lw_all "CrumblingWall$Wall" := S
  have hl : lv_has ls 6 [(0, .ref (ad 0)), (1, .int c), (2, .int h), (3, .ref dq)] := hl
  have hwc := hw.1; have hwl := hw.2.1; have hwa := hw.2.2.1
  have hc2 := (okC hc).1
  have hcc : c = 0 ∨ c = 1 := by obtain ⟨j, h1, h2, -⟩ := vp_j hc (by decide); rcases (show j = 0 ∨ j = 1 by omega) with rfl | rfl; exact Or.inl h2; exact Or.inr h2
  have hT0 := hT
  refine lv_iload_n hx hb dX2_falls_0 rfl (lv_at hl 1 rfl) ?_
  have J_17_0 : ∀ (P9 : g_H) (na9 : Nat → Nat) (mc9 : Nat → Int32) (w1 : m_w) (cr9 : Nat → Int32) (n9 : Nat) (v9 : Int32) (H : Heap) (locs : List Loc) (ls : Array Slot), (hw1 : WF w1) → (hN1 : nN w1 = nN w) → (hres : flC c h (w, S2) = (if v9 = -1 then toGr w1 c else hangW w1 c v9, (cr9, n9))) → (hv9 : v9 = -1 ∨ vp_in v9 (nN w)) → (hW : g_Wl Γ P9 i ad na9 mc9 w1) → (hQ5 : g_CQ Γ P9 dq dd b cr9 n9) → (hF : g_frD i ph P9) → g_I Γ P9 s H locs → lv_has ls 6 [(0, .ref (ad 0)), (1, .int c), (2, .int h), (3, .ref dq)] → W pg l e (g_rm 9 20 100) s m A below meth cd H locs 20 100 Q (F0 m 17 ls [.int v9]) := by
    intro P9 na9 mc9 w1 cr9 n9 v9 H locs ls hw1 hN1 hres hv9 hW hQ5 hF I hl
    have hw := hw1
    have hT := hT.frD hF hW.ne (by decide)
    have eN : nN w1 = nN w1 := rfl
    have eL : nLa w1 = nLa w1 := rfl
    have hwc1 := hw.1; have hwl1 := hw.2.1; have hwa1 := hw.2.2.1
    refine lv_istore (lv' := [(4, .int v9), (0, .ref (ad 0)), (1, .int c), (2, .int h), (3, .ref dq)]) hx hb dX2_falls_17 hl (by decide) rfl (fun ls hl => ?_)
    refine lv_iload hx hb dX2_falls_19 (lv_at hl 0 rfl) ?_
    refine lv_iconst (v := (-1)) hx hb dX2_falls_21 (by decide) ?_
    refine lv_icmp_eq (tgt := 47) hx hb dX2_falls_22 (by decide) (fun c_22 => ?_) (fun c_22 => ?_)
    · refine lv_aload_n hx hb dX2_falls_47 rfl (lv_at hl 1 rfl) ?_
      refine lv_iload_n hx hb dX2_falls_48 rfl (lv_at hl 2 rfl) ?_
      refine g_cr (g_runV S hK I (As := [.int c]) (rest := []) (met_X2_climber l Γ htr P9 i ad na9 mc9 w1 c hW hw  hc) (cwV 1 hts (lw_V q782 q783 q784 q121 q785) rfl rfl rfl (by decide +kernel) ⟨Nat.le_of_ble_eq_true rfl, Nat.le_of_ble_eq_true rfl⟩) (g_recv hK I (g_at.of hW.o0) (ci := 1) rfl) rfl hl.1 rfl (Nat.le_of_ble_eq_true rfl) dX2_falls_49 ⟨by dsimp only [g_rm]; omega, by dsimp only [g_rm]; omega⟩) I (fun r_49 ph1 H locs hp I => ?_)
      obtain ⟨hp, hph⟩ := hp
      rw [hph] at I
      have hp : r_49 = (ad (10 + c.toNatClampNeg)) := hp
      rw [hp]
      refine lv_iconst (v := (-1)) hx hb dX2_falls_52 (by decide) ?_
      refine lv_iconst (v := 2) hx hb dX2_falls_53 (by decide) ?_
      refine g_cv (g_runV S hK I (As := [.int (-1), .int 2]) (rest := []) (met_X3_comes l Γ htr P9 i ad na9 mc9 w1 c.toNatClampNeg (-1) 2 hW hw  (by omega) okP_m1 ⟨2, by decide, rfl⟩) (cwV 2 hts (lw_V q1959 q1960 q1961 q122 q1962) rfl rfl rfl (by decide +kernel) ⟨Nat.le_of_ble_eq_true rfl, Nat.le_of_ble_eq_true rfl⟩) (g_recv hK I (g_at.of (hW.cl (c := c.toNatClampNeg) (by omega))) (ci := 2) rfl) rfl hl.1 rfl (Nat.le_of_ble_eq_true rfl) dX2_falls_54 ⟨by dsimp only [g_rm]; omega, by dsimp only [g_rm]; omega⟩) I (fun ph1 H locs hp I => ?_)
      obtain ⟨na_3, mc_4, hW, hG⟩ := hp
      have I : g_I Γ ph1 s H locs := I
      generalize ph1 = P_2 at I hW hG
      have hF : g_frD i ph P_2 := hF.trans (g_frD.ofR hG)
      have hT : g_Tr 34 P_2 := hT.fr hG hW.ne
      have hQ5 := hQ5.frR hG hW.ne
      have eR : nN (upd (upd w1 (125 + 3 * c.toNatClampNeg) (-1)) (125 + 3 * c.toNatClampNeg + 1) 2) = nN w1 ∧ nLa (upd (upd w1 (125 + 3 * c.toNatClampNeg) (-1)) (125 + 3 * c.toNatClampNeg + 1) 2) = nLa w1 := by refine ⟨nN_eq ?_, nLa_eq ?_⟩ <;> (rw [upd_n (by omega), upd_n (by omega)])
      have eN : nN (upd (upd w1 (125 + 3 * c.toNatClampNeg) (-1)) (125 + 3 * c.toNatClampNeg + 1) 2) = nN w1 := eR.1.trans eN
      have eL : nLa (upd (upd w1 (125 + 3 * c.toNatClampNeg) (-1)) (125 + 3 * c.toNatClampNeg + 1) 2) = nLa w1 := eR.2.trans eL
      have hw : WF (upd (upd w1 (125 + 3 * c.toNatClampNeg) (-1)) (125 + 3 * c.toNatClampNeg + 1) 2) := ((hw1.setC (t := 0) hc (Or.inl ⟨rfl, okP_m1⟩)).setC (t := 1) (v := 2) hc (Or.inr (Or.inl ⟨rfl, 2, by decide, rfl⟩)))
      refine lv_aload_n hx hb dX2_falls_57 rfl (lv_at hl 1 rfl) ?_
      refine lv_dup hx hb dX2_falls_58 rfl ?_
      refine g_get S hK I k_X2 (v := .int ((upd (upd w1 (125 + 3 * c.toNatClampNeg) (-1)) (125 + 3 * c.toNatClampNeg + 1) 2) 144)) (g_at.of hW.o0) 14 (by decide) q670 rfl rfl dX2_falls_59 ?_
      refine lv_iconst (v := 1) hx hb dX2_falls_62 (by decide) ?_
      refine lv_iadd hx hb dX2_falls_63 ?_
      refine g_put S hK I k_X2 (v := .int (((upd (upd w1 (125 + 3 * c.toNatClampNeg) (-1)) (125 + 3 * c.toNatClampNeg + 1) 2) 144) + 1)) hW.o0 14 (by decide) q670 rfl rfl rfl rfl (Nat.le_of_ble_eq_true rfl) dX2_falls_64 (fun H locs I => ?_)
      obtain ⟨P_5, I, hW, hG⟩ : ∃ zz, g_I Γ zz s H locs ∧ g_Wl Γ zz i ad na_3 mc_4 (upd (upd (upd w1 (125 + 3 * c.toNatClampNeg) (-1)) (125 + 3 * c.toNatClampNeg + 1) 2) 144 (((upd (upd w1 (125 + 3 * c.toNatClampNeg) (-1)) (125 + 3 * c.toNatClampNeg + 1) 2) 144) + 1)) ∧ g_frR i P_2 zz := ⟨_, I, (hW.put_144 hw), g_frR.put⟩
      have hF : g_frD i ph P_5 := hF.trans (g_frD.ofR hG)
      have hT : g_Tr 34 P_5 := hT.fr hG hW.ne
      have hQ5 := hQ5.frR hG hW.ne
      have eR : nN (upd (upd (upd w1 (125 + 3 * c.toNatClampNeg) (-1)) (125 + 3 * c.toNatClampNeg + 1) 2) 144 (((upd (upd w1 (125 + 3 * c.toNatClampNeg) (-1)) (125 + 3 * c.toNatClampNeg + 1) 2) 144) + 1)) = nN (upd (upd w1 (125 + 3 * c.toNatClampNeg) (-1)) (125 + 3 * c.toNatClampNeg + 1) 2) ∧ nLa (upd (upd (upd w1 (125 + 3 * c.toNatClampNeg) (-1)) (125 + 3 * c.toNatClampNeg + 1) 2) 144 (((upd (upd w1 (125 + 3 * c.toNatClampNeg) (-1)) (125 + 3 * c.toNatClampNeg + 1) 2) 144) + 1)) = nLa (upd (upd w1 (125 + 3 * c.toNatClampNeg) (-1)) (125 + 3 * c.toNatClampNeg + 1) 2) := by refine ⟨nN_eq ?_, nLa_eq ?_⟩ <;> exact upd_n (by omega)
      have eN : nN (upd (upd (upd w1 (125 + 3 * c.toNatClampNeg) (-1)) (125 + 3 * c.toNatClampNeg + 1) 2) 144 (((upd (upd w1 (125 + 3 * c.toNatClampNeg) (-1)) (125 + 3 * c.toNatClampNeg + 1) 2) 144) + 1)) = nN w1 := eR.1.trans eN
      have eL : nLa (upd (upd (upd w1 (125 + 3 * c.toNatClampNeg) (-1)) (125 + 3 * c.toNatClampNeg + 1) 2) 144 (((upd (upd w1 (125 + 3 * c.toNatClampNeg) (-1)) (125 + 3 * c.toNatClampNeg + 1) 2) 144) + 1)) = nLa w1 := eR.2.trans eL
      have hw : WF (upd (upd (upd w1 (125 + 3 * c.toNatClampNeg) (-1)) (125 + 3 * c.toNatClampNeg + 1) 2) 144 (((upd (upd w1 (125 + 3 * c.toNatClampNeg) (-1)) (125 + 3 * c.toNatClampNeg + 1) 2) 144) + 1)) := (hw.any (by omega))
      have hwg : WF (incW (setC (setC w1 c 0 (-1)) c 1 2) 144) := hw
      have hgn : ∀ j, (j < 125 ∨ 131 ≤ j) → j ≠ 144 → (incW (setC (setC w1 c 0 (-1)) c 1 2) 144) j = w1 j := fun j h1 h2 => by rw [incW_n h2, setC_n hc (by decide) (by omega), setC_n hc (by decide) (by omega)]
      refine lv_iconst (v := 0) hx hb dX2_falls_67 (by decide) ?_
      refine lv_istore (lv' := [(5, .int 0), (4, .int v9), (0, .ref (ad 0)), (1, .int c), (2, .int h), (3, .ref dq)]) hx hb dX2_falls_68 hl (by decide) rfl (fun ls hl => ?_)
      have L_70 : ∀ (d : Nat) (k : Nat) (P9 : g_H) (na9 : Nat → Nat) (mc9 : Nat → Int32), (hk : k ≤ nLa w1) → (hW : g_Wl Γ P9 i ad na9 mc9 (dropCN (incW (setC (setC w1 c 0 (-1)) c 1 2) 144) c k)) → (hQ5 : g_CQ Γ P9 dq dd b cr9 n9) → (hF : g_frD i ph P9) → nLa w1 - k < d → ∀ (H : Heap) (locs : List Loc) (ls : Array Slot), g_I Γ P9 s H locs → lv_has ls 6 [(0, .ref (ad 0)), (1, .int c), (2, .int h), (3, .ref dq), (4, .int v9), (5, .int (nI k))] → W pg l e (g_rm 9 20 100) s m A below meth cd H locs 20 100 Q (F0 m 70 ls []) := by
        intro d
        induction d with
        | zero => intro k P9 na9 mc9 hk hW hQ5 hF hd; exact absurd hd (Nat.not_lt_zero _)
        | succ d ih =>
          intro k P9 na9 mc9 hk hW hQ5 hF hd H locs ls I hl
          have hT := hT0.frD hF hW.ne (by decide)
          have hw : WF (dropCN (incW (setC (setC w1 c 0 (-1)) c 1 2) 144) c k) := hwg.dropCN (by omega)
          have eR : nN (dropCN (incW (setC (setC w1 c 0 (-1)) c 1 2) 144) c k) = nN w1 ∧ nLa (dropCN (incW (setC (setC w1 c 0 (-1)) c 1 2) 144) c k) = nLa w1 := ⟨nN_eq (by rw [dropCN_n (by omega), hgn _ (by omega) (by omega)]), nLa_eq (by rw [dropCN_n (by omega), hgn _ (by omega) (by omega)])⟩
          have eN := eR.1
          have eL := eR.2
          refine lv_iload hx hb dX2_falls_70 (lv_at hl 5 rfl) ?_
          refine lv_aload_n hx hb dX2_falls_72 rfl (lv_at hl 0 rfl) ?_
          refine g_get S hK I k_X2 (v := .ref (ad 3)) (g_at.of hW.o0) 1 (by decide) q646 rfl rfl dX2_falls_73 ?_
          refine g_ci (g_runV S hK I (As := []) (rest := [.int (nI k)]) (met_J7_size l Γ P9 103 i (ad 3) (ad 4) (mc9 2) ((dropCN (incW (setC (setC w1 c 0 (-1)) c 1 2) 144) c k) 104) hW.o3) (cwV 0 hts (lw_V q1353 q994 q3516 q130 q995) rfl rfl rfl (by decide +kernel) ⟨Nat.le_of_ble_eq_true rfl, Nat.le_of_ble_eq_true rfl⟩) (g_recv hK I (g_at.of hW.o3) (ci := 21) rfl) rfl hl.1 rfl (Nat.le_of_ble_eq_true rfl) dX2_falls_76 ⟨by dsimp only [g_rm]; omega, by dsimp only [g_rm]; omega⟩) I (fun r_76 ph1 H locs hp I => ?_)
          obtain ⟨hp, hph⟩ := hp
          rw [hph] at I
          have hp : r_76 = ((dropCN (incW (setC (setC w1 c 0 (-1)) c 1 2) 144) c k) 104) := hp
          rw [hp, show ((dropCN (incW (setC (setC w1 c 0 (-1)) c 1 2) 144) c k) 104) = (nI (nLa (dropCN (incW (setC (setC w1 c 0 (-1)) c 1 2) 144) c k))) from hw.2.1.1]
          refine lv_icmp_ge (tgt := 122) hx hb dX2_falls_79 (by decide) (fun c_79 => ?_) (fun c_79 => ?_)
          · have n_79 := Int32.not_lt.mpr c_79
            obtain rfl : k = nLa w1 := by rw [nI_leI (by omega) (by omega)] at c_79; omega
            exact g_vret S hr hlk I dX2_falls_122 (by dsimp only [g_rm]; omega) (by dsimp only [g_rm]; omega) hQ ⟨rfl, by rw [hres, if_pos c_22, toGr_eq hw1 hc]; exact ⟨⟨_, _, hW⟩, hQ5, hF⟩⟩
          · have n_79 := Int32.not_le.mp c_79
            have hkl : k < nLa w1 := by rw [nI_leI (by omega) (by omega)] at c_79; omega
            refine lv_aload_n hx hb dX2_falls_82 rfl (lv_at hl 0 rfl) ?_
            refine g_get S hK I k_X2 (v := .ref (ad 3)) (g_at.of hW.o0) 1 (by decide) q646 rfl rfl dX2_falls_83 ?_
            refine lv_iload hx hb dX2_falls_86 (lv_at hl 5 rfl) ?_
            refine g_cr (g_runV S hK I (As := [.int (nI k)]) (rest := []) (met_w_get3 l Γ P9 i ad na9 mc9 (dropCN (incW (setC (setC w1 c 0 (-1)) c 1 2) 144) c k) hW hw k (by omega)) (cwV 1 hts (lw_V q883 q793 q3509 q130 q795) rfl rfl rfl (by decide +kernel) ⟨Nat.le_of_ble_eq_true rfl, Nat.le_of_ble_eq_true rfl⟩) (g_recv hK I (g_at.of hW.o3) (ci := 21) rfl) rfl hl.1 rfl (Nat.le_of_ble_eq_true rfl) dX2_falls_88 ⟨by dsimp only [g_rm]; omega, by dsimp only [g_rm]; omega⟩) I (fun r_88 ph1 H locs hp I => ?_)
            obtain ⟨hp, hph⟩ := hp
            rw [hph] at I
            have hp : r_88 = (ad (20 + k)) := hp
            rw [hp]
            refine g_castS S hK (ci := 10) rfl q1559 (g_recv hK I (g_at.of (hW.la (k := k) (by omega))) (ci := 10) rfl) dX2_falls_91 ?_
            refine g_getN S hK I k_X12 (v := .int ((dropCN (incW (setC (setC w1 c 0 (-1)) c 1 2) 144) c k) (105 + 5 * k + 1))) (g_at.of (hW.la (k := k) (by omega))) 2 (by decide) q1576 rfl rfl dX2_falls_94 ?_
            refine lv_iload_n hx hb dX2_falls_97 rfl (lv_at hl 1 rfl) ?_
            refine lv_icmp_ne (tgt := 116) hx hb dX2_falls_98 (by decide) (fun c_98 => ?_) (fun c_98 => ?_)
            · have eq9 := c_98
              refine lv_iinc (v := nI (k + 1)) (lv' := [(5, .int (nI (k + 1))), (0, .ref (ad 0)), (1, .int c), (2, .int h), (3, .ref dq), (4, .int v9)]) hx hb dX2_falls_116 hl (k := 5) rfl (nI_1 k) (by decide) rfl (fun ls hl => ?_)
              refine lv_goto (tgt := 70) hx hb dX2_falls_119 (by decide) ?_
              exact ih (k + 1) P9 na9 mc9 hkl (by rw [show dropCN (incW (setC (setC w1 c 0 (-1)) c 1 2) 144) c (k + 1) = dropCN (incW (setC (setC w1 c 0 (-1)) c 1 2) 144) c k from if_neg c_98]; exact hW) hQ5 hF (by omega) _ _ _ I (lv_sub hl [1, 2, 3, 4, 5, 0] rfl)
            · have eq9 := c_98
              refine lv_aload_n hx hb dX2_falls_101 rfl (lv_at hl 0 rfl) ?_
              refine g_get S hK I k_X2 (v := .ref (ad 3)) (g_at.of hW.o0) 1 (by decide) q646 rfl rfl dX2_falls_102 ?_
              refine lv_iload hx hb dX2_falls_105 (lv_at hl 5 rfl) ?_
              refine g_cr (g_runV S hK I (As := [.int (nI k)]) (rest := []) (met_w_get3 l Γ P9 i ad na9 mc9 (dropCN (incW (setC (setC w1 c 0 (-1)) c 1 2) 144) c k) hW hw k (by omega)) (cwV 1 hts (lw_V q883 q793 q3509 q130 q795) rfl rfl rfl (by decide +kernel) ⟨Nat.le_of_ble_eq_true rfl, Nat.le_of_ble_eq_true rfl⟩) (g_recv hK I (g_at.of hW.o3) (ci := 21) rfl) rfl hl.1 rfl (Nat.le_of_ble_eq_true rfl) dX2_falls_107 ⟨by dsimp only [g_rm]; omega, by dsimp only [g_rm]; omega⟩) I (fun r_107 ph1 H locs hp I => ?_)
              obtain ⟨hp, hph⟩ := hp
              rw [hph] at I
              have hp : r_107 = (ad (20 + k)) := hp
              rw [hp]
              refine g_castS S hK (ci := 10) rfl q1559 (g_recv hK I (g_at.of (hW.la (k := k) (by omega))) (ci := 10) rfl) dX2_falls_110 ?_
              refine g_cv (g_runV S hK I (As := []) (rest := []) (met_X12_drops l Γ htr P9 i ad na9 mc9 (dropCN (incW (setC (setC w1 c 0 (-1)) c 1 2) 144) c k) k hW hw  (by omega)) (cwV 0 hts (lw_V q2102 q2103 q2104 q162 q2105) rfl rfl rfl (by decide +kernel) ⟨Nat.le_of_ble_eq_true rfl, Nat.le_of_ble_eq_true rfl⟩) (g_recv hK I (g_at.of (hW.la (k := k) (by omega))) (ci := 10) rfl) rfl hl.1 rfl (Nat.le_of_ble_eq_true rfl) dX2_falls_113 ⟨by dsimp only [g_rm]; omega, by dsimp only [g_rm]; omega⟩) I (fun ph1 H locs hp I => ?_)
              obtain ⟨na_7, mc_8, hW, hG⟩ := hp
              have I : g_I Γ ph1 s H locs := I
              generalize ph1 = P_6 at I hW hG
              have hF : g_frD i ph P_6 := hF.trans (g_frD.ofR hG)
              have hT : g_Tr 34 P_6 := hT.fr hG hW.ne
              have hQ5 := hQ5.frR hG hW.ne
              have eR : nN (dropG (dropCN (incW (setC (setC w1 c 0 (-1)) c 1 2) 144) c k) k) = nN (dropCN (incW (setC (setC w1 c 0 (-1)) c 1 2) 144) c k) ∧ nLa (dropG (dropCN (incW (setC (setC w1 c 0 (-1)) c 1 2) 144) c k) k) = nLa (dropCN (incW (setC (setC w1 c 0 (-1)) c 1 2) 144) c k) := by refine ⟨nN_eq ?_, nLa_eq ?_⟩ <;> exact dropG_n (by omega)
              have eN : nN (dropG (dropCN (incW (setC (setC w1 c 0 (-1)) c 1 2) 144) c k) k) = nN w1 := eR.1.trans eN
              have eL : nLa (dropG (dropCN (incW (setC (setC w1 c 0 (-1)) c 1 2) 144) c k) k) = nLa w1 := eR.2.trans eL
              have hw : WF (dropG (dropCN (incW (setC (setC w1 c 0 (-1)) c 1 2) 144) c k) k) := (hw.dropG (k := k) (by omega))
              refine lv_iinc (v := nI (k + 1)) (lv' := [(5, .int (nI (k + 1))), (0, .ref (ad 0)), (1, .int c), (2, .int h), (3, .ref dq), (4, .int v9)]) hx hb dX2_falls_116 hl (k := 5) rfl (nI_1 k) (by decide) rfl (fun ls hl => ?_)
              refine lv_goto (tgt := 70) hx hb dX2_falls_119 (by decide) ?_
              exact ih (k + 1) P_6 na_7 mc_8 hkl (by rw [show dropCN (incW (setC (setC w1 c 0 (-1)) c 1 2) 144) c (k + 1) = dropG (dropCN (incW (setC (setC w1 c 0 (-1)) c 1 2) 144) c k) k from if_pos c_98]; exact hW) hQ5 hF (by omega) _ _ _ I (lv_sub hl [1, 2, 3, 4, 5, 0] rfl)
      exact L_70 _ 0 P_5 na_3 mc_4 (Nat.zero_le _) hW hQ5 hF (Nat.lt_succ_self _) _ _ _ I (lv_sub hl [2, 3, 4, 5, 1, 0] rfl)
    · refine lv_aload_n hx hb dX2_falls_25 rfl (lv_at hl 1 rfl) ?_
      refine lv_iload_n hx hb dX2_falls_26 rfl (lv_at hl 2 rfl) ?_
      refine g_cr (g_runV S hK I (As := [.int c]) (rest := []) (met_X2_climber l Γ htr P9 i ad na9 mc9 w1 c hW hw  hc) (cwV 1 hts (lw_V q782 q783 q784 q121 q785) rfl rfl rfl (by decide +kernel) ⟨Nat.le_of_ble_eq_true rfl, Nat.le_of_ble_eq_true rfl⟩) (g_recv hK I (g_at.of hW.o0) (ci := 1) rfl) rfl hl.1 rfl (Nat.le_of_ble_eq_true rfl) dX2_falls_27 ⟨by dsimp only [g_rm]; omega, by dsimp only [g_rm]; omega⟩) I (fun r_27 ph1 H locs hp I => ?_)
      obtain ⟨hp, hph⟩ := hp
      rw [hph] at I
      have hp : r_27 = (ad (10 + c.toNatClampNeg)) := hp
      rw [hp]
      refine lv_iload hx hb dX2_falls_30 (lv_at hl 0 rfl) ?_
      refine lv_iconst (v := 1) hx hb dX2_falls_32 (by decide) ?_
      refine g_cv (g_runV S hK I (As := [.int v9, .int 1]) (rest := []) (met_X3_comes l Γ htr P9 i ad na9 mc9 w1 c.toNatClampNeg v9 1 hW hw  (by omega) (hv9.imp id (fun z => by rw [hN1]; exact z)) ⟨1, by decide, rfl⟩) (cwV 2 hts (lw_V q1959 q1960 q1961 q122 q1962) rfl rfl rfl (by decide +kernel) ⟨Nat.le_of_ble_eq_true rfl, Nat.le_of_ble_eq_true rfl⟩) (g_recv hK I (g_at.of (hW.cl (c := c.toNatClampNeg) (by omega))) (ci := 2) rfl) rfl hl.1 rfl (Nat.le_of_ble_eq_true rfl) dX2_falls_33 ⟨by dsimp only [g_rm]; omega, by dsimp only [g_rm]; omega⟩) I (fun ph1 H locs hp I => ?_)
      obtain ⟨na_10, mc_11, hW, hG⟩ := hp
      have I : g_I Γ ph1 s H locs := I
      generalize ph1 = P_9 at I hW hG
      have hF : g_frD i ph P_9 := hF.trans (g_frD.ofR hG)
      have hT : g_Tr 34 P_9 := hT.fr hG hW.ne
      have hQ5 := hQ5.frR hG hW.ne
      have eR : nN (upd (upd w1 (125 + 3 * c.toNatClampNeg) v9) (125 + 3 * c.toNatClampNeg + 1) 1) = nN w1 ∧ nLa (upd (upd w1 (125 + 3 * c.toNatClampNeg) v9) (125 + 3 * c.toNatClampNeg + 1) 1) = nLa w1 := by refine ⟨nN_eq ?_, nLa_eq ?_⟩ <;> (rw [upd_n (by omega), upd_n (by omega)])
      have eN : nN (upd (upd w1 (125 + 3 * c.toNatClampNeg) v9) (125 + 3 * c.toNatClampNeg + 1) 1) = nN w1 := eR.1.trans eN
      have eL : nLa (upd (upd w1 (125 + 3 * c.toNatClampNeg) v9) (125 + 3 * c.toNatClampNeg + 1) 1) = nLa w1 := eR.2.trans eL
      have hw : WF (upd (upd w1 (125 + 3 * c.toNatClampNeg) v9) (125 + 3 * c.toNatClampNeg + 1) 1) := ((hw1.setC (t := 0) hc (Or.inl ⟨rfl, hv9.imp id (fun z => by rw [hN1]; exact z)⟩)).setC (t := 1) (v := 1) hc (Or.inr (Or.inl ⟨rfl, 1, by decide, rfl⟩)))
      refine lv_aload_n hx hb dX2_falls_36 rfl (lv_at hl 1 rfl) ?_
      refine lv_dup hx hb dX2_falls_37 rfl ?_
      refine g_get S hK I k_X2 (v := .int ((upd (upd w1 (125 + 3 * c.toNatClampNeg) v9) (125 + 3 * c.toNatClampNeg + 1) 1) 143)) (g_at.of hW.o0) 13 (by decide) q668 rfl rfl dX2_falls_38 ?_
      refine lv_iconst (v := 1) hx hb dX2_falls_41 (by decide) ?_
      refine lv_iadd hx hb dX2_falls_42 ?_
      refine g_put S hK I k_X2 (v := .int (((upd (upd w1 (125 + 3 * c.toNatClampNeg) v9) (125 + 3 * c.toNatClampNeg + 1) 1) 143) + 1)) hW.o0 13 (by decide) q668 rfl rfl rfl rfl (Nat.le_of_ble_eq_true rfl) dX2_falls_43 (fun H locs I => ?_)
      obtain ⟨P_12, I, hW, hG⟩ : ∃ zz, g_I Γ zz s H locs ∧ g_Wl Γ zz i ad na_10 mc_11 (upd (upd (upd w1 (125 + 3 * c.toNatClampNeg) v9) (125 + 3 * c.toNatClampNeg + 1) 1) 143 (((upd (upd w1 (125 + 3 * c.toNatClampNeg) v9) (125 + 3 * c.toNatClampNeg + 1) 1) 143) + 1)) ∧ g_frR i P_9 zz := ⟨_, I, (hW.put_143 hw), g_frR.put⟩
      have hF : g_frD i ph P_12 := hF.trans (g_frD.ofR hG)
      have hT : g_Tr 34 P_12 := hT.fr hG hW.ne
      have hQ5 := hQ5.frR hG hW.ne
      have eR : nN (upd (upd (upd w1 (125 + 3 * c.toNatClampNeg) v9) (125 + 3 * c.toNatClampNeg + 1) 1) 143 (((upd (upd w1 (125 + 3 * c.toNatClampNeg) v9) (125 + 3 * c.toNatClampNeg + 1) 1) 143) + 1)) = nN (upd (upd w1 (125 + 3 * c.toNatClampNeg) v9) (125 + 3 * c.toNatClampNeg + 1) 1) ∧ nLa (upd (upd (upd w1 (125 + 3 * c.toNatClampNeg) v9) (125 + 3 * c.toNatClampNeg + 1) 1) 143 (((upd (upd w1 (125 + 3 * c.toNatClampNeg) v9) (125 + 3 * c.toNatClampNeg + 1) 1) 143) + 1)) = nLa (upd (upd w1 (125 + 3 * c.toNatClampNeg) v9) (125 + 3 * c.toNatClampNeg + 1) 1) := by refine ⟨nN_eq ?_, nLa_eq ?_⟩ <;> exact upd_n (by omega)
      have eN : nN (upd (upd (upd w1 (125 + 3 * c.toNatClampNeg) v9) (125 + 3 * c.toNatClampNeg + 1) 1) 143 (((upd (upd w1 (125 + 3 * c.toNatClampNeg) v9) (125 + 3 * c.toNatClampNeg + 1) 1) 143) + 1)) = nN w1 := eR.1.trans eN
      have eL : nLa (upd (upd (upd w1 (125 + 3 * c.toNatClampNeg) v9) (125 + 3 * c.toNatClampNeg + 1) 1) 143 (((upd (upd w1 (125 + 3 * c.toNatClampNeg) v9) (125 + 3 * c.toNatClampNeg + 1) 1) 143) + 1)) = nLa w1 := eR.2.trans eL
      have hw : WF (upd (upd (upd w1 (125 + 3 * c.toNatClampNeg) v9) (125 + 3 * c.toNatClampNeg + 1) 1) 143 (((upd (upd w1 (125 + 3 * c.toNatClampNeg) v9) (125 + 3 * c.toNatClampNeg + 1) 1) 143) + 1)) := (hw.any (by omega))
      exact g_vret S hr hlk I dX2_falls_46 (by dsimp only [g_rm]; omega) (by dsimp only [g_rm]; omega) hQ ⟨rfl, by rw [hres, if_neg c_22]; exact ⟨⟨_, _, hW⟩, hQ5, hF⟩⟩
  refine lv_if_ne (tgt := 13) hx hb dX2_falls_1 (by decide) (fun c_1 => ?_) (fun c_1 => ?_)
  · refine lv_aload_n hx hb dX2_falls_13 rfl (lv_at hl 0 rfl) ?_
    refine g_ci (g_runV S hK I (As := []) (rest := []) (met_X2_catchesFollower l Γ htr ph i ad na mc w  hW hw  ) (cwV 0 hts (lw_V q2133 q2135 qs26 q121 q2136) rfl rfl rfl (by decide +kernel) ⟨Nat.le_of_ble_eq_true rfl, Nat.le_of_ble_eq_true rfl⟩) (g_recv hK I (g_at.of hW.o0) (ci := 1) rfl) rfl hl.1 rfl (Nat.le_of_ble_eq_true rfl) dX2_falls_14 ⟨by dsimp only [g_rm]; omega, by dsimp only [g_rm]; omega⟩) I (fun r_14 ph1 H locs hp I => ?_)
    obtain ⟨hp, hph⟩ := hp
    rw [hph] at I
    have hp : r_14 = (cF w) := hp
    rw [hp]
    refine W.widen (k := 20) (n := 100) (by dsimp only [g_rm]; omega) (by dsimp only [g_rm]; omega) ?_
    exact J_17_0 ph na mc w S2.1 S2.2 (cF w) _ _ _ hw rfl (by unfold flC; rw [if_neg c_1]; have hc1 : c = 1 := hcc.resolve_left c_1; rw [hc1]; exact Prod.ext (cF_ok hw).2 rfl) (cF_ok hw).1 hW hQ5 (g_frD.refl _ _) I (lv_sub hl [0, 1, 2, 3] rfl)
  · refine lv_aload_n hx hb dX2_falls_4 rfl (lv_at hl 0 rfl) ?_
    refine lv_iload_n hx hb dX2_falls_5 rfl (lv_at hl 2 rfl) ?_
    refine lv_aload_n hx hb dX2_falls_6 rfl (lv_at hl 3 rfl) ?_
    refine g_ci (g_runV S hK I (As := [.int h, .ref dq]) (rest := []) (met_X2_catchesLeader l Γ htr ph i ad na mc w h dq dd b S2 hW hw hT hh hQ5 hcap) (cwV 2 hts (lw_V q2110 q2112 qs24 q121 q2113) rfl rfl rfl (by decide +kernel) ⟨Nat.le_of_ble_eq_true rfl, Nat.le_of_ble_eq_true rfl⟩) (g_recv hK I (g_at.of hW.o0) (ci := 1) rfl) rfl hl.1 rfl (Nat.le_of_ble_eq_true rfl) dX2_falls_7 ⟨by dsimp only [g_rm]; omega, by dsimp only [g_rm]; omega⟩) I (fun r_7 ph1 H locs hp I => ?_)
    obtain ⟨hp, ⟨na8, mc8, hW⟩, hQ5, hF⟩ := hp
    have hp : r_7 = (cL h (nAn w + 1) (w, S2)).1 := hp
    rw [hp]
    generalize ph1 = P8 at I hW hQ5 hF
    have hck := cL_ok (nAn w + 1) (w, S2) hw hh (Nat.lt_succ_self _)
    refine lv_goto (tgt := 17) hx hb dX2_falls_10 (by decide) ?_
    refine W.widen (k := 20) (n := 100) (by dsimp only [g_rm]; omega) (by dsimp only [g_rm]; omega) ?_
    exact J_17_0 P8 na8 mc8 _ _ _ ((cL h (nAn w + 1) (w, S2)).1) _ _ _ hck.1 hck.2.1 (by unfold flC; rw [if_pos c_1]; have z := hck.2.2.2.2.2; rw [c_1]; exact z) hck.2.2.2.2.1 hW hQ5 hF I (lv_sub hl [0, 1, 2, 3] rfl)

theorem dropHN_s {w : m_w} (hw : WF w) {h : Int32} {n : Nat} (hn : n < nLa w) : dropHN w h (n + 1) = if ¬ dropHN w h n (105 + 5 * n + 1) = -1 ∨ ¬ dropHN w h n (105 + 5 * n) = h then dropHN w h n else dropG (dropHN w h n) n := by
  have h4 := hw.2.1.2
  have e1 : dropHN w h n (105 + 5 * n + 1) = w (105 + 5 * n + 1) := dropHN_n (by omega)
  have hc := laCar hw hn
  show (if 0 ≤ dropHN w h n (105 + 5 * n + 1) ∨ ¬ dropHN w h n (105 + 5 * n) = h then dropHN w h n else upd (upd (dropHN w h n) (105 + 5 * n) (-1)) (105 + 5 * n + 4) 0) = _
  rw [e1]
  by_cases c1 : w (105 + 5 * n + 1) = -1
  · have n1 : ¬ 0 ≤ w (105 + 5 * n + 1) := fun z => (laNC' hc).mp z c1
    by_cases c2 : dropHN w h n (105 + 5 * n) = h
    · rw [if_neg (fun z => z.elim n1 (fun z => z c2)), if_neg (fun z => z.elim (fun z => z c1) (fun z => z c2))]
      unfold dropG
      rw [upd_same (w := dropHN w h n) (i := 105 + 5 * n + 1) (by rw [e1, c1])]
    · rw [if_pos (Or.inr c2), if_pos (Or.inr c2)]
  · rw [if_pos (Or.inl ((laNC' hc).mpr c1)), if_pos (Or.inl c1)]
set_option maxHeartbeats 4000000 in
set_option maxRecDepth 100000 in
theorem met_X2_crumbles (l : Launch) (Γ : g_C) (htr : l.stackTraces = false) (ph : g_H) (i : Nat) (ad na : Nat → Nat) (mc : Nat → Int32) (w : m_w) (cr : Nat → Int32) (h : Int32)  (hW : g_Wl Γ ph i ad na mc w) (hw : WF w) (hT : g_Tr 36 ph) (hh : vp_in h (nN w)) : g_Met l yX2_crumbles (ws_ yX2_crumbles cX2_crumbles 5 none) (g_rm 11 400 2000) Γ [.ref (ad 0), .int h] ph (g_ov (fun ph' => ∃ na' mc', g_Wl Γ ph' i ad na' mc' ((crW w cr h).1) ∧ g_frR i ph ph')) g_no := by
  refine g_start (y := yX2_crumbles) (cc := cX2_crumbles) (maxL := 5) (ret := none) (rm := g_rm 11 400 2000) (by decide) (Nat.le_of_ble_eq_true rfl) ?_
  intro pg e s m A below meth cd ls Q hQ S hr hlk hex hnm hK I hl
  have hx := S.1
  have hb := S.2.1
  have hown := S.2.2.2.1
  have hts := S.2.2.2.2
  have S : CallFix pg m cd cX2_crumbles 5 s A lw_all "CrumblingWall$Wall" := S
  have hl : lv_has ls 5 [(0, .ref (ad 0)), (1, .int h)] := hl
  have hwc := hw.1; have hwl := hw.2.1; have hwa := hw.2.2.1
  have hT36 := hT
  have hT0 : g_Tr 34 ph := hT36.sub (by decide)
  have hw0 := hw
  have hb1 := okHx hw hh
  have hb2 := hb1.1
  refine g_new S hK I 34 0 k_J25 q2000 q705 q150 (fs := [.null, .int 0, .int 0]) (by decide) (Nat.le_of_ble_eq_true rfl) (Nat.le_of_ble_eq_true rfl) dX2_crumbles_0 (fun dq H hfdq I => ?_)
  have hW0 := hW
  generalize hPe : gput ph 34 0 dq (.inr (25, [.null, .int 0, .int 0])) = P1 at I
  have hq1 : P1 34 0 dq = some (.inr (25, [.null, .int 0, .int 0])) := by rw [← hPe]; exact gput_self _ _ _ _ _
  have hg1 : g_fr [(34, 0), (35, 0)] ph P1 := by rw [← hPe]; exact (g_fr.refl _ _).put (by simp)
  refine lv_dup hx hb dX2_crumbles_3 rfl ?_
  refine g_cv (g_runI S hK I (As := []) (rest := [.ref dq]) (met_J25_init l Γ P1 34 0 dq 35 (fun t => g_bx Γ ((upd cr 0 h) (0 + t)).toNatClampNeg) hq1 (by decide)) (cwI 0 hts (lw_meth q708) rfl rfl rfl (hts _ q150) (hts _ q2001) (hts _ q707) rfl (by decide +kernel) ⟨Nat.le_of_ble_eq_true rfl, Nat.le_of_ble_eq_true rfl⟩) rfl hl.1 rfl (Nat.le_of_ble_eq_true rfl) dX2_crumbles_4 ⟨by dsimp only [g_rm]; omega, by dsimp only [g_rm]; omega⟩) I (fun ph1 H locs hp I => ?_)
  obtain ⟨dd, hA, hg2⟩ := hp
  generalize ph1 = P2 at I hA hg2
  have hg1 := hg1.trans hg2
  refine lv_astore_n (lv' := [(2, .ref dq), (0, .ref (ad 0)), (1, .int h)]) hx hb dX2_crumbles_7 rfl hl (by decide) rfl (fun ls hl => ?_)
  refine lv_aload_n hx hb dX2_crumbles_8 rfl (lv_at hl 0 rfl) ?_
  refine lv_iload_n hx hb dX2_crumbles_9 rfl (lv_at hl 2 rfl) ?_
  refine g_cr (g_runS S hK I (As := [.int h]) (rest := [.ref dq]) (met_J22_valueOf l Γ P2 h h.toNatClampNeg hb1.2.symm (by omega)) (va_cwS 1 hts (lw_S q2002 q2003 q146 q2004) rfl rfl rfl (by decide +kernel) ⟨Nat.le_of_ble_eq_true rfl, Nat.le_of_ble_eq_true rfl⟩) rfl hl.1 rfl (Nat.le_of_ble_eq_true rfl) dX2_crumbles_10 ⟨by dsimp only [g_rm]; omega, by dsimp only [g_rm]; omega⟩) I (fun r_10 ph1 H locs hp I => ?_)
  obtain ⟨hp, hph⟩ := hp
  rw [hph] at I
  have hp : r_10 = (g_bx Γ h.toNatClampNeg) := hp
  rw [hp]
  refine g_cv (g_runV S hK I (As := [.ref (g_bx Γ h.toNatClampNeg)]) (rest := []) (met_J25_addLast l Γ P2 34 0 dq 35 dd 0 0 _ (g_bx Γ h.toNatClampNeg) hA (by decide) (Or.inr ⟨_, by omega, rfl⟩) (by decide)) (cwV 1 hts (lw_V q2022 q1734 q1735 q150 q1736) rfl rfl rfl (by decide +kernel) ⟨Nat.le_of_ble_eq_true rfl, Nat.le_of_ble_eq_true rfl⟩) (by obtain ⟨f7, hq7, -⟩ := hA; exact g_recv hK I (g_at.of hq7) (ci := 25) rfl) rfl hl.1 rfl (Nat.le_of_ble_eq_true rfl) dX2_crumbles_13 ⟨by dsimp only [g_rm]; omega, by dsimp only [g_rm]; omega⟩) I (fun ph1 H locs hp I => ?_)
  obtain ⟨hA, hg2⟩ := hp
  generalize ph1 = P3 at I hA hg2
  have hg1 := hg1.trans hg2
  have hW := hW0.frL hg1 (by simp)
  have hF : g_frD i ph P3 := g_frD.ofL hg1
  have hQ5 : g_CQ Γ P3 dq dd 0 (upd cr 0 h) 1 := ⟨by decide, 0, hA.it (fun t ht => by obtain rfl : t = 0 := (by omega); rw [va_up_s, Nat.zero_add, upd_s])⟩
  have L_16 : ∀ (d : Nat) (k : Nat) (d9 : Nat) (P9 : g_H) (na9 : Nat → Nat) (mc9 : Nat → Int32) (w1 : m_w) (cr9 : Nat → Int32) (n9 : Nat), (hdk : d9 + k = nAn w + 2) → (hcp : n9 + nAn w1 ≤ nAn w + 1) → (hw1 : WF w1) → (hN1 : nN w1 = nN w) → (hit : ∀ t, t < n9 → vp_in (cr9 t) (nN w)) → (hE : crF d9 k (w1, cr9, n9) = crW w cr h) → (hW : g_Wl Γ P9 i ad na9 mc9 w1) → (hQ5 : g_CQ Γ P9 dq dd k cr9 n9) → (hF : g_frD i ph P9) → d9 < d → ∀ (H : Heap) (locs : List Loc) (ls : Array Slot), g_I Γ P9 s H locs → lv_has ls 5 [(0, .ref (ad 0)), (1, .int h), (2, .ref dq)] → W pg l e (g_rm 11 400 2000) s m A below meth cd H locs (2 + 41 * k) (20 + 205 * k) Q (F0 m 16 ls []) := by
    intro d
    induction d with
    | zero => intro k d9 P9 na9 mc9 w1 cr9 n9 hdk hcp hw1 hN1 hit hE hW hQ5 hF hd; exact absurd hd (Nat.not_lt_zero _)
    | succ d ih =>
      intro k d9 P9 na9 mc9 w1 cr9 n9 hdk hcp hw1 hN1 hit hE hW hQ5 hF hd H locs ls I hl
      have hkn := hQ5.1
      have hw := hw1
      have hT := hT0.frD hF hW.ne (by decide)
      have eN : nN w1 = nN w1 := rfl
      have eL : nLa w1 = nLa w1 := rfl
      have hwc1 := hw.1; have hwl1 := hw.2.1; have hwa1 := hw.2.2.1
      refine lv_aload_n hx hb dX2_crumbles_16 rfl (lv_at hl 2 rfl) ?_
      have hQ6 := hQ5
      obtain ⟨hbn, hh9, hA9⟩ := hQ6
      refine g_ci (g_runV S hK I (As := []) (rest := []) (met_J25_isEmptyA l Γ P9 34 0 dq 35 dd hh9 (n9 - k) _ hA9) (cwV 0 hts (lw_V q2023 q2024 q2025 q150 q2026) rfl rfl rfl (by decide +kernel) ⟨Nat.le_of_ble_eq_true rfl, Nat.le_of_ble_eq_true rfl⟩) (by obtain ⟨f7, hq7, -⟩ := hA9; exact g_recv hK I (g_at.of hq7) (ci := 25) rfl) rfl hl.1 rfl (Nat.le_of_ble_eq_true rfl) dX2_crumbles_17 ⟨by dsimp only [g_rm]; omega, by dsimp only [g_rm]; omega⟩) I (fun r_17 ph1 H locs hp I => ?_)
      obtain ⟨hp, hph⟩ := hp
      rw [hph] at I
      have hp : r_17 = (b2i (decide (n9 - k = 0))) := hp
      rw [hp]
      refine lv_if_ne (tgt := 151) hx hb dX2_crumbles_20 (by decide) (fun c_20 => ?_) (fun c_20 => ?_)
      · have p_20 := of_decide_eq_true ((b2i_ne0 _).mp c_20)
        have c_20 := p_20
        have hkn0 : ¬ k < n9 := by omega
        have hEe : crF d9 k (w1, cr9, n9) = (w1, cr9, n9) := crF_end hkn0
        obtain ⟨P5, I, hW, hF⟩ := hW.empty I (n := 36) (fun j i' h1 h2 => hF j i' h1 (fun z => h2 ⟨z.1, by omega, by omega⟩)) hT36 (by decide)
        exact g_vret S hr hlk I dX2_crumbles_151 (by dsimp only [g_rm]; omega) (by dsimp only [g_rm]; omega) hQ ⟨rfl, _, _, by rw [← hE, hEe]; exact hW, hF⟩
      · have p_20 := of_decide_eq_false ((b2i_eq0 _).mp c_20)
        have c_20 := p_20
        refine lv_aload_n hx hb dX2_crumbles_23 rfl (lv_at hl 2 rfl) ?_
        have hkl : k < n9 := by omega
        obtain ⟨n0, hn0⟩ : ∃ n0, n9 - k = n0 + 1 := ⟨n9 - k - 1, by omega⟩
        rw [hn0] at hA9
        have hh0 := hit k hkl
        have hb9 : (cr9 k).toNatClampNeg < nN w ∧ nI (cr9 k).toNatClampNeg = cr9 k := okHx hw0 hh0
        have hb8 := hb9.1
        refine g_cr (g_runV S hK I (As := []) (rest := []) (met_J25_removeFirst l Γ P9 34 0 dq 35 dd hh9 n0 _ hA9 (by decide)) (cwV 0 hts (lw_V q2027 q1766 q1767 q150 q1768) rfl rfl rfl (by decide +kernel) ⟨Nat.le_of_ble_eq_true rfl, Nat.le_of_ble_eq_true rfl⟩) (by obtain ⟨f7, hq7, -⟩ := hA9; exact g_recv hK I (g_at.of hq7) (ci := 25) rfl) rfl hl.1 rfl (Nat.le_of_ble_eq_true rfl) dX2_crumbles_24 ⟨by dsimp only [g_rm]; omega, by dsimp only [g_rm]; omega⟩) I (fun r_24 ph1 H locs hp I => ?_)
        obtain ⟨hp, hA9, hg9⟩ := hp
        have hp : r_24 = (g_bx Γ (cr9 k).toNatClampNeg) := hp
        rw [hp]
        generalize ph1 = P8 at I hA9 hg9
        have hQ5 : g_CQ Γ P8 dq dd (k + 1) cr9 n9 := ⟨hkl, _, by rw [show n9 - (k + 1) = n0 by omega]; exact hA9.it (fun t _ => by rw [show k + 1 + t = k + (t + 1) by omega])⟩
        have hW := hW.frL hg9 (by simp)
        have hF := hF.trans (g_frD.ofL hg9)
        have hT := hT0.frD hF hW.ne (by decide)
        refine g_castI S hK q1200 (g_recvB hK I (by omega)) dX2_crumbles_27 ?_
        refine g_ci (g_runV S hK I (As := []) (rest := []) (met_J22_intValue l Γ P8 (cr9 k).toNatClampNeg (by omega)) (cwV 0 hts (lw_V q1201 q1202 q1203 q146 q1204) rfl rfl rfl (by decide +kernel) ⟨Nat.le_of_ble_eq_true rfl, Nat.le_of_ble_eq_true rfl⟩) (g_recvB hK I (by omega)) rfl hl.1 rfl (Nat.le_of_ble_eq_true rfl) dX2_crumbles_30 ⟨by dsimp only [g_rm]; omega, by dsimp only [g_rm]; omega⟩) I (fun r_30 ph1 H locs hp I => ?_)
        obtain ⟨hp, hph⟩ := hp
        rw [hph] at I
        have hp : r_30 = cr9 k := hp.trans hb9.2
        rw [hp]
        refine lv_istore_n (lv' := [(3, .int (cr9 k)), (0, .ref (ad 0)), (1, .int h), (2, .ref dq)]) hx hb dX2_crumbles_33 rfl hl (by decide) rfl (fun ls hl => ?_)
        refine lv_aload_n hx hb dX2_crumbles_34 rfl (lv_at hl 1 rfl) ?_
        refine lv_iload_n hx hb dX2_crumbles_35 rfl (lv_at hl 0 rfl) ?_
        refine g_cv (g_runV S hK I (As := [.int (cr9 k)]) (rest := []) (met_X2_takesOut l Γ htr P8 i ad na9 mc9 w1 (cr9 k) hW hw hT ) (cwV 1 hts (lw_V q2028 q2030 qs21 q121 q2031) rfl rfl rfl (by decide +kernel) ⟨Nat.le_of_ble_eq_true rfl, Nat.le_of_ble_eq_true rfl⟩) (g_recv hK I (g_at.of hW.o0) (ci := 1) rfl) rfl hl.1 rfl (Nat.le_of_ble_eq_true rfl) dX2_crumbles_36 ⟨by dsimp only [g_rm]; omega, by dsimp only [g_rm]; omega⟩) I (fun ph1 H locs hp I => ?_)
        obtain ⟨na_2, mc_3, hW, hG⟩ := hp
        have I : g_I Γ ph1 s H locs := I
        generalize ph1 = P_1 at I hW hG
        have hF : g_frD i ph P_1 := hF.trans (g_frD.ofR hG)
        have hT : g_Tr 34 P_1 := hT.fr hG hW.ne
        have hQ5 := hQ5.frR hG hW.ne
        have eR : nN (tkW w1 (cr9 k)) = nN w1 ∧ nLa (tkW w1 (cr9 k)) = nLa w1 := by refine ⟨nN_eq ?_, nLa_eq ?_⟩ <;> exact tkW_n hw (by omega)
        have eN : nN (tkW w1 (cr9 k)) = nN w1 := eR.1.trans eN
        have eL : nLa (tkW w1 (cr9 k)) = nLa w1 := eR.2.trans eL
        have hw : WF (tkW w1 (cr9 k)) := hw.tk
        have htk : WF (tkW w1 (cr9 k)) := hw
        refine lv_iconst (v := 0) hx hb dX2_crumbles_39 (by decide) ?_
        refine lv_istore (lv' := [(4, .int 0), (3, .int (cr9 k)), (0, .ref (ad 0)), (1, .int h), (2, .ref dq)]) hx hb dX2_crumbles_40 hl (by decide) rfl (fun ls hl => ?_)
        have L_42 : ∀ (dj : Nat) (j : Nat) (P9 : g_H) (na9 : Nat → Nat) (mc9 : Nat → Int32), (hj : j ≤ nLa w1) → (hW : g_Wl Γ P9 i ad na9 mc9 (dropHN (tkW w1 (cr9 k)) (cr9 k) j)) → (hQ5 : g_CQ Γ P9 dq dd (k + 1) cr9 n9) → (hF : g_frD i ph P9) → nLa w1 - j < dj → ∀ (H : Heap) (locs : List Loc) (ls : Array Slot), g_I Γ P9 s H locs → lv_has ls 5 [(0, .ref (ad 0)), (1, .int h), (2, .ref dq), (3, .int (cr9 k)), (4, .int (nI j))] → W pg l e (g_rm 11 400 2000) s m A below meth cd H locs (2 + 41 * k + 1) (20 + 205 * k + 5) Q (F0 m 42 ls []) := by
          intro dj
          induction dj with
          | zero => intro j P9 na9 mc9 hj hW hQ5 hF hd; exact absurd hd (Nat.not_lt_zero _)
          | succ dj ihj =>
            intro j P9 na9 mc9 hj hW hQ5 hF hdj H locs ls I hl
            have hT := hT0.frD hF hW.ne (by decide)
            have hw : WF (dropHN (tkW w1 (cr9 k)) (cr9 k) j) := htk.dropHN (by omega)
            have eR : nN (dropHN (tkW w1 (cr9 k)) (cr9 k) j) = nN w1 ∧ nLa (dropHN (tkW w1 (cr9 k)) (cr9 k) j) = nLa w1 := ⟨nN_eq (by rw [dropHN_n (by omega), tkW_n hw1 (by omega)]), nLa_eq (by rw [dropHN_n (by omega), tkW_n hw1 (by omega)])⟩
            have eN := eR.1
            have eL := eR.2
            refine lv_iload hx hb dX2_crumbles_42 (lv_at hl 4 rfl) ?_
            refine lv_aload_n hx hb dX2_crumbles_44 rfl (lv_at hl 0 rfl) ?_
            refine g_get S hK I k_X2 (v := .ref (ad 3)) (g_at.of hW.o0) 1 (by decide) q646 rfl rfl dX2_crumbles_45 ?_
            refine g_ci (g_runV S hK I (As := []) (rest := [.int (nI j)]) (met_J7_size l Γ P9 103 i (ad 3) (ad 4) (mc9 2) ((dropHN (tkW w1 (cr9 k)) (cr9 k) j) 104) hW.o3) (cwV 0 hts (lw_V q1353 q994 q3516 q130 q995) rfl rfl rfl (by decide +kernel) ⟨Nat.le_of_ble_eq_true rfl, Nat.le_of_ble_eq_true rfl⟩) (g_recv hK I (g_at.of hW.o3) (ci := 21) rfl) rfl hl.1 rfl (Nat.le_of_ble_eq_true rfl) dX2_crumbles_48 ⟨by dsimp only [g_rm]; omega, by dsimp only [g_rm]; omega⟩) I (fun r_48 ph1 H locs hp I => ?_)
            obtain ⟨hp, hph⟩ := hp
            rw [hph] at I
            have hp : r_48 = ((dropHN (tkW w1 (cr9 k)) (cr9 k) j) 104) := hp
            rw [hp, show ((dropHN (tkW w1 (cr9 k)) (cr9 k) j) 104) = (nI (nLa (dropHN (tkW w1 (cr9 k)) (cr9 k) j))) from hw.2.1.1]
            refine lv_icmp_ge (tgt := 112) hx hb dX2_crumbles_51 (by decide) (fun c_51 => ?_) (fun c_51 => ?_)
            · have n_51 := Int32.not_lt.mpr c_51
              obtain rfl : j = nLa w1 := by rw [nI_leI (by omega) (by omega)] at c_51; omega
              have hW : g_Wl Γ P9 i ad na9 mc9 (trD w1 (cr9 k)) := hW
              have hw : WF (trD w1 (cr9 k)) := hw
              have eN : nN (trD w1 (cr9 k)) = nN w1 := eN
              have eL : nLa (trD w1 (cr9 k)) = nLa w1 := eL
              have hcpD : n9 + nAn (trD w1 (cr9 k)) ≤ 9 := by have := trD_An hw1 (h := cr9 k); omega
              have hh1 : vp_in (cr9 k) (nN w1) := by rw [hN1]; exact hh0
              have htl := trL_ok (h := cr9 k) (S := (w1, cr9, n9)) hw1 hh1
              have htw := trW_ok (h := cr9 k) (S := (w1, cr9, n9)) hw1 hh1
              refine lv_iconst (v := 0) hx hb dX2_crumbles_112 (by decide) ?_
              refine lv_istore (lv' := [(4, .int 0), (0, .ref (ad 0)), (1, .int h), (2, .ref dq), (3, .int (cr9 k))]) hx hb dX2_crumbles_113 hl (by decide) rfl (fun ls hl => ?_)
              refine lv_iload hx hb dX2_crumbles_115 (lv_at hl 0 rfl) ?_
              refine lv_iconst (v := 1) hx hb dX2_crumbles_117 (by decide) ?_
              refine lv_icmp_gt (tgt := 148) hx hb dX2_crumbles_118 (by decide) (fun c_118 => absurd c_118 ((by decide))) (fun _ => ?_)
              refine lv_aload_n hx hb dX2_crumbles_121 rfl (lv_at hl 1 rfl) ?_
              refine lv_iload hx hb dX2_crumbles_122 (lv_at hl 0 rfl) ?_
              refine g_cr (g_runV S hK I (As := [.int 0]) (rest := []) (met_X2_climber l Γ htr P9 i ad na9 mc9 (trD w1 (cr9 k)) 0 hW hw  (vp_lit (by decide))) (cwV 1 hts (lw_V q782 q783 q784 q121 q785) rfl rfl rfl (by decide +kernel) ⟨Nat.le_of_ble_eq_true rfl, Nat.le_of_ble_eq_true rfl⟩) (g_recv hK I (g_at.of hW.o0) (ci := 1) rfl) rfl hl.1 rfl (Nat.le_of_ble_eq_true rfl) dX2_crumbles_124 ⟨by dsimp only [g_rm]; omega, by dsimp only [g_rm]; omega⟩) I (fun r_124 ph1 H locs hp I => ?_)
              obtain ⟨hp, hph⟩ := hp
              rw [hph] at I
              have hp : r_124 = (ad (10 + 0)) := hp
              rw [hp]
              refine g_getN S hK I k_X3 (v := .int ((trD w1 (cr9 k)) (125 + 3 * 0))) (g_at.of (hW.cl (c := 0) (by decide))) 1 (by decide) q212 rfl rfl dX2_crumbles_127 ?_
              refine lv_iload_n hx hb dX2_crumbles_130 rfl (lv_at hl 4 rfl) ?_
              have J_142_3 : ∀ (P6 : g_H) (na6 : Nat → Nat) (mc6 : Nat → Int32) (H : Heap) (locs : List Loc) (ls : Array Slot), (hW : g_Wl Γ P6 i ad na6 mc6 (trL (cr9 k) (w1, cr9, n9)).1) → (hQ5 : g_CQ Γ P6 dq dd (k + 1) (trL (cr9 k) (w1, cr9, n9)).2.1 (trL (cr9 k) (w1, cr9, n9)).2.2) → (hF : g_frD i ph P6) → g_I Γ P6 s H locs → lv_has ls 5 [(4, .int 0), (0, .ref (ad 0)), (1, .int h), (2, .ref dq), (3, .int (cr9 k))] → W pg l e (g_rm 11 400 2000) s m A below meth cd H locs (2 + 41 * k + 21) (20 + 205 * k + 105) Q (F0 m 142 ls []) := by
                intro P6 na6 mc6 H locs ls hW hQ5 hF I hl
                have hT := hT0.frD hF hW.ne (by decide)
                have hw : WF (trL (cr9 k) (w1, cr9, n9)).1 := htl.1
                have hN2 : nN (trL (cr9 k) (w1, cr9, n9)).1 = nN w1 := htl.2.1
                have hcp2 : (trL (cr9 k) (w1, cr9, n9)).2.2 + nAn (trL (cr9 k) (w1, cr9, n9)).1 ≤ 9 := (by have z : _ ≤ n9 + nAn w1 := htl.2.2.1; omega)
                refine lv_iinc (v := 1) (lv' := [(4, .int 1), (0, .ref (ad 0)), (1, .int h), (2, .ref dq), (3, .int (cr9 k))]) hx hb dX2_crumbles_142 hl (k := 0) rfl rfl (by decide) rfl (fun ls hl => ?_)
                refine lv_goto (tgt := 115) hx hb dX2_crumbles_145 (by decide) ?_
                refine lv_iload hx hb dX2_crumbles_115 (lv_at hl 0 rfl) ?_
                refine lv_iconst (v := 1) hx hb dX2_crumbles_117 (by decide) ?_
                refine lv_icmp_gt (tgt := 148) hx hb dX2_crumbles_118 (by decide) (fun c_118 => absurd c_118 ((by decide))) (fun _ => ?_)
                refine lv_aload_n hx hb dX2_crumbles_121 rfl (lv_at hl 1 rfl) ?_
                refine lv_iload hx hb dX2_crumbles_122 (lv_at hl 0 rfl) ?_
                refine g_cr (g_runV S hK I (As := [.int 1]) (rest := []) (met_X2_climber l Γ htr P6 i ad na6 mc6 ((trL (cr9 k) (w1, cr9, n9)).1) 1 hW hw  (vp_lit (by decide))) (cwV 1 hts (lw_V q782 q783 q784 q121 q785) rfl rfl rfl (by decide +kernel) ⟨Nat.le_of_ble_eq_true rfl, Nat.le_of_ble_eq_true rfl⟩) (g_recv hK I (g_at.of hW.o0) (ci := 1) rfl) rfl hl.1 rfl (Nat.le_of_ble_eq_true rfl) dX2_crumbles_124 ⟨by dsimp only [g_rm]; omega, by dsimp only [g_rm]; omega⟩) I (fun r_124 ph1 H locs hp I => ?_)
                obtain ⟨hp, hph⟩ := hp
                rw [hph] at I
                have hp : r_124 = (ad (10 + 1)) := hp
                rw [hp]
                refine g_getN S hK I k_X3 (v := .int (((trL (cr9 k) (w1, cr9, n9)).1) (125 + 3 * 1))) (g_at.of (hW.cl (c := 1) (by decide))) 1 (by decide) q212 rfl rfl dX2_crumbles_127 ?_
                refine lv_iload_n hx hb dX2_crumbles_130 rfl (lv_at hl 4 rfl) ?_
                refine lv_icmp_ne (tgt := 142) hx hb dX2_crumbles_131 (by decide) (fun c_131 => ?_) (fun c_131 => ?_)
                · refine lv_iinc (v := 2) (lv' := [(4, .int 2), (0, .ref (ad 0)), (1, .int h), (2, .ref dq), (3, .int (cr9 k))]) hx hb dX2_crumbles_142 hl (k := 0) rfl rfl (by decide) rfl (fun ls hl => ?_)
                  refine lv_goto (tgt := 115) hx hb dX2_crumbles_145 (by decide) ?_
                  refine lv_iload hx hb dX2_crumbles_115 (lv_at hl 0 rfl) ?_
                  refine lv_iconst (v := 1) hx hb dX2_crumbles_117 (by decide) ?_
                  refine lv_icmp_gt (tgt := 148) hx hb dX2_crumbles_118 (by decide) (fun _ => ?_) (fun c_118 => absurd ((by decide)) c_118)
                  refine lv_goto (tgt := 16) hx hb dX2_crumbles_148 (by decide) ?_
                  refine W.widen (k := 2 + 41 * (k + 1)) (n := 20 + 205 * (k + 1)) (by dsimp only [g_rm]; omega) (by dsimp only [g_rm]; omega) ?_
                  obtain ⟨d8, rfl⟩ : ∃ d8, d9 = d8 + 1 := ⟨d9 - 1, by omega⟩
                  have htt : (trW (cr9 k) (w1, cr9, n9)) = ((trL (cr9 k) (w1, cr9, n9)).1, (trL (cr9 k) (w1, cr9, n9)).2) := by unfold trW; rw [if_neg (show ¬ plc (trL (cr9 k) (w1, cr9, n9)).1 1 = cr9 k from c_131)]
                  have hW : g_Wl Γ P6 i ad na6 mc6 (trW (cr9 k) (w1, cr9, n9)).1 := by rw [htt]; exact hW
                  have hQ5 : g_CQ Γ P6 dq dd (k + 1) (trW (cr9 k) (w1, cr9, n9)).2.1 (trW (cr9 k) (w1, cr9, n9)).2.2 := by rw [htt]; exact hQ5
                  have hcp8 : (trW (cr9 k) (w1, cr9, n9)).2.2 + nAn (trW (cr9 k) (w1, cr9, n9)).1 ≤ nAn w + 1 := (by have z : _ ≤ n9 + nAn w1 := htw.2.2.1; omega)
                  have hit8 : ∀ t, t < (trW (cr9 k) (w1, cr9, n9)).2.2 → vp_in ((trW (cr9 k) (w1, cr9, n9)).2.1 t) (nN w) := fun t ht => by by_cases e9 : t < n9; rw [htw.2.2.2.2.1 t e9]; exact hit t e9; rw [← hN1]; exact htw.2.2.2.2.2.1 t (by have z : ¬ t < n9 := e9; show n9 ≤ t; omega) ht
                  have hE8 : crF d8 (k + 1) ((trW (cr9 k) (w1, cr9, n9)).1, (trW (cr9 k) (w1, cr9, n9)).2.1, (trW (cr9 k) (w1, cr9, n9)).2.2) = crW w cr h := by rw [← hE]; exact (if_pos hkl).symm
                  exact ih (k + 1) d8 P6 na6 mc6 _ _ _ (by omega) hcp8 htw.1 (htw.2.1.trans hN1) hit8 hE8 hW hQ5 hF (by omega) _ _ _ I (lv_sub hl [1, 2, 3] rfl)
                · refine lv_aload_n hx hb dX2_crumbles_134 rfl (lv_at hl 1 rfl) ?_
                  refine lv_iload hx hb dX2_crumbles_135 (lv_at hl 0 rfl) ?_
                  refine lv_iload_n hx hb dX2_crumbles_137 rfl (lv_at hl 4 rfl) ?_
                  refine lv_aload_n hx hb dX2_crumbles_138 rfl (lv_at hl 3 rfl) ?_
                  refine g_cv (g_runV S hK I (As := [.int 1, .int (cr9 k), .ref dq]) (rest := []) (met_X2_falls l Γ htr P6 i ad na6 mc6 ((trL (cr9 k) (w1, cr9, n9)).1) 1 (cr9 k) dq dd (k + 1) ((trL (cr9 k) (w1, cr9, n9)).2.1, (trL (cr9 k) (w1, cr9, n9)).2.2) hW hw hT (vp_lit (by decide)) (by rw [hN2]; exact hh1) hQ5 hcp2) (cwV 3 hts (lw_V q2106 q2108 qs23 q121 q2109) rfl rfl rfl (by decide +kernel) ⟨Nat.le_of_ble_eq_true rfl, Nat.le_of_ble_eq_true rfl⟩) (g_recv hK I (g_at.of hW.o0) (ci := 1) rfl) rfl hl.1 rfl (Nat.le_of_ble_eq_true rfl) dX2_crumbles_139 ⟨by dsimp only [g_rm]; omega, by dsimp only [g_rm]; omega⟩) I (fun ph1 H locs hp I => ?_)
                  obtain ⟨⟨na8, mc8, hW⟩, hQ5, hG⟩ := hp
                  have hF := hF.trans hG
                  generalize ph1 = P7 at I hW hQ5 hG hF
                  refine lv_iinc (v := 2) (lv' := [(4, .int 2), (0, .ref (ad 0)), (1, .int h), (2, .ref dq), (3, .int (cr9 k))]) hx hb dX2_crumbles_142 hl (k := 0) rfl rfl (by decide) rfl (fun ls hl => ?_)
                  refine lv_goto (tgt := 115) hx hb dX2_crumbles_145 (by decide) ?_
                  refine lv_iload hx hb dX2_crumbles_115 (lv_at hl 0 rfl) ?_
                  refine lv_iconst (v := 1) hx hb dX2_crumbles_117 (by decide) ?_
                  refine lv_icmp_gt (tgt := 148) hx hb dX2_crumbles_118 (by decide) (fun _ => ?_) (fun c_118 => absurd ((by decide)) c_118)
                  refine lv_goto (tgt := 16) hx hb dX2_crumbles_148 (by decide) ?_
                  refine W.widen (k := 2 + 41 * (k + 1)) (n := 20 + 205 * (k + 1)) (by dsimp only [g_rm]; omega) (by dsimp only [g_rm]; omega) ?_
                  obtain ⟨d8, rfl⟩ : ∃ d8, d9 = d8 + 1 := ⟨d9 - 1, by omega⟩
                  have htt : (trW (cr9 k) (w1, cr9, n9)) = (folF (trL (cr9 k) (w1, cr9, n9)).1, (trL (cr9 k) (w1, cr9, n9)).2) := by unfold trW; rw [if_pos (show plc (trL (cr9 k) (w1, cr9, n9)).1 1 = cr9 k from c_131)]
                  have hW : g_Wl Γ P7 i ad na8 mc8 (trW (cr9 k) (w1, cr9, n9)).1 := by rw [htt]; exact hW
                  have hQ5 : g_CQ Γ P7 dq dd (k + 1) (trW (cr9 k) (w1, cr9, n9)).2.1 (trW (cr9 k) (w1, cr9, n9)).2.2 := by rw [htt]; exact hQ5
                  have hcp8 : (trW (cr9 k) (w1, cr9, n9)).2.2 + nAn (trW (cr9 k) (w1, cr9, n9)).1 ≤ nAn w + 1 := (by have z : _ ≤ n9 + nAn w1 := htw.2.2.1; omega)
                  have hit8 : ∀ t, t < (trW (cr9 k) (w1, cr9, n9)).2.2 → vp_in ((trW (cr9 k) (w1, cr9, n9)).2.1 t) (nN w) := fun t ht => by by_cases e9 : t < n9; rw [htw.2.2.2.2.1 t e9]; exact hit t e9; rw [← hN1]; exact htw.2.2.2.2.2.1 t (by have z : ¬ t < n9 := e9; show n9 ≤ t; omega) ht
                  have hE8 : crF d8 (k + 1) ((trW (cr9 k) (w1, cr9, n9)).1, (trW (cr9 k) (w1, cr9, n9)).2.1, (trW (cr9 k) (w1, cr9, n9)).2.2) = crW w cr h := by rw [← hE]; exact (if_pos hkl).symm
                  exact ih (k + 1) d8 P7 na8 mc8 _ _ _ (by omega) hcp8 htw.1 (htw.2.1.trans hN1) hit8 hE8 hW hQ5 hF (by omega) _ _ _ I (lv_sub hl [1, 2, 3] rfl)
              refine lv_icmp_ne (tgt := 142) hx hb dX2_crumbles_131 (by decide) (fun c_131 => ?_) (fun c_131 => ?_)
              · refine W.widen (k := 2 + 41 * k + 21) (n := 20 + 205 * k + 105) (by dsimp only [g_rm]; omega) (by dsimp only [g_rm]; omega) ?_
                exact J_142_3 P9 na9 mc9 _ _ _ (by have z : trL (cr9 k) (w1, cr9, n9) = (trD w1 (cr9 k), cr9, n9) := if_neg c_131; rw [z]; exact hW) (by have z : trL (cr9 k) (w1, cr9, n9) = (trD w1 (cr9 k), cr9, n9) := if_neg c_131; rw [z]; exact hQ5) hF I (lv_sub hl [0, 1, 2, 3, 4] rfl)
              · refine lv_aload_n hx hb dX2_crumbles_134 rfl (lv_at hl 1 rfl) ?_
                refine lv_iload hx hb dX2_crumbles_135 (lv_at hl 0 rfl) ?_
                refine lv_iload_n hx hb dX2_crumbles_137 rfl (lv_at hl 4 rfl) ?_
                refine lv_aload_n hx hb dX2_crumbles_138 rfl (lv_at hl 3 rfl) ?_
                refine g_cv (g_runV S hK I (As := [.int 0, .int (cr9 k), .ref dq]) (rest := []) (met_X2_falls l Γ htr P9 i ad na9 mc9 (trD w1 (cr9 k)) 0 (cr9 k) dq dd (k + 1) (cr9, n9) hW hw hT (vp_lit (by decide)) (by rw [eN]; exact hh1) hQ5 hcpD) (cwV 3 hts (lw_V q2106 q2108 qs23 q121 q2109) rfl rfl rfl (by decide +kernel) ⟨Nat.le_of_ble_eq_true rfl, Nat.le_of_ble_eq_true rfl⟩) (g_recv hK I (g_at.of hW.o0) (ci := 1) rfl) rfl hl.1 rfl (Nat.le_of_ble_eq_true rfl) dX2_crumbles_139 ⟨by dsimp only [g_rm]; omega, by dsimp only [g_rm]; omega⟩) I (fun ph1 H locs hp I => ?_)
                obtain ⟨⟨na8, mc8, hW⟩, hQ5, hG⟩ := hp
                have hF := hF.trans hG
                generalize ph1 = P7 at I hW hQ5 hG hF
                refine W.widen (k := 2 + 41 * k + 21) (n := 20 + 205 * k + 105) (by dsimp only [g_rm]; omega) (by dsimp only [g_rm]; omega) ?_
                exact J_142_3 P7 na8 mc8 _ _ _ (by have z : trL (cr9 k) (w1, cr9, n9) = ldL (cr9 k) (trD w1 (cr9 k), cr9, n9) := if_pos c_131; rw [z]; exact hW) (by have z : trL (cr9 k) (w1, cr9, n9) = ldL (cr9 k) (trD w1 (cr9 k), cr9, n9) := if_pos c_131; rw [z]; exact hQ5) hF I (lv_sub hl [0, 1, 2, 3, 4] rfl)
            · have n_51 := Int32.not_le.mp c_51
              have hjl : j < nLa w1 := by rw [nI_leI (by omega) (by omega)] at c_51; omega
              refine lv_aload_n hx hb dX2_crumbles_54 rfl (lv_at hl 0 rfl) ?_
              refine g_get S hK I k_X2 (v := .ref (ad 3)) (g_at.of hW.o0) 1 (by decide) q646 rfl rfl dX2_crumbles_55 ?_
              refine lv_iload hx hb dX2_crumbles_58 (lv_at hl 4 rfl) ?_
              refine g_cr (g_runV S hK I (As := [.int (nI j)]) (rest := []) (met_w_get3 l Γ P9 i ad na9 mc9 (dropHN (tkW w1 (cr9 k)) (cr9 k) j) hW hw j (by omega)) (cwV 1 hts (lw_V q883 q793 q3509 q130 q795) rfl rfl rfl (by decide +kernel) ⟨Nat.le_of_ble_eq_true rfl, Nat.le_of_ble_eq_true rfl⟩) (g_recv hK I (g_at.of hW.o3) (ci := 21) rfl) rfl hl.1 rfl (Nat.le_of_ble_eq_true rfl) dX2_crumbles_60 ⟨by dsimp only [g_rm]; omega, by dsimp only [g_rm]; omega⟩) I (fun r_60 ph1 H locs hp I => ?_)
              obtain ⟨hp, hph⟩ := hp
              rw [hph] at I
              have hp : r_60 = (ad (20 + j)) := hp
              rw [hp]
              refine g_castS S hK (ci := 10) rfl q1559 (g_recv hK I (g_at.of (hW.la (k := j) (by omega))) (ci := 10) rfl) dX2_crumbles_63 ?_
              refine g_ci (g_runV S hK I (As := []) (rest := []) (met_X12_isCarried l Γ htr P9 i ad na9 mc9 (dropHN (tkW w1 (cr9 k)) (cr9 k) j) j hW hw  (by omega)) (cwV 0 hts (lw_V q1858 q1859 q1860 q162 q1861) rfl rfl rfl (by decide +kernel) ⟨Nat.le_of_ble_eq_true rfl, Nat.le_of_ble_eq_true rfl⟩) (g_recv hK I (g_at.of (hW.la (k := j) (by omega))) (ci := 10) rfl) rfl hl.1 rfl (Nat.le_of_ble_eq_true rfl) dX2_crumbles_66 ⟨by dsimp only [g_rm]; omega, by dsimp only [g_rm]; omega⟩) I (fun r_66 ph1 H locs hp I => ?_)
              obtain ⟨hp, hph⟩ := hp
              rw [hph] at I
              have hp : r_66 = (b2i (decide (¬ ((dropHN (tkW w1 (cr9 k)) (cr9 k) j) (105 + 5 * j + 1)) = -1))) := hp
              rw [hp]
              refine lv_if_ne (tgt := 106) hx hb dX2_crumbles_69 (by decide) (fun c_69 => ?_) (fun c_69 => ?_)
              · have p_69 := of_decide_eq_true ((b2i_ne0 _).mp c_69)
                have c_69 := p_69
                refine lv_iinc (v := nI (j + 1)) (lv' := [(4, .int (nI (j + 1))), (0, .ref (ad 0)), (1, .int h), (2, .ref dq), (3, .int (cr9 k))]) hx hb dX2_crumbles_106 hl (k := 4) rfl (nI_1 j) (by decide) rfl (fun ls hl => ?_)
                refine lv_goto (tgt := 42) hx hb dX2_crumbles_109 (by decide) ?_
                exact ihj (j + 1) P9 na9 mc9 hjl (by rw [dropHN_s htk (by omega), if_pos (Or.inl c_69)]; exact hW) hQ5 hF (by omega) _ _ _ I (lv_sub hl [1, 2, 3, 4, 0] rfl)
              · have p_69 := of_decide_eq_false ((b2i_eq0 _).mp c_69)
                have c_69 := p_69
                refine lv_aload_n hx hb dX2_crumbles_72 rfl (lv_at hl 0 rfl) ?_
                refine g_get S hK I k_X2 (v := .ref (ad 3)) (g_at.of hW.o0) 1 (by decide) q646 rfl rfl dX2_crumbles_73 ?_
                refine lv_iload hx hb dX2_crumbles_76 (lv_at hl 4 rfl) ?_
                refine g_cr (g_runV S hK I (As := [.int (nI j)]) (rest := []) (met_w_get3 l Γ P9 i ad na9 mc9 (dropHN (tkW w1 (cr9 k)) (cr9 k) j) hW hw j (by omega)) (cwV 1 hts (lw_V q883 q793 q3509 q130 q795) rfl rfl rfl (by decide +kernel) ⟨Nat.le_of_ble_eq_true rfl, Nat.le_of_ble_eq_true rfl⟩) (g_recv hK I (g_at.of hW.o3) (ci := 21) rfl) rfl hl.1 rfl (Nat.le_of_ble_eq_true rfl) dX2_crumbles_78 ⟨by dsimp only [g_rm]; omega, by dsimp only [g_rm]; omega⟩) I (fun r_78 ph1 H locs hp I => ?_)
                obtain ⟨hp, hph⟩ := hp
                rw [hph] at I
                have hp : r_78 = (ad (20 + j)) := hp
                rw [hp]
                refine g_castS S hK (ci := 10) rfl q1559 (g_recv hK I (g_at.of (hW.la (k := j) (by omega))) (ci := 10) rfl) dX2_crumbles_81 ?_
                refine g_getN S hK I k_X12 (v := .int ((dropHN (tkW w1 (cr9 k)) (cr9 k) j) (105 + 5 * j))) (g_at.of (hW.la (k := j) (by omega))) 1 (by decide) q1574 rfl rfl dX2_crumbles_84 ?_
                refine lv_iload_n hx hb dX2_crumbles_87 rfl (lv_at hl 3 rfl) ?_
                refine lv_icmp_ne (tgt := 106) hx hb dX2_crumbles_88 (by decide) (fun c_88 => ?_) (fun c_88 => ?_)
                · refine lv_iinc (v := nI (j + 1)) (lv' := [(4, .int (nI (j + 1))), (0, .ref (ad 0)), (1, .int h), (2, .ref dq), (3, .int (cr9 k))]) hx hb dX2_crumbles_106 hl (k := 4) rfl (nI_1 j) (by decide) rfl (fun ls hl => ?_)
                  refine lv_goto (tgt := 42) hx hb dX2_crumbles_109 (by decide) ?_
                  exact ihj (j + 1) P9 na9 mc9 hjl (by rw [dropHN_s htk (by omega), if_pos (Or.inr c_88)]; exact hW) hQ5 hF (by omega) _ _ _ I (lv_sub hl [1, 2, 3, 4, 0] rfl)
                · refine lv_aload_n hx hb dX2_crumbles_91 rfl (lv_at hl 0 rfl) ?_
                  refine g_get S hK I k_X2 (v := .ref (ad 3)) (g_at.of hW.o0) 1 (by decide) q646 rfl rfl dX2_crumbles_92 ?_
                  refine lv_iload hx hb dX2_crumbles_95 (lv_at hl 4 rfl) ?_
                  refine g_cr (g_runV S hK I (As := [.int (nI j)]) (rest := []) (met_w_get3 l Γ P9 i ad na9 mc9 (dropHN (tkW w1 (cr9 k)) (cr9 k) j) hW hw j (by omega)) (cwV 1 hts (lw_V q883 q793 q3509 q130 q795) rfl rfl rfl (by decide +kernel) ⟨Nat.le_of_ble_eq_true rfl, Nat.le_of_ble_eq_true rfl⟩) (g_recv hK I (g_at.of hW.o3) (ci := 21) rfl) rfl hl.1 rfl (Nat.le_of_ble_eq_true rfl) dX2_crumbles_97 ⟨by dsimp only [g_rm]; omega, by dsimp only [g_rm]; omega⟩) I (fun r_97 ph1 H locs hp I => ?_)
                  obtain ⟨hp, hph⟩ := hp
                  rw [hph] at I
                  have hp : r_97 = (ad (20 + j)) := hp
                  rw [hp]
                  refine g_castS S hK (ci := 10) rfl q1559 (g_recv hK I (g_at.of (hW.la (k := j) (by omega))) (ci := 10) rfl) dX2_crumbles_100 ?_
                  refine g_cv (g_runV S hK I (As := []) (rest := []) (met_X12_drops l Γ htr P9 i ad na9 mc9 (dropHN (tkW w1 (cr9 k)) (cr9 k) j) j hW hw  (by omega)) (cwV 0 hts (lw_V q2102 q2103 q2104 q162 q2105) rfl rfl rfl (by decide +kernel) ⟨Nat.le_of_ble_eq_true rfl, Nat.le_of_ble_eq_true rfl⟩) (g_recv hK I (g_at.of (hW.la (k := j) (by omega))) (ci := 10) rfl) rfl hl.1 rfl (Nat.le_of_ble_eq_true rfl) dX2_crumbles_103 ⟨by dsimp only [g_rm]; omega, by dsimp only [g_rm]; omega⟩) I (fun ph1 H locs hp I => ?_)
                  obtain ⟨na_6, mc_7, hW, hG⟩ := hp
                  have I : g_I Γ ph1 s H locs := I
                  generalize ph1 = P_5 at I hW hG
                  have hF : g_frD i ph P_5 := hF.trans (g_frD.ofR hG)
                  have hT : g_Tr 34 P_5 := hT.fr hG hW.ne
                  have hQ5 := hQ5.frR hG hW.ne
                  have eR : nN (dropG (dropHN (tkW w1 (cr9 k)) (cr9 k) j) j) = nN (dropHN (tkW w1 (cr9 k)) (cr9 k) j) ∧ nLa (dropG (dropHN (tkW w1 (cr9 k)) (cr9 k) j) j) = nLa (dropHN (tkW w1 (cr9 k)) (cr9 k) j) := by refine ⟨nN_eq ?_, nLa_eq ?_⟩ <;> exact dropG_n (by omega)
                  have eN : nN (dropG (dropHN (tkW w1 (cr9 k)) (cr9 k) j) j) = nN w1 := eR.1.trans eN
                  have eL : nLa (dropG (dropHN (tkW w1 (cr9 k)) (cr9 k) j) j) = nLa w1 := eR.2.trans eL
                  have hw : WF (dropG (dropHN (tkW w1 (cr9 k)) (cr9 k) j) j) := (hw.dropG (k := j) (by omega))
                  refine lv_iinc (v := nI (j + 1)) (lv' := [(4, .int (nI (j + 1))), (0, .ref (ad 0)), (1, .int h), (2, .ref dq), (3, .int (cr9 k))]) hx hb dX2_crumbles_106 hl (k := 4) rfl (nI_1 j) (by decide) rfl (fun ls hl => ?_)
                  refine lv_goto (tgt := 42) hx hb dX2_crumbles_109 (by decide) ?_
                  exact ihj (j + 1) P_5 na_6 mc_7 hjl (by rw [dropHN_s htk (by omega), if_neg (fun z => z.elim (fun z => c_69 z) (fun z => z c_88))]; exact hW) hQ5 hF (by omega) _ _ _ I (lv_sub hl [1, 2, 3, 4, 0] rfl)
        exact L_42 _ 0 P_1 na_2 mc_3 (Nat.zero_le _) hW hQ5 hF (Nat.lt_succ_self _) _ _ _ I (lv_sub hl [2, 3, 4, 1, 0] rfl)
  exact L_16 _ 0 (nAn w + 2) P3 na mc w (upd cr 0 h) 1 rfl (by omega) hw rfl (fun t ht => by obtain rfl : t = 0 := (by omega); rw [upd_s]; exact hh) rfl hW hQ5 hF (Nat.lt_succ_self _) _ _ _ I (lv_sub hl [1, 2, 0] rfl)


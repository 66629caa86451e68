/-! THE REFERENCE: least moves -/
set_option maxRecDepth 100000
def rnd (B1 B2 : Nat → Nat) (g : Bool) : Prop := (g = false → B2 = B1) ∧ (g = true → cnN B1 21 + 1 ≤ cnN B2 21) ∧ ∀ i, B1 i ≠ 0 → B2 i ≠ 0
theorem rnd_0 {B : Nat → Nat} : rnd B B false := ⟨fun _ => rfl, fun q => absurd q (by decide), fun _ h => h⟩
theorem rnd_up {B1 B2 : Nat → Nat} {g : Bool} {j n : Nat} (h : rnd B1 B2 g) (hj : j ≤ 20) (h0 : B2 j = 0) : rnd B1 (uN B2 j (n + 2)) true := by
  have h1 := cnN_up (B := B2) (j := j) (v := n + 2) (n := 21) (by omega) h0 (by omega)
  refine ⟨fun q => absurd q (by decide), fun _ => ?_, fun i hi => ?_⟩
  · cases g with
    | false => rw [h1, h.1 rfl]; exact Nat.le_refl _
    | true => have := h.2.1 rfl; omega
  · unfold uN
    by_cases e : i = j
    · rw [if_pos e]; omega
    · rw [if_neg e]; exact h.2.2 i hi
/-- pairs looked at -/
def lkd (w : m_w) (n : Nat) (B : Nat → Nat) (i j : Nat) : Prop := B i = n + 1 → wyN w i j = true → B j ≠ 0
theorem lkd_up {w : m_w} {n : Nat} {B : Nat → Nat} {i j k : Nat} (h : lkd w n B i j) : lkd w n (uN B k (n + 2)) i j := by
  intro h1 h2
  unfold uN at h1 ⊢
  by_cases e : i = k
  · rw [if_pos e] at h1; omega
  · rw [if_neg e] at h1
    by_cases e2 : j = k
    · rw [if_pos e2]; omega
    · rw [if_neg e2]; exact h h1 h2
theorem lkd_hit {w : m_w} {n : Nat} {B : Nat → Nat} {i j : Nat} : lkd w n (uN B j (n + 2)) i j := by
  intro _ _
  unfold uN
  rw [if_pos rfl]; omega
theorem b_eq {x n : Nat} (hx : x ≤ 100) (hn : n ≤ 100) : nI x - 1 = nI n ↔ x = n + 1 := by
  constructor
  · intro h
    have h1 : (nI x - 1).toInt = (nI n).toInt := by rw [h]
    rw [b_int hx, nI_int (by omega)] at h1
    omega
  · intro h
    rw [h, nI_pred]
set_option maxHeartbeats 4000000 in
set_option maxRecDepth 100000 in
theorem met_X5_leastMoves (l : Launch) (Γ : g_C) (mo : Nat) (ad : Nat → Nat) (f : Nat → Int32) (a : Nat → Nat → Int32) (rr : Nat → UInt32) (ph : g_H)  (p0 : Int32) (p1 : Int32) (hw : WF (a 5)) : g_Met l yX5_leastMoves (ws_ yX5_leastMoves cX5_leastMoves 6 (some .int)) (g_rm 6 0 0) Γ [.ref mo, .int p0, .int p1] (mG Γ mo ad f a rr ph) (g_oi (fun v ph' => if (isCl p0 && isPl (a 5) p1) = false then v = 0 ∧ ph' = mG Γ mo ad (upd f 0 1) a rr ph else if cX (a 5) p0 1 = 2 then v = 0 ∧ ph' = mG Γ mo ad (upd f 0 2) a rr ph else ∃ (o : Option Nat) (b' : Nat → Int32), lmIs (a 5) (plN (a 5) p0) (tN p1) o ∧ match o with | some n => v = nI n ∧ ph' = mG Γ mo ad (upd f 0 0) (va_up a 14 b') rr ph | none => v = 0 ∧ ph' = mG Γ mo ad (upd f 0 2) (va_up a 14 b') rr ph)) g_no := by
  refine g_start (y := yX5_leastMoves) (cc := cX5_leastMoves) (maxL := 6) (ret := (some .int)) (rm := g_rm 6 0 0) (by decide) (Nat.le_of_ble_eq_true rfl) ?_
  intro p e s m A below meth c ls Q hQ S hr hlk hex hnm hK I hl
  have hx := S.1
  have hb := S.2.1
  have hown := S.2.2.2.1
  have hts := S.2.2.2.2
  have S : CallFix p m c cX5_leastMoves 6 s A lw_all "CrumblingWallModel" := S
  have hl : lv_has ls 6 [(0, .ref mo), (1, .int p0), (2, .int p1)] := hl
  have hN20 := hw.1.2
  refine lv_iload_n hx hb dX5_leastMoves_0 rfl (lv_at hl 1 rfl) ?_
  refine g_ci (g_runS S hK I (As := [.int p0]) (rest := []) (met_X5_isClimber l Γ (mG Γ mo ad f a rr ph) p0) (va_cwS 1 hts (lw_S q3217 q3218 q151 q3219) rfl rfl rfl (by decide +kernel) ⟨Nat.le_of_ble_eq_true rfl, Nat.le_of_ble_eq_true rfl⟩) rfl hl.1 rfl (Nat.le_of_ble_eq_true rfl) dX5_leastMoves_1 ⟨Nat.le_of_ble_eq_true rfl, Nat.le_of_ble_eq_true rfl⟩) I (fun r_1 ph1 H locs hp I => ?_)
  obtain ⟨hp, rfl⟩ := hp
  have hp : r_1 = b2i (isCl p0) := hp
  subst hp
  refine lv_if_eq (tgt := 15) hx hb dX5_leastMoves_4 (by decide) (fun c_4 => ?_) (fun c_4 => ?_)
  · have p_4 := (b2i_eq0 _).mp c_4
    refine lv_aload_n hx hb dX5_leastMoves_15 rfl (lv_at hl 0 rfl) ?_
    refine lv_iconst (v := 1) hx hb dX5_leastMoves_16 (by decide) ?_
    refine g_ci (g_runV S hK I (As := [.int 1]) (rest := []) (met_X5_fails l Γ mo ad f a rr ph 1) (cwV 1 hts (lw_V q3056 q3058 qs51 q151 q3059) rfl rfl rfl (by decide +kernel) ⟨Nat.le_of_ble_eq_true rfl, Nat.le_of_ble_eq_true rfl⟩) (g_recv hK I (g_at.of mG_obj) (ci := 4) rfl) rfl hl.1 rfl (Nat.le_of_ble_eq_true rfl) dX5_leastMoves_17 ⟨Nat.le_of_ble_eq_true rfl, Nat.le_of_ble_eq_true rfl⟩) I (fun r_17 ph1 H locs hp I => ?_)
    obtain ⟨hp, rfl⟩ := hp
    have hp : r_17 = 0 := hp
    subst hp
    have I : g_I Γ (mG Γ mo ad (upd f 0 1) a rr ph) s H locs := I
    exact g_iret S hr hlk I dX5_leastMoves_20 (Nat.le_of_ble_eq_true rfl) (Nat.le_of_ble_eq_true rfl) hQ ⟨_, rfl, (by dsimp only; rw [if_pos (by simp [p_4])]; exact ⟨rfl, rfl⟩)⟩
  · have p_4 := (b2i_ne0 _).mp c_4
    have hc := isCl_iff.mp p_4
    refine lv_aload_n hx hb dX5_leastMoves_7 rfl (lv_at hl 0 rfl) ?_
    refine lv_iload_n hx hb dX5_leastMoves_8 rfl (lv_at hl 2 rfl) ?_
    refine g_ci (g_runV S hK I (As := [.int p1]) (rest := []) (met_X5_isPlace l Γ mo ad f a rr ph p1) (cwV 1 hts (lw_V q3157 q3159 qs71 q151 q3160) rfl rfl rfl (by decide +kernel) ⟨Nat.le_of_ble_eq_true rfl, Nat.le_of_ble_eq_true rfl⟩) (g_recv hK I (g_at.of mG_obj) (ci := 4) rfl) rfl hl.1 rfl (Nat.le_of_ble_eq_true rfl) dX5_leastMoves_9 ⟨Nat.le_of_ble_eq_true rfl, Nat.le_of_ble_eq_true rfl⟩) I (fun r_9 ph1 H locs hp I => ?_)
    obtain ⟨hp, rfl⟩ := hp
    have hp : r_9 = b2i (isPl (a 5) p1) := hp
    subst hp
    refine lv_if_ne (tgt := 21) hx hb dX5_leastMoves_12 (by decide) (fun c_12 => ?_) (fun c_12 => ?_)
    · have p_12 := (b2i_ne0 _).mp c_12
      have hv := (isPl_iff hw).mp p_12
      have hok : ¬ (isCl p0 && isPl (a 5) p1) = false := by rw [p_4, p_12]; decide
      have hPe := plN_eq hw hc
      have hTe := tN_eq hw hv
      generalize hp0 : plN (a 5) p0 = ss at hPe
      generalize ht0 : tN p1 = tt at hTe
      have hss := hPe.2
      have hss20 : ss ≤ 20 := Nat.le_trans hss hN20
      have ht20 : tt ≤ 20 := Nat.le_trans hTe.2 hN20
      refine lv_aload_n hx hb dX5_leastMoves_21 rfl (lv_at hl 0 rfl) ?_
      refine lv_iload_n hx hb dX5_leastMoves_22 rfl (lv_at hl 1 rfl) ?_
      refine lv_iconst (v := 1) hx hb dX5_leastMoves_23 (by decide) ?_
      refine g_ci (g_runV S hK I (As := [.int p0, .int 1]) (rest := []) (met_X5_ofClimber l Γ mo ad f a rr ph p0 1 hc (vp_lit (by decide))) (cwV 2 hts (lw_V q3099 q3101 qs60 q151 q3102) rfl rfl rfl (by decide +kernel) ⟨Nat.le_of_ble_eq_true rfl, Nat.le_of_ble_eq_true rfl⟩) (g_recv hK I (g_at.of mG_obj) (ci := 4) rfl) rfl hl.1 rfl (Nat.le_of_ble_eq_true rfl) dX5_leastMoves_24 ⟨Nat.le_of_ble_eq_true rfl, Nat.le_of_ble_eq_true rfl⟩) I (fun r_24 ph1 H locs hp I => ?_)
      obtain ⟨hp, rfl⟩ := hp
      have hp : r_24 = cX (a 5) p0 1 := hp
      subst hp
      refine lv_iconst (v := 2) hx hb dX5_leastMoves_27 (by decide) ?_
      refine lv_icmp_ne (tgt := 37) hx hb dX5_leastMoves_28 (by decide) (fun c_28 => ?_) (fun c_28 => ?_)
      · refine lv_iconst (v := 0) hx hb dX5_leastMoves_37 (by decide) ?_
        refine lv_istore_n (lv' := [(3, .int 0), (0, .ref mo), (1, .int p0), (2, .int p1)]) hx hb dX5_leastMoves_38 rfl hl (by decide) rfl (fun ls hl => ?_)
        have I := mI_ea I (va_upI a 14 (v := clN (a 14) 0) rfl).symm
        have L_39 : ∀ (d : Nat) (k : Nat), (hk : k ≤ 21) → 21 - k < d → ∀ (H : Heap) (locs : List Loc) (ls : Array Slot), g_I Γ (mG Γ mo ad f (va_up a 14 (clN (a 14) k)) rr ph) s H locs → lv_has ls 6 [(0, .ref mo), (1, .int p0), (2, .int p1), (3, .int (nI k))] → W p l e (g_rm 6 0 0) s m A below meth c H locs 0 0 Q (F0 m 39 ls []) := by
          intro d
          induction d with
          | zero => intro k hk hd; exact absurd hd (Nat.not_lt_zero _)
          | succ d ih =>
            intro k hk hd H locs ls I hl
            refine lv_iload_n hx hb dX5_leastMoves_39 rfl (lv_at hl 3 rfl) ?_
            refine lv_bipush (v := 21) hx hb dX5_leastMoves_40 (by decide) ?_
            refine lv_icmp_ge (tgt := 58) hx hb dX5_leastMoves_42 (by decide) (fun c_42 => ?_) (fun c_42 => ?_)
            · have n_42 := Int32.not_lt.mpr c_42
              obtain rfl : k = 21 := k_ge (x := 21) rfl (by decide) hk c_42
              refine lv_aload_n hx hb dX5_leastMoves_58 rfl (lv_at hl 0 rfl) ?_
              refine g_get S hK I k_X5 (v := .ref (ad 14)) (g_at.of mG_obj) 14 (by decide) q2966 rfl rfl dX5_leastMoves_59 ?_
              refine lv_aload_n hx hb dX5_leastMoves_62 rfl (lv_at hl 0 rfl) ?_
              refine lv_iload_n hx hb dX5_leastMoves_63 rfl (lv_at hl 1 rfl) ?_
              refine g_ci (g_runV S hK I (As := [.int p0]) (rest := [.ref (ad 14)]) (met_X5_place l Γ mo ad f (va_up a 14 (clN (a 14) 21)) rr ph p0 hc) (cwV 1 hts (lw_V q3095 q3097 qs59 q151 q3098) rfl rfl rfl (by decide +kernel) ⟨Nat.le_of_ble_eq_true rfl, Nat.le_of_ble_eq_true rfl⟩) (g_recv hK I (g_at.of mG_obj) (ci := 4) rfl) rfl hl.1 rfl (Nat.le_of_ble_eq_true rfl) dX5_leastMoves_64 ⟨Nat.le_of_ble_eq_true rfl, Nat.le_of_ble_eq_true rfl⟩) I (fun r_64 ph1 H locs hp I => ?_)
              obtain ⟨hp, rfl⟩ := hp
              have hp : r_64 = plc (a 5) p0 := hp
              subst hp
              rw [show plc (a 5) p0 = pI ss from hPe.1]
              refine lv_iconst (v := 1) hx hb dX5_leastMoves_67 (by decide) ?_
              refine lv_iadd hx hb dX5_leastMoves_68 ?_
              refine lv_iconst (v := 0) hx hb dX5_leastMoves_69 (by decide) ?_
              refine m_iast S hK I (f := (clN (a 14) 21)) (k := ss) mG_14 (pI_ix (i := ss) hss20).1 (pI_ix (i := ss) hss20).2 dX5_leastMoves_70 (fun H locs I => ?_)
              have I := mI_14 I
              rw [bx_uu] at I
              refine lv_iconst (v := 0) hx hb dX5_leastMoves_71 (by decide) ?_
              refine lv_istore_n (lv' := [(3, .int 0), (0, .ref mo), (1, .int p0), (2, .int p1)]) hx hb dX5_leastMoves_72 rfl hl (by decide) rfl (fun ls hl => ?_)
              have L_73 : ∀ (d73 : Nat) (n : Nat) (b1 : Nat → Int32) (B1 : Nat → Nat), (hB1 : bO2 b1 B1) → (hl1 : lvl (a 5) ss n n B1) → (hd1 : n + 1 ≤ cnN B1 21 ∨ stb (a 5) ss B1) → (hn : n ≤ 21) → 21 - n < d73 → ∀ (H : Heap) (locs : List Loc) (ls : Array Slot), g_I Γ (mG Γ mo ad f (va_up a 14 b1) rr ph) s H locs → lv_has ls 6 [(0, .ref mo), (1, .int p0), (2, .int p1), (3, .int (nI n))] → W p l e (g_rm 6 0 0) s m A below meth c H locs 0 0 Q (F0 m 73 ls []) := by
                intro d73
                induction d73 with
                | zero => intro n b1 B1 hB1 hl1 hd1 hn hd; exact absurd hd (Nat.not_lt_zero _)
                | succ d73 ih73 =>
                  intro n b1 B1 hB1 hl1 hd1 hn hd73 H locs ls I hl
                  refine lv_iload_n hx hb dX5_leastMoves_73 rfl (lv_at hl 3 rfl) ?_
                  refine lv_bipush (v := 21) hx hb dX5_leastMoves_74 (by decide) ?_
                  refine lv_icmp_ge (tgt := 173) hx hb dX5_leastMoves_76 (by decide) (fun c_76 => ?_) (fun c_76 => ?_)
                  · have n_76 := Int32.not_lt.mpr c_76
                    obtain rfl : n = 21 := k_ge (x := 21) rfl (by decide) hn c_76
                    have hst : stb (a 5) ss B1 := hd1.resolve_left (by have := cnN_le B1 21; omega)
                    refine lv_aload_n hx hb dX5_leastMoves_173 rfl (lv_at hl 0 rfl) ?_
                    refine g_get S hK I k_X5 (v := .ref (ad 14)) (g_at.of mG_obj) 14 (by decide) q2966 rfl rfl dX5_leastMoves_174 ?_
                    refine lv_iload_n hx hb dX5_leastMoves_177 rfl (lv_at hl 2 rfl) ?_
                    refine lv_iconst (v := 1) hx hb dX5_leastMoves_178 (by decide) ?_
                    refine lv_iadd hx hb dX5_leastMoves_179 ?_
                    refine m_iald S hK I (f := b1) (k := tt) (g_at.of mG_14) (by rw [hTe.1]; exact (pI_ix ht20).1) (by rw [hTe.1]; exact (pI_ix ht20).2) dX5_leastMoves_180 ?_
                    refine lv_if_ge (tgt := 190) hx hb dX5_leastMoves_181 (by decide) (fun c_181 => ?_) (fun c_181 => ?_)
                    · have n_181 := Int32.not_lt.mpr c_181
                      have hbt : ¬ B1 tt = 0 := fun z => Int32.not_lt.mpr c_181 (by rw [(hB1 tt ht20).1]; exact (b_neg (by omega)).mpr z)
                      obtain ⟨d, hbd⟩ : ∃ d, B1 tt = d + 1 := ⟨B1 tt - 1, by omega⟩
                      have hlm : lmIs (a 5) (plN (a 5) p0) (tN p1) (some d) := by rw [hp0, ht0]; exact ((hl1 tt hTe.2).1 d hbd).2
                      have hbv : b1 tt = nI d := by rw [(hB1 tt ht20).1, hbd, nI_pred]
                      refine lv_aload_n hx hb dX5_leastMoves_190 rfl (lv_at hl 0 rfl) ?_
                      refine lv_iconst (v := 0) hx hb dX5_leastMoves_191 (by decide) ?_
                      refine g_put S hK I k_X5 (v := .int 0) mG_obj 0 (by decide) q2952 rfl rfl rfl rfl (Nat.le_of_ble_eq_true rfl) dX5_leastMoves_192 (fun H locs I => ?_)
                      have I := mI_f (f' := (upd f 0 0)) I rfl
                      refine lv_aload_n hx hb dX5_leastMoves_195 rfl (lv_at hl 0 rfl) ?_
                      refine g_get S hK I k_X5 (v := .ref (ad 14)) (g_at.of mG_obj) 14 (by decide) q2966 rfl rfl dX5_leastMoves_196 ?_
                      refine lv_iload_n hx hb dX5_leastMoves_199 rfl (lv_at hl 2 rfl) ?_
                      refine lv_iconst (v := 1) hx hb dX5_leastMoves_200 (by decide) ?_
                      refine lv_iadd hx hb dX5_leastMoves_201 ?_
                      refine m_iald S hK I (f := b1) (k := tt) (g_at.of mG_14) (by rw [hTe.1]; exact (pI_ix ht20).1) (by rw [hTe.1]; exact (pI_ix ht20).2) dX5_leastMoves_202 ?_
                      exact g_iret S hr hlk I dX5_leastMoves_203 (Nat.le_of_ble_eq_true rfl) (Nat.le_of_ble_eq_true rfl) hQ ⟨_, rfl, (by dsimp only; rw [if_neg hok, if_neg c_28]; exact ⟨some d, b1, hlm, hbv, rfl⟩)⟩
                    · have n_181 := Int32.not_le.mp c_181
                      have hbt : B1 tt = 0 := (b_neg (by have := (hB1 tt ht20).2; omega)).mp (by rw [← (hB1 tt ht20).1]; exact Int32.not_le.mp c_181)
                      have hlmN : lmIs (a 5) (plN (a 5) p0) (tN p1) none := by rw [hp0, ht0]; exact fun m hm => hst m tt hTe.2 hm hbt
                      refine lv_aload_n hx hb dX5_leastMoves_184 rfl (lv_at hl 0 rfl) ?_
                      refine lv_iconst (v := 2) hx hb dX5_leastMoves_185 (by decide) ?_
                      refine g_ci (g_runV S hK I (As := [.int 2]) (rest := []) (met_X5_fails l Γ mo ad f (va_up a 14 b1) rr ph 2) (cwV 1 hts (lw_V q3056 q3058 qs51 q151 q3059) rfl rfl rfl (by decide +kernel) ⟨Nat.le_of_ble_eq_true rfl, Nat.le_of_ble_eq_true rfl⟩) (g_recv hK I (g_at.of mG_obj) (ci := 4) rfl) rfl hl.1 rfl (Nat.le_of_ble_eq_true rfl) dX5_leastMoves_186 ⟨Nat.le_of_ble_eq_true rfl, Nat.le_of_ble_eq_true rfl⟩) I (fun r_186 ph1 H locs hp I => ?_)
                      obtain ⟨hp, rfl⟩ := hp
                      have hp : r_186 = 0 := hp
                      subst hp
                      have I : g_I Γ (mG Γ mo ad (upd f 0 2) (va_up a 14 b1) rr ph) s H locs := I
                      exact g_iret S hr hlk I dX5_leastMoves_189 (Nat.le_of_ble_eq_true rfl) (Nat.le_of_ble_eq_true rfl) hQ ⟨_, rfl, (by dsimp only; rw [if_neg hok, if_neg c_28]; exact ⟨none, b1, hlmN, rfl, rfl⟩)⟩
                  · have n_76 := Int32.not_le.mp c_76
                    have hn20 : n < 21 := k_lt (x := 21) rfl (by decide) hn c_76
                    have hn1 : n + 1 ≤ 21 := hn20
                    refine lv_iconst (v := (-1)) hx hb dX5_leastMoves_79 (by decide) ?_
                    refine lv_istore (lv' := [(4, .int (-1)), (0, .ref mo), (1, .int p0), (2, .int p1), (3, .int (nI n))]) hx hb dX5_leastMoves_80 hl (by decide) rfl (fun ls hl => ?_)
                    have L_82 : ∀ (d82 : Nat) (b2 : Nat → Int32) (B2 : Nat → Nat) (g2 : Bool) (i : Nat), (hB2 : bO2 b2 B2) → (hl2 : lvl (a 5) ss (n + 1) n B2) → (hr2 : rnd B1 B2 g2) → (hi : i ≤ nN (a 5) + 1) → (hc2 : ∀ i9, i9 < i → ∀ j9, j9 ≤ nN (a 5) → lkd (a 5) n B2 i9 j9) → nN (a 5) + 1 - i < d82 → ∀ (H : Heap) (locs : List Loc) (ls : Array Slot), g_I Γ (mG Γ mo ad f (va_up a 14 b2) rr ph) s H locs → lv_has ls 6 [(0, .ref mo), (1, .int p0), (2, .int p1), (3, .int (nI n)), (4, .int (pI i))] → W p l e (g_rm 6 0 0) s m A below meth c H locs 0 0 Q (F0 m 82 ls []) := by
                      intro d82
                      induction d82 with
                      | zero => intro b2 B2 g2 i hB2 hl2 hr2 hi hc2 hd; exact absurd hd (Nat.not_lt_zero _)
                      | succ d82 ih82 =>
                        intro b2 B2 g2 i hB2 hl2 hr2 hi hc2 hd82 H locs ls I hl
                        refine lv_iload hx hb dX5_leastMoves_82 (lv_at hl 4 rfl) ?_
                        refine lv_aload_n hx hb dX5_leastMoves_84 rfl (lv_at hl 0 rfl) ?_
                        refine g_get S hK I k_X5 (v := .ref (ad 5)) (g_at.of mG_obj) 5 (by decide) q2957 rfl rfl dX5_leastMoves_85 ?_
                        refine lv_iconst (v := 0) hx hb dX5_leastMoves_88 (by decide) ?_
                        refine m_iald S hK I (f := (a 5)) (k := 0) (g_at.of mG_5) (vp_lit (by decide)) (by decide) dX5_leastMoves_89 ?_
                        refine lv_icmp_ge (tgt := 167) hx hb dX5_leastMoves_90 (by decide) (fun c_90 => ?_) (fun c_90 => ?_)
                        · have n_90 := Int32.not_lt.mpr c_90
                          have hiN := (pI_lt hw (i := i) (by omega)).mp c_90
                          have hie : i = nN (a 5) + 1 := by omega
                          have hnx : n + 1 + 1 ≤ cnN B2 21 ∨ stb (a 5) ss B2 := by
                            rcases hd1 with q | q
                            · cases g2 with
                              | true => exact Or.inl (by have := hr2.2.1 rfl; omega)
                              | false =>
                                have e := hr2.1 rfl
                                rw [e] at hc2 ⊢
                                exact Or.inr (stb_of hss hl1 (fun i9 h9 j9 k9 => hc2 i9 (by omega) j9 k9))
                            · exact Or.inr (stb_le q (fun i9 _ h9 => hr2.2.2 i9 h9))
                          refine lv_iinc (v := nI (n + 1)) (lv' := [(3, .int (nI (n + 1))), (0, .ref mo), (1, .int p0), (2, .int p1), (4, .int (pI i))]) hx hb dX5_leastMoves_167 hl (k := 3) rfl (nI_1 n) (by decide) rfl (fun ls hl => ?_)
                          refine lv_goto (tgt := 73) hx hb dX5_leastMoves_170 (by decide) ?_
                          exact ih73 (n + 1) b2 B2 hB2 (lvl_end hss hl2 (fun i9 h9 j9 g9 => hc2 i9 (by omega) j9 g9)) hnx hn1 (by omega) _ _ _ I (lv_sub hl [1, 2, 3, 0] rfl)
                        · have n_90 := Int32.not_le.mp c_90
                          have hin : i + 1 ≤ nN (a 5) + 1 := by have := mt (pI_lt hw (i := i) (by omega)).mpr c_90; omega
                          have hi20 : i ≤ 20 := by omega
                          refine lv_iconst (v := (-1)) hx hb dX5_leastMoves_93 (by decide) ?_
                          refine lv_istore (lv' := [(5, .int (-1)), (0, .ref mo), (1, .int p0), (2, .int p1), (3, .int (nI n)), (4, .int (pI i))]) hx hb dX5_leastMoves_94 hl (by decide) rfl (fun ls hl => ?_)
                          have L_96 : ∀ (d96 : Nat) (b3 : Nat → Int32) (B3 : Nat → Nat) (g3 : Bool) (j : Nat), (hB3 : bO2 b3 B3) → (hl3 : lvl (a 5) ss (n + 1) n B3) → (hr3 : rnd B1 B3 g3) → (hj : j ≤ nN (a 5) + 1) → (hc3 : (∀ i9, i9 < i → ∀ j9, j9 ≤ nN (a 5) → lkd (a 5) n B3 i9 j9) ∧ ∀ j9, j9 < j → lkd (a 5) n B3 i j9) → nN (a 5) + 1 - j < d96 → ∀ (H : Heap) (locs : List Loc) (ls : Array Slot), g_I Γ (mG Γ mo ad f (va_up a 14 b3) rr ph) s H locs → lv_has ls 6 [(0, .ref mo), (1, .int p0), (2, .int p1), (3, .int (nI n)), (4, .int (pI i)), (5, .int (pI j))] → W p l e (g_rm 6 0 0) s m A below meth c H locs 0 0 Q (F0 m 96 ls []) := by
                            intro d96
                            induction d96 with
                            | zero => intro b3 B3 g3 j hB3 hl3 hr3 hj hc3 hd; exact absurd hd (Nat.not_lt_zero _)
                            | succ d96 ih96 =>
                              intro b3 B3 g3 j hB3 hl3 hr3 hj hc3 hd96 H locs ls I hl
                              refine lv_iload hx hb dX5_leastMoves_96 (lv_at hl 5 rfl) ?_
                              refine lv_aload_n hx hb dX5_leastMoves_98 rfl (lv_at hl 0 rfl) ?_
                              refine g_get S hK I k_X5 (v := .ref (ad 5)) (g_at.of mG_obj) 5 (by decide) q2957 rfl rfl dX5_leastMoves_99 ?_
                              refine lv_iconst (v := 0) hx hb dX5_leastMoves_102 (by decide) ?_
                              refine m_iald S hK I (f := (a 5)) (k := 0) (g_at.of mG_5) (vp_lit (by decide)) (by decide) dX5_leastMoves_103 ?_
                              refine lv_icmp_ge (tgt := 161) hx hb dX5_leastMoves_104 (by decide) (fun c_104 => ?_) (fun c_104 => ?_)
                              · have n_104 := Int32.not_lt.mpr c_104
                                have hjN := (pI_lt hw (i := j) (by omega)).mp c_104
                                have hje : j = nN (a 5) + 1 := by omega
                                refine lv_iinc (v := pI (i + 1)) (lv' := [(4, .int (pI (i + 1))), (0, .ref mo), (1, .int p0), (2, .int p1), (3, .int (nI n)), (5, .int (pI j))]) hx hb dX5_leastMoves_161 hl (k := 4) rfl (pI_1 i) (by decide) rfl (fun ls hl => ?_)
                                refine lv_goto (tgt := 82) hx hb dX5_leastMoves_164 (by decide) ?_
                                exact ih82 b3 B3 g3 (i + 1) hB3 hl3 hr3 hin (fun i9 h9 j9 k9 => (Nat.lt_succ_iff_lt_or_eq.mp h9).elim (fun z => hc3.1 i9 z j9 k9) (fun z => by subst z; exact hc3.2 j9 (by omega))) (by omega) _ _ _ I (lv_sub hl [1, 2, 3, 4, 0] rfl)
                              · have n_104 := Int32.not_le.mp c_104
                                have hjn : j + 1 ≤ nN (a 5) + 1 := by have := mt (pI_lt hw (i := j) (by omega)).mpr c_104; omega
                                have hj20 : j ≤ 20 := by omega
                                have hj9 : j ≤ nN (a 5) := by omega
                                have hBi := (hB3 i hi20).2
                                have hBj := (hB3 j hj20).2
                                refine lv_aload_n hx hb dX5_leastMoves_107 rfl (lv_at hl 0 rfl) ?_
                                refine g_get S hK I k_X5 (v := .ref (ad 14)) (g_at.of mG_obj) 14 (by decide) q2966 rfl rfl dX5_leastMoves_108 ?_
                                refine lv_iload hx hb dX5_leastMoves_111 (lv_at hl 4 rfl) ?_
                                refine lv_iconst (v := 1) hx hb dX5_leastMoves_113 (by decide) ?_
                                refine lv_iadd hx hb dX5_leastMoves_114 ?_
                                refine m_iald S hK I (f := b3) (k := i) (g_at.of mG_14) (pI_ix hi20).1 (pI_ix hi20).2 dX5_leastMoves_115 ?_
                                refine lv_iload_n hx hb dX5_leastMoves_116 rfl (lv_at hl 3 rfl) ?_
                                refine lv_icmp_ne (tgt := 155) hx hb dX5_leastMoves_117 (by decide) (fun c_117 => ?_) (fun c_117 => ?_)
                                · have hbi : ¬ B3 i = n + 1 := fun z => c_117 (by rw [(hB3 i hi20).1]; exact (b_eq (by omega) (by omega)).mpr z)
                                  refine lv_iinc (v := pI (j + 1)) (lv' := [(5, .int (pI (j + 1))), (0, .ref mo), (1, .int p0), (2, .int p1), (3, .int (nI n)), (4, .int (pI i))]) hx hb dX5_leastMoves_155 hl (k := 5) rfl (pI_1 j) (by decide) rfl (fun ls hl => ?_)
                                  refine lv_goto (tgt := 96) hx hb dX5_leastMoves_158 (by decide) ?_
                                  exact ih96 b3 B3 g3 (j + 1) hB3 hl3 hr3 hjn ⟨hc3.1, fun j9 h9 => (Nat.lt_succ_iff_lt_or_eq.mp h9).elim (hc3.2 j9) (fun z => by subst z; exact (fun q _ => absurd q hbi))⟩ (by omega) _ _ _ I (lv_sub hl [1, 2, 3, 4, 5, 0] rfl)
                                · have hbi : B3 i = n + 1 := (b_eq (by omega) (by omega)).mp (by rw [← (hB3 i hi20).1]; exact c_117)
                                  refine lv_aload_n hx hb dX5_leastMoves_120 rfl (lv_at hl 0 rfl) ?_
                                  refine g_get S hK I k_X5 (v := .ref (ad 14)) (g_at.of mG_obj) 14 (by decide) q2966 rfl rfl dX5_leastMoves_121 ?_
                                  refine lv_iload hx hb dX5_leastMoves_124 (lv_at hl 5 rfl) ?_
                                  refine lv_iconst (v := 1) hx hb dX5_leastMoves_126 (by decide) ?_
                                  refine lv_iadd hx hb dX5_leastMoves_127 ?_
                                  refine m_iald S hK I (f := b3) (k := j) (g_at.of mG_14) (pI_ix hj20).1 (pI_ix hj20).2 dX5_leastMoves_128 ?_
                                  refine lv_if_ge (tgt := 155) hx hb dX5_leastMoves_129 (by decide) (fun c_129 => ?_) (fun c_129 => ?_)
                                  · have n_129 := Int32.not_lt.mpr c_129
                                    have hbj0 : B3 j ≠ 0 := fun z => Int32.not_lt.mpr c_129 (by rw [(hB3 j hj20).1]; exact (b_neg (by omega)).mpr z)
                                    refine lv_iinc (v := pI (j + 1)) (lv' := [(5, .int (pI (j + 1))), (0, .ref mo), (1, .int p0), (2, .int p1), (3, .int (nI n)), (4, .int (pI i))]) hx hb dX5_leastMoves_155 hl (k := 5) rfl (pI_1 j) (by decide) rfl (fun ls hl => ?_)
                                    refine lv_goto (tgt := 96) hx hb dX5_leastMoves_158 (by decide) ?_
                                    exact ih96 b3 B3 g3 (j + 1) hB3 hl3 hr3 hjn ⟨hc3.1, fun j9 h9 => (Nat.lt_succ_iff_lt_or_eq.mp h9).elim (hc3.2 j9) (fun z => by subst z; exact (fun _ _ => hbj0))⟩ (by omega) _ _ _ I (lv_sub hl [1, 2, 3, 4, 5, 0] rfl)
                                  · have n_129 := Int32.not_le.mp c_129
                                    have hbj : B3 j = 0 := (b_neg (by omega)).mp (by rw [← (hB3 j hj20).1]; exact Int32.not_le.mp c_129)
                                    refine lv_aload_n hx hb dX5_leastMoves_132 rfl (lv_at hl 0 rfl) ?_
                                    refine lv_iload hx hb dX5_leastMoves_133 (lv_at hl 4 rfl) ?_
                                    refine lv_iload hx hb dX5_leastMoves_135 (lv_at hl 5 rfl) ?_
                                    refine g_ci (g_runV S hK I (As := [.int (pI i), .int (pI j)]) (rest := []) (met_X5_isWay l Γ mo ad f (va_up a 14 b3) rr ph (pI i) (pI j) hw (pI_ok hw (by omega)) (pI_ok hw (by omega))) (cwV 2 hts (lw_V q3324 q3326 qs97 q151 q3327) rfl rfl rfl (by decide +kernel) ⟨Nat.le_of_ble_eq_true rfl, Nat.le_of_ble_eq_true rfl⟩) (g_recv hK I (g_at.of mG_obj) (ci := 4) rfl) rfl hl.1 rfl (Nat.le_of_ble_eq_true rfl) dX5_leastMoves_137 ⟨Nat.le_of_ble_eq_true rfl, Nat.le_of_ble_eq_true rfl⟩) I (fun r_137 ph1 H locs hp I => ?_)
                                    obtain ⟨hp, rfl⟩ := hp
                                    have hp : r_137 = b2i (isWy (a 5) (pI i) (pI j)) := hp
                                    subst hp
                                    refine lv_if_eq (tgt := 155) hx hb dX5_leastMoves_140 (by decide) (fun c_140 => ?_) (fun c_140 => ?_)
                                    · have p_140 := (b2i_eq0 _).mp c_140
                                      refine lv_iinc (v := pI (j + 1)) (lv' := [(5, .int (pI (j + 1))), (0, .ref mo), (1, .int p0), (2, .int p1), (3, .int (nI n)), (4, .int (pI i))]) hx hb dX5_leastMoves_155 hl (k := 5) rfl (pI_1 j) (by decide) rfl (fun ls hl => ?_)
                                      refine lv_goto (tgt := 96) hx hb dX5_leastMoves_158 (by decide) ?_
                                      exact ih96 b3 B3 g3 (j + 1) hB3 hl3 hr3 hjn ⟨hc3.1, fun j9 h9 => (Nat.lt_succ_iff_lt_or_eq.mp h9).elim (hc3.2 j9) (fun z => by subst z; exact (fun _ q => absurd (show wyN (a 5) i j9 = true from q) (by rw [show wyN (a 5) i j9 = false from p_140]; decide)))⟩ (by omega) _ _ _ I (lv_sub hl [1, 2, 3, 4, 5, 0] rfl)
                                    · have p_140 := (b2i_ne0 _).mp c_140
                                      refine lv_aload_n hx hb dX5_leastMoves_143 rfl (lv_at hl 0 rfl) ?_
                                      refine g_get S hK I k_X5 (v := .ref (ad 14)) (g_at.of mG_obj) 14 (by decide) q2966 rfl rfl dX5_leastMoves_144 ?_
                                      refine lv_iload hx hb dX5_leastMoves_147 (lv_at hl 5 rfl) ?_
                                      refine lv_iconst (v := 1) hx hb dX5_leastMoves_149 (by decide) ?_
                                      refine lv_iadd hx hb dX5_leastMoves_150 ?_
                                      refine lv_iload_n hx hb dX5_leastMoves_151 rfl (lv_at hl 3 rfl) ?_
                                      refine lv_iconst (v := 1) hx hb dX5_leastMoves_152 (by decide) ?_
                                      refine lv_iadd hx hb dX5_leastMoves_153 ?_
                                      refine m_iast S hK I (f := b3) (k := j) mG_14 (pI_ix hj20).1 (pI_ix hj20).2 dX5_leastMoves_154 (fun H locs I => ?_)
                                      have I := mI_14 I
                                      rw [bx_uu] at I
                                      refine lv_iinc (v := pI (j + 1)) (lv' := [(5, .int (pI (j + 1))), (0, .ref mo), (1, .int p0), (2, .int p1), (3, .int (nI n)), (4, .int (pI i))]) hx hb dX5_leastMoves_155 hl (k := 5) rfl (pI_1 j) (by decide) rfl (fun ls hl => ?_)
                                      refine lv_goto (tgt := 96) hx hb dX5_leastMoves_158 (by decide) ?_
                                      exact ih96 (upd b3 j (nI n + 1)) (uN B3 j (n + 2)) true (j + 1) (hB3.up (by rw [nI_1, nI_pred]) (by omega)) (lvl_up hl3 (by omega) hj9 hbi hbj p_140) (rnd_up hr3 hj20 hbj) hjn ⟨fun i9 h9 j9 k9 => lkd_up (hc3.1 i9 h9 j9 k9), fun j9 h9 => (Nat.lt_succ_iff_lt_or_eq.mp h9).elim (fun z => lkd_up (hc3.2 j9 z)) (fun z => by subst z; exact lkd_hit)⟩ (by omega) _ _ _ I (lv_sub hl [1, 2, 3, 4, 5, 0] rfl)
                          exact L_96 _ b2 B2 g2 0 hB2 hl2 hr2 (Nat.zero_le _) ⟨hc2, fun j9 h9 => absurd h9 (Nat.not_lt_zero _)⟩ (Nat.lt_succ_self _) _ _ _ I (lv_sub hl [1, 2, 3, 4, 5, 0] rfl)
                    exact L_82 _ b1 B1 false 0 hB1 (lvl_w hl1 (Nat.le_succ _)) rnd_0 (Nat.zero_le _) (fun i9 h9 => absurd h9 (Nat.not_lt_zero _)) (Nat.lt_succ_self _) _ _ _ I (lv_sub hl [1, 2, 3, 4, 0] rfl)
              exact L_73 _ 0 (upd (clN (a 14) 21) ss 0) (B0 ss 1) (bO2_0 (by decide) (by decide)) lvl_0 (Or.inl (by have := cnN_up (B := fun _ => 0) (j := ss) (v := 1) (n := 21) (by omega) rfl (by decide); unfold B0; omega)) (by decide) (Nat.lt_succ_self _) _ _ _ I (lv_sub hl [1, 2, 3, 0] rfl)
            · have n_42 := Int32.not_le.mp c_42
              have hkl : k < 21 := k_lt (x := 21) rfl (by decide) hk c_42
              refine lv_aload_n hx hb dX5_leastMoves_45 rfl (lv_at hl 0 rfl) ?_
              refine g_get S hK I k_X5 (v := .ref (ad 14)) (g_at.of mG_obj) 14 (by decide) q2966 rfl rfl dX5_leastMoves_46 ?_
              refine lv_iload_n hx hb dX5_leastMoves_49 rfl (lv_at hl 3 rfl) ?_
              refine lv_iconst (v := (-1)) hx hb dX5_leastMoves_50 (by decide) ?_
              refine m_iast S hK I (f := (clN (a 14) k)) (k := k) mG_14 (vp_in_nI hkl (by decide)) (nI_clamp (by omega)) dX5_leastMoves_51 (fun H locs I => ?_)
              have I := mI_14 I
              rw [bx_uu] at I
              refine lv_iinc (v := nI (k + 1)) (lv' := [(3, .int (nI (k + 1))), (0, .ref mo), (1, .int p0), (2, .int p1)]) hx hb dX5_leastMoves_52 hl (k := 3) rfl (nI_1 k) (by decide) rfl (fun ls hl => ?_)
              refine lv_goto (tgt := 39) hx hb dX5_leastMoves_55 (by decide) ?_
              exact ih (k + 1) hkl (by omega) _ _ _ I (lv_sub hl [1, 2, 3, 0] rfl)
        exact L_39 _ 0 (Nat.zero_le _) (Nat.lt_succ_self _) _ _ _ I (lv_sub hl [1, 2, 3, 0] rfl)
      · refine lv_aload_n hx hb dX5_leastMoves_31 rfl (lv_at hl 0 rfl) ?_
        refine lv_iconst (v := 2) hx hb dX5_leastMoves_32 (by decide) ?_
        refine g_ci (g_runV S hK I (As := [.int 2]) (rest := []) (met_X5_fails l Γ mo ad f a rr ph 2) (cwV 1 hts (lw_V q3056 q3058 qs51 q151 q3059) rfl rfl rfl (by decide +kernel) ⟨Nat.le_of_ble_eq_true rfl, Nat.le_of_ble_eq_true rfl⟩) (g_recv hK I (g_at.of mG_obj) (ci := 4) rfl) rfl hl.1 rfl (Nat.le_of_ble_eq_true rfl) dX5_leastMoves_33 ⟨Nat.le_of_ble_eq_true rfl, Nat.le_of_ble_eq_true rfl⟩) I (fun r_33 ph1 H locs hp I => ?_)
        obtain ⟨hp, rfl⟩ := hp
        have hp : r_33 = 0 := hp
        subst hp
        have I : g_I Γ (mG Γ mo ad (upd f 0 2) a rr ph) s H locs := I
        exact g_iret S hr hlk I dX5_leastMoves_36 (Nat.le_of_ble_eq_true rfl) (Nat.le_of_ble_eq_true rfl) hQ ⟨_, rfl, (by dsimp only; rw [if_neg hok, if_pos c_28]; exact ⟨rfl, rfl⟩)⟩
    · have p_12 := (b2i_eq0 _).mp c_12
      refine lv_aload_n hx hb dX5_leastMoves_15 rfl (lv_at hl 0 rfl) ?_
      refine lv_iconst (v := 1) hx hb dX5_leastMoves_16 (by decide) ?_
      refine g_ci (g_runV S hK I (As := [.int 1]) (rest := []) (met_X5_fails l Γ mo ad f a rr ph 1) (cwV 1 hts (lw_V q3056 q3058 qs51 q151 q3059) rfl rfl rfl (by decide +kernel) ⟨Nat.le_of_ble_eq_true rfl, Nat.le_of_ble_eq_true rfl⟩) (g_recv hK I (g_at.of mG_obj) (ci := 4) rfl) rfl hl.1 rfl (Nat.le_of_ble_eq_true rfl) dX5_leastMoves_17 ⟨Nat.le_of_ble_eq_true rfl, Nat.le_of_ble_eq_true rfl⟩) I (fun r_17 ph1 H locs hp I => ?_)
      obtain ⟨hp, rfl⟩ := hp
      have hp : r_17 = 0 := hp
      subst hp
      have I : g_I Γ (mG Γ mo ad (upd f 0 1) a rr ph) s H locs := I
      exact g_iret S hr hlk I dX5_leastMoves_20 (Nat.le_of_ble_eq_true rfl) (Nat.le_of_ble_eq_true rfl) hQ ⟨_, rfl, (by dsimp only; rw [if_pos (by simp [p_4, p_12])]; exact ⟨rfl, rfl⟩)⟩


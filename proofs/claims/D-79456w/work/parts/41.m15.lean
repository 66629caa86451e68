/-! THE REFERENCE: least rests -/
set_option maxRecDepth 100000
/-- a rest for the places before i -/
def rsd (w : m_w) (B B1 : Nat → Nat) (i : Nat) (m : Bool) : Prop := (∀ j, j < i → (∀ g, B j = g + 1 → B1 j = rsN w j g + 1) ∧ (B j = 0 → B1 j = 0)) ∧ (∀ j, i ≤ j → B1 j = B j) ∧ (m = false → ∀ j, B1 j = B j) ∧ (m = true → sT B1 21 < sT B 21) ∧ sT B1 21 ≤ sT B 21
theorem rsd_skip {w : m_w} {B B1 : Nat → Nat} {i : Nat} {m : Bool} (h : rsd w B B1 i m) (h0 : B1 i = 0) : rsd w B B1 (i + 1) m := by
  obtain ⟨h1, h2, h3⟩ := h
  have e := h2 i (Nat.le_refl _)
  refine ⟨fun j hj => ?_, fun j hj => h2 j (by omega), h3⟩
  by_cases q : j = i
  · subst q
    exact ⟨fun g hg => by omega, fun _ => h0⟩
  · exact h1 j (by omega)
theorem rsd_do {w : m_w} {B B1 : Nat → Nat} {i g : Nat} {m : Bool} (h : rsd w B B1 i m) (hg : B1 i = g + 1) (hg2 : g ≤ 20) (hi : i ≤ 20) : rsd w B (uN B1 i (rsN w i g + 1)) (i + 1) (m || decide (g < rsN w i g)) := by
  obtain ⟨h1, h2, h3, h4, h5⟩ := h
  have e := h2 i (Nat.le_refl _)
  have hr := rsN_ge (w := w) (i := i) hg2
  have hlt : g < rsN w i g → sT (uN B1 i (rsN w i g + 1)) 21 < sT B1 21 := fun q => sT_lt (by omega) (by omega) (by omega)
  have heq : ¬ g < rsN w i g → uN B1 i (rsN w i g + 1) = B1 := by
    intro q
    funext k
    unfold uN
    by_cases z : k = i
    · subst z; rw [if_pos rfl, hg]; omega
    · rw [if_neg z]
  refine ⟨fun j hj => ?_, fun j hj => ?_, fun q => ?_, fun q => ?_, ?_⟩
  · by_cases z : j = i
    · subst z
      unfold uN
      rw [if_pos rfl]
      refine ⟨fun g' hg' => ?_, fun q => by omega⟩
      rw [show g' = g by omega]
    · have : uN B1 i (rsN w i g + 1) j = B1 j := if_neg z
      rw [this]
      exact h1 j (by omega)
  · have : uN B1 i (rsN w i g + 1) j = B1 j := if_neg (by omega)
    rw [this]
    exact h2 j (by omega)
  · obtain ⟨q1, q2⟩ := (Bool.or_eq_false_iff).mp q
    rw [heq (of_decide_eq_false q2)]
    exact h3 q1
  · rcases (Bool.or_eq_true_iff).mp q with q1 | q1
    · have := h4 q1
      by_cases z : g < rsN w i g
      · have := hlt z; omega
      · rw [heq z]; exact this
    · have := hlt (of_decide_eq_true q1)
      omega
  · by_cases z : g < rsN w i g
    · have := hlt z; omega
    · rw [heq z]; exact h5
theorem rsd_end {w : m_w} {B B1 : Nat → Nat} {m : Bool} (h : rsd w B B1 (nN w + 1) m) : rstd w B B1 ∧ (m = false → ∀ i, i ≤ nN w → B1 i = B i) ∧ (m = true → sT B1 21 < sT B 21) :=
  ⟨⟨fun i hi g hg => (h.1 i (by omega)).1 g hg, fun i hi h0 => (h.1 i (by omega)).2 h0, fun i hi => h.2.1 i hi⟩, fun q i _ => h.2.2.1 q i, h.2.2.2.1⟩
set_option maxHeartbeats 4000000 in
set_option maxRecDepth 100000 in
theorem met_X5_restsEach (l : Launch) (Γ : g_C) (mo : Nat) (ad : Nat → Nat) (f : Nat → Int32) (a : Nat → Nat → Int32) (rr : Nat → UInt32) (ph : g_H) (B : Nat → Nat)   (hw : WF (a 5)) (hB : bOk (a 14) B) : g_Met l yX5_restsEach (ws_ yX5_restsEach cX5_restsEach 4 (some .boolean)) (g_rm 4 0 0) Γ [.ref mo] (mG Γ mo ad f a rr ph) (g_oi (fun v ph' => ∃ (b' : Nat → Int32) (B' : Nat → Nat) (m : Bool), v = b2i m ∧ ph' = mG Γ mo ad f (va_up a 14 b') rr ph ∧ bOk b' B' ∧ rstd (a 5) B B' ∧ (m = false → ∀ i, i ≤ nN (a 5) → B' i = B i) ∧ (m = true → sT B' 21 < sT B 21))) g_no := by
  refine g_start (y := yX5_restsEach) (cc := cX5_restsEach) (maxL := 4) (ret := (some .boolean)) (rm := g_rm 4 0 0) (by decide) (Nat.le_of_ble_eq_true rfl) ?_
  intro p e s m A below meth c ls Q hQ S hr hlk hex hnm hK I hl
  have hx := S.1
  have hb := S.2.1
  have hown := S.2.2.2.1
  have hts := S.2.2.2.2
  have S : CallFix p m c cX5_restsEach 4 s A lw_all "CrumblingWallModel" := S
  have hl : lv_has ls 4 [(0, .ref mo)] := hl
  have hN20 := hw.1.2
  refine lv_iconst (v := 0) hx hb dX5_restsEach_0 (by decide) ?_
  refine lv_istore_n (lv' := [(1, .int 0), (0, .ref mo)]) hx hb dX5_restsEach_1 rfl hl (by decide) rfl (fun ls hl => ?_)
  refine lv_iconst (v := (-1)) hx hb dX5_restsEach_2 (by decide) ?_
  refine lv_istore_n (lv' := [(2, .int (-1)), (1, .int 0), (0, .ref mo)]) hx hb dX5_restsEach_3 rfl hl (by decide) rfl (fun ls hl => ?_)
  have I := mI_ea I (va_upI a 14 (v := a 14) rfl).symm
  have L_4 : ∀ (d : Nat) (b1 : Nat → Int32) (B1 : Nat → Nat) (m1 : Bool) (i : Nat), (hB1 : bOk b1 B1) → (hr1 : rsd (a 5) B B1 i m1) → (hi : i ≤ nN (a 5) + 1) → nN (a 5) + 1 - i < d → ∀ (H : Heap) (locs : List Loc) (ls : Array Slot), g_I Γ (mG Γ mo ad f (va_up a 14 b1) rr ph) s H locs → lv_has ls 4 [(0, .ref mo), (1, .int (b2i m1)), (2, .int (pI i))] → W p l e (g_rm 4 0 0) s m A below meth c H locs 0 0 Q (F0 m 4 ls []) := by
    intro d
    induction d with
    | zero => intro b1 B1 m1 i hB1 hr1 hi hd; exact absurd hd (Nat.not_lt_zero _)
    | succ d ih =>
      intro b1 B1 m1 i hB1 hr1 hi hd H locs ls I hl
      refine lv_iload_n hx hb dX5_restsEach_4 rfl (lv_at hl 2 rfl) ?_
      refine lv_aload_n hx hb dX5_restsEach_5 rfl (lv_at hl 0 rfl) ?_
      refine g_get S hK I k_X5 (v := .ref (ad 5)) (g_at.of mG_obj) 5 (by decide) q2957 rfl rfl dX5_restsEach_6 ?_
      refine lv_iconst (v := 0) hx hb dX5_restsEach_9 (by decide) ?_
      refine m_iald S hK I (f := (a 5)) (k := 0) (g_at.of mG_5) (vp_lit (by decide)) (by decide) dX5_restsEach_10 ?_
      refine lv_icmp_ge (tgt := 77) hx hb dX5_restsEach_11 (by decide) (fun c_11 => ?_) (fun c_11 => ?_)
      · have n_11 := Int32.not_lt.mpr c_11
        have hiN := (pI_lt hw (i := i) (by omega)).mp c_11
        have hie : i = nN (a 5) + 1 := by omega
        subst hie
        refine lv_iload_n hx hb dX5_restsEach_77 rfl (lv_at hl 1 rfl) ?_
        exact g_zret S hr hlk I (b2i_nar _) dX5_restsEach_78 (Nat.le_of_ble_eq_true rfl) (Nat.le_of_ble_eq_true rfl) hQ ⟨_, rfl, ⟨b1, B1, m1, rfl, rfl, hB1, rsd_end hr1⟩⟩
      · have n_11 := Int32.not_le.mp c_11
        have hin : i + 1 ≤ nN (a 5) + 1 := by have := mt (pI_lt hw (i := i) (by omega)).mpr c_11; omega
        have hi20 : i ≤ 20 := by omega
        have hBi := (hB1 i hi20).2
        refine lv_aload_n hx hb dX5_restsEach_14 rfl (lv_at hl 0 rfl) ?_
        refine g_get S hK I k_X5 (v := .ref (ad 14)) (g_at.of mG_obj) 14 (by decide) q2966 rfl rfl dX5_restsEach_15 ?_
        refine lv_iload_n hx hb dX5_restsEach_18 rfl (lv_at hl 2 rfl) ?_
        refine lv_iconst (v := 1) hx hb dX5_restsEach_19 (by decide) ?_
        refine lv_iadd hx hb dX5_restsEach_20 ?_
        refine m_iald S hK I (f := b1) (k := i) (g_at.of mG_14) (pI_ix hi20).1 (pI_ix hi20).2 dX5_restsEach_21 ?_
        refine lv_if_ge (tgt := 28) hx hb dX5_restsEach_22 (by decide) (fun c_22 => ?_) (fun c_22 => ?_)
        · have n_22 := Int32.not_lt.mpr c_22
          have hbp : ¬ B1 i = 0 := fun z => Int32.not_lt.mpr c_22 (by rw [(hB1 i hi20).1]; exact (b_neg (by omega)).mpr z)
          obtain ⟨g, hg⟩ : ∃ g, B1 i = g + 1 := ⟨B1 i - 1, by omega⟩
          have hg20 : g ≤ 20 := by omega
          have hbg : b1 i = nI g := by rw [(hB1 i hi20).1, hg, nI_pred]
          have hrs20 := (rsN_ge (w := a 5) (i := i) hg20).2
          refine lv_aload_n hx hb dX5_restsEach_28 rfl (lv_at hl 0 rfl) ?_
          refine lv_iload_n hx hb dX5_restsEach_29 rfl (lv_at hl 2 rfl) ?_
          refine lv_aload_n hx hb dX5_restsEach_30 rfl (lv_at hl 0 rfl) ?_
          refine g_get S hK I k_X5 (v := .ref (ad 14)) (g_at.of mG_obj) 14 (by decide) q2966 rfl rfl dX5_restsEach_31 ?_
          refine lv_iload_n hx hb dX5_restsEach_34 rfl (lv_at hl 2 rfl) ?_
          refine lv_iconst (v := 1) hx hb dX5_restsEach_35 (by decide) ?_
          refine lv_iadd hx hb dX5_restsEach_36 ?_
          refine m_iald S hK I (f := b1) (k := i) (g_at.of mG_14) (pI_ix hi20).1 (pI_ix hi20).2 dX5_restsEach_37 ?_
          refine g_ci (g_runV S hK I (As := [.int (pI i), .int (b1 i)]) (rest := []) (met_X5_rested l Γ mo ad f (va_up a 14 b1) rr ph (pI i) (b1 i) (br_isPl hw (pI_ok hw (by omega)))) (cwV 2 hts (lw_V q3301 q3303 qs95 q151 q3304) rfl rfl rfl (by decide +kernel) ⟨Nat.le_of_ble_eq_true rfl, Nat.le_of_ble_eq_true rfl⟩) (g_recv hK I (g_at.of mG_obj) (ci := 4) rfl) rfl hl.1 rfl (Nat.le_of_ble_eq_true rfl) dX5_restsEach_38 ⟨Nat.le_of_ble_eq_true rfl, Nat.le_of_ble_eq_true rfl⟩) I (fun r_38 ph1 H locs hp I => ?_)
          obtain ⟨hp, rfl⟩ := hp
          have hp : r_38 = resG (a 5) (pI i) (b1 i) := hp
          subst hp
          rw [show (resG (a 5) (pI i) (b1 i)) = (nI (rsN (a 5) i g)) from by rw [hbg]; exact rs_eq hi20 hg20]
          refine lv_istore_n (lv' := [(3, .int (nI (rsN (a 5) i g))), (0, .ref mo), (1, .int (b2i m1)), (2, .int (pI i))]) hx hb dX5_restsEach_41 rfl hl (by decide) rfl (fun ls hl => ?_)
          refine lv_iload_n hx hb dX5_restsEach_42 rfl (lv_at hl 2 rfl) ?_
          refine lv_iload_n hx hb dX5_restsEach_43 rfl (lv_at hl 0 rfl) ?_
          refine lv_aload_n hx hb dX5_restsEach_44 rfl (lv_at hl 1 rfl) ?_
          refine g_get S hK I k_X5 (v := .ref (ad 14)) (g_at.of mG_obj) 14 (by decide) q2966 rfl rfl dX5_restsEach_45 ?_
          refine lv_iload_n hx hb dX5_restsEach_48 rfl (lv_at hl 3 rfl) ?_
          refine lv_iconst (v := 1) hx hb dX5_restsEach_49 (by decide) ?_
          refine lv_iadd hx hb dX5_restsEach_50 ?_
          refine m_iald S hK I (f := b1) (k := i) (g_at.of mG_14) (pI_ix hi20).1 (pI_ix hi20).2 dX5_restsEach_51 ?_
          have J_60_0 : ∀ (x1 : Int32) (H : Heap) (locs : List Loc) (ls : Array Slot), (hx1 : x1 = (b2i (decide (g < rsN (a 5) i g)))) → g_I Γ (mG Γ mo ad f (va_up a 14 b1) rr ph) s H locs → lv_has ls 4 [(3, .int (nI (rsN (a 5) i g))), (0, .ref mo), (1, .int (b2i m1)), (2, .int (pI i))] → W p l e (g_rm 4 0 0) s m A below meth c H locs 0 0 Q (F0 m 60 ls [.int x1, .int (b2i m1)]) := by
            intro x1 H locs ls hx1 I hl
            subst hx1
            refine lv_ior hx hb dX5_restsEach_60 ?_
            rw [b2i_or]
            refine lv_istore_n (lv' := [(1, .int (b2i (m1 || decide (g < rsN (a 5) i g)))), (3, .int (nI (rsN (a 5) i g))), (0, .ref mo), (2, .int (pI i))]) hx hb dX5_restsEach_61 rfl hl (by decide) rfl (fun ls hl => ?_)
            refine lv_aload_n hx hb dX5_restsEach_62 rfl (lv_at hl 2 rfl) ?_
            refine g_get S hK I k_X5 (v := .ref (ad 14)) (g_at.of mG_obj) 14 (by decide) q2966 rfl rfl dX5_restsEach_63 ?_
            refine lv_iload_n hx hb dX5_restsEach_66 rfl (lv_at hl 3 rfl) ?_
            refine lv_iconst (v := 1) hx hb dX5_restsEach_67 (by decide) ?_
            refine lv_iadd hx hb dX5_restsEach_68 ?_
            refine lv_iload_n hx hb dX5_restsEach_69 rfl (lv_at hl 1 rfl) ?_
            refine m_iast S hK I (f := b1) (k := i) mG_14 (pI_ix hi20).1 (pI_ix hi20).2 dX5_restsEach_70 (fun H locs I => ?_)
            have I := mI_14 I
            rw [bx_uu] at I
            refine lv_iinc (v := pI (i + 1)) (lv' := [(2, .int (pI (i + 1))), (1, .int (b2i (m1 || decide (g < rsN (a 5) i g)))), (3, .int (nI (rsN (a 5) i g))), (0, .ref mo)]) hx hb dX5_restsEach_71 hl (k := 3) rfl (pI_1 i) (by decide) rfl (fun ls hl => ?_)
            refine lv_goto (tgt := 4) hx hb dX5_restsEach_74 (by decide) ?_
            exact ih (upd b1 i (nI (rsN (a 5) i g))) (uN B1 i (rsN (a 5) i g + 1)) (m1 || decide (g < rsN (a 5) i g)) (i + 1) (hB1.up (nI_pred _).symm (by have := (rsN_ge (w := a 5) (i := i) hg20).2; omega)) (rsd_do hr1 hg hg20 hi20) hin (by omega) _ _ _ I (lv_sub hl [3, 1, 0] rfl)
          refine lv_icmp_le (tgt := 59) hx hb dX5_restsEach_52 (by decide) (fun c_52 => ?_) (fun c_52 => ?_)
          · have n_52 := Int32.not_lt.mpr c_52
            refine lv_iconst (v := 0) hx hb dX5_restsEach_59 (by decide) ?_
            exact J_60_0 0 _ _ _ (by rw [decide_eq_false (show ¬ g < rsN (a 5) i g from by have q := c_52; rw [hbg, nI_leI (by omega) (by omega)] at q; omega)]; rfl) I (lv_sub hl [0, 1, 2, 3] rfl)
          · have n_52 := Int32.not_le.mp c_52
            refine lv_iconst (v := 1) hx hb dX5_restsEach_55 (by decide) ?_
            refine lv_goto (tgt := 60) hx hb dX5_restsEach_56 (by decide) ?_
            exact J_60_0 1 _ _ _ (by rw [decide_eq_true (show g < rsN (a 5) i g from by have q := Int32.not_le.mp c_52; rw [hbg, nI_ltI (by omega) (by omega)] at q; omega)]; rfl) I (lv_sub hl [0, 1, 2, 3] rfl)
        · have n_22 := Int32.not_le.mp c_22
          have h0 : B1 i = 0 := (b_neg (by omega)).mp (by rw [← (hB1 i hi20).1]; exact Int32.not_le.mp c_22)
          refine lv_goto (tgt := 71) hx hb dX5_restsEach_25 (by decide) ?_
          refine lv_iinc (v := pI (i + 1)) (lv' := [(2, .int (pI (i + 1))), (0, .ref mo), (1, .int (b2i m1))]) hx hb dX5_restsEach_71 hl (k := 2) rfl (pI_1 i) (by decide) rfl (fun ls hl => ?_)
          refine lv_goto (tgt := 4) hx hb dX5_restsEach_74 (by decide) ?_
          exact ih b1 B1 m1 (i + 1) hB1 (rsd_skip hr1 h0) hin (by omega) _ _ _ I (lv_sub hl [1, 2, 0] rfl)
  exact L_4 _ (a 14) B false 0 hB ⟨fun j hj => absurd hj (Nat.not_lt_zero _), fun _ _ => rfl, fun _ _ => rfl, fun q => absurd q (by decide), Nat.le_refl _⟩ (Nat.zero_le _) (Nat.lt_succ_self _) _ _ _ I (lv_sub hl [2, 1, 0] rfl)

theorem ls_snd0 {w : m_w} {L s g0 : Nat} : snd w (fun i g => Rc w L s g0 0 i g) (B0 s (g0 + 1)) := by
  intro i hi g hg
  unfold B0 uN at hg
  by_cases e : i = s
  · rw [if_pos e] at hg
    obtain rfl : g = g0 := by omega
    subst e
    exact Rc.z
  · rw [if_neg e] at hg; exact absurd (show 0 = g + 1 from hg) (by omega)
theorem snd_s {w : m_w} {L s g0 n : Nat} {B B1 : Nat → Nat} {m : Bool} (hs : snd w (fun i g => Rc w L s g0 n i g) B) (hr : rstd w B B1) (hf : m = false → ∀ i, i ≤ nN w → B1 i = B i) : snd w (fun i g => Rc w L s g0 (n + 1) i g ∧ (m = false → g + 1 ≤ B i)) B1 := by
  intro i hi g hg
  cases hb : B i with
  | zero => rw [hr.2.1 i hi hb] at hg; omega
  | succ q =>
    have h1 := hr.1 i hi q hb
    rw [h1] at hg
    obtain rfl : rsN w i q = g := by omega
    exact ⟨(hs i hi q hb).rs, fun e => by have := hf e i hi; omega⟩
theorem mvC_s {w : m_w} {L s g0 n : Nat} {B : Nat → Nat} {m : Bool} (h : stab w L B) : mvC1 w L (fun i g => Rc w L s g0 (n + 1) i g ∧ (m = false → g + 1 ≤ B i)) := fun i g j hp hi hj hy hd => ⟨hp.1.mv hi hj hy hd, fun e => st_mv h hi hj hy hd (hp.2 e)⟩
set_option maxHeartbeats 4000000 in
set_option maxRecDepth 100000 in
theorem met_X5_leastRests (l : Launch) (Γ : g_C) (mo : Nat) (ad : Nat → Nat) (f : Nat → Int32) (a : Nat → Nat → Int32) (rr : Nat → UInt32) (ph : g_H)  (p0 : Int32) (p1 : Int32) (hw : WF (a 5)) : g_Met l yX5_leastRests (ws_ yX5_leastRests cX5_leastRests 6 (some .int)) (g_rm 7 0 0) Γ [.ref mo, .int p0, .int p1] (mG Γ mo ad f a rr ph) (g_oi (fun v ph' => if (isCl p0 && isPl (a 5) p1) = false then v = 0 ∧ ph' = mG Γ mo ad (upd f 0 1) a rr ph else if cX (a 5) p0 1 = 2 then v = 0 ∧ ph' = mG Γ mo ad (upd f 0 2) a rr ph else ∃ (o : Option Nat) (b' : Nat → Int32), lrIs (a 5) (lpN (a 5) p0) (plN (a 5) p0) (gpN (a 5) p0) (tN p1) o ∧ match o with | some n => v = nI n ∧ ph' = mG Γ mo ad (upd f 0 0) (va_up a 14 b') rr ph | none => v = 0 ∧ ph' = mG Γ mo ad (upd f 0 2) (va_up a 14 b') rr ph)) g_no := by
  refine g_start (y := yX5_leastRests) (cc := cX5_leastRests) (maxL := 6) (ret := (some .int)) (rm := g_rm 7 0 0) (by decide) (Nat.le_of_ble_eq_true rfl) ?_
  intro p e s m A below meth c ls Q hQ S hr hlk hex hnm hK I hl
  have hx := S.1
  have hb := S.2.1
  have hown := S.2.2.2.1
  have hts := S.2.2.2.2
  have S : CallFix p m c cX5_leastRests 6 s A lw_all "CrumblingWallModel" := S
  have hl : lv_has ls 6 [(0, .ref mo), (1, .int p0), (2, .int p1)] := hl
  have hN20 := hw.1.2
  refine lv_iload_n hx hb dX5_leastRests_0 rfl (lv_at hl 1 rfl) ?_
  refine g_ci (g_runS S hK I (As := [.int p0]) (rest := []) (met_X5_isClimber l Γ (mG Γ mo ad f a rr ph) p0) (va_cwS 1 hts (lw_S q3217 q3218 q151 q3219) rfl rfl rfl (by decide +kernel) ⟨Nat.le_of_ble_eq_true rfl, Nat.le_of_ble_eq_true rfl⟩) rfl hl.1 rfl (Nat.le_of_ble_eq_true rfl) dX5_leastRests_1 ⟨Nat.le_of_ble_eq_true rfl, Nat.le_of_ble_eq_true rfl⟩) I (fun r_1 ph1 H locs hp I => ?_)
  obtain ⟨hp, rfl⟩ := hp
  have hp : r_1 = b2i (isCl p0) := hp
  subst hp
  refine lv_if_eq (tgt := 15) hx hb dX5_leastRests_4 (by decide) (fun c_4 => ?_) (fun c_4 => ?_)
  · have p_4 := (b2i_eq0 _).mp c_4
    refine lv_aload_n hx hb dX5_leastRests_15 rfl (lv_at hl 0 rfl) ?_
    refine lv_iconst (v := 1) hx hb dX5_leastRests_16 (by decide) ?_
    refine g_ci (g_runV S hK I (As := [.int 1]) (rest := []) (met_X5_fails l Γ mo ad f a rr ph 1) (cwV 1 hts (lw_V q3056 q3058 qs51 q151 q3059) rfl rfl rfl (by decide +kernel) ⟨Nat.le_of_ble_eq_true rfl, Nat.le_of_ble_eq_true rfl⟩) (g_recv hK I (g_at.of mG_obj) (ci := 4) rfl) rfl hl.1 rfl (Nat.le_of_ble_eq_true rfl) dX5_leastRests_17 ⟨Nat.le_of_ble_eq_true rfl, Nat.le_of_ble_eq_true rfl⟩) I (fun r_17 ph1 H locs hp I => ?_)
    obtain ⟨hp, rfl⟩ := hp
    have hp : r_17 = 0 := hp
    subst hp
    have I : g_I Γ (mG Γ mo ad (upd f 0 1) a rr ph) s H locs := I
    exact g_iret S hr hlk I dX5_leastRests_20 (Nat.le_of_ble_eq_true rfl) (Nat.le_of_ble_eq_true rfl) hQ ⟨_, rfl, (by dsimp only; rw [if_pos (by simp [p_4])]; exact ⟨rfl, rfl⟩)⟩
  · have p_4 := (b2i_ne0 _).mp c_4
    have hc := isCl_iff.mp p_4
    refine lv_aload_n hx hb dX5_leastRests_7 rfl (lv_at hl 0 rfl) ?_
    refine lv_iload_n hx hb dX5_leastRests_8 rfl (lv_at hl 2 rfl) ?_
    refine g_ci (g_runV S hK I (As := [.int p1]) (rest := []) (met_X5_isPlace l Γ mo ad f a rr ph p1) (cwV 1 hts (lw_V q3157 q3159 qs71 q151 q3160) rfl rfl rfl (by decide +kernel) ⟨Nat.le_of_ble_eq_true rfl, Nat.le_of_ble_eq_true rfl⟩) (g_recv hK I (g_at.of mG_obj) (ci := 4) rfl) rfl hl.1 rfl (Nat.le_of_ble_eq_true rfl) dX5_leastRests_9 ⟨Nat.le_of_ble_eq_true rfl, Nat.le_of_ble_eq_true rfl⟩) I (fun r_9 ph1 H locs hp I => ?_)
    obtain ⟨hp, rfl⟩ := hp
    have hp : r_9 = b2i (isPl (a 5) p1) := hp
    subst hp
    refine lv_if_ne (tgt := 21) hx hb dX5_leastRests_12 (by decide) (fun c_12 => ?_) (fun c_12 => ?_)
    · have p_12 := (b2i_ne0 _).mp c_12
      have hv := (isPl_iff hw).mp p_12
      have hok : ¬ (isCl p0 && isPl (a 5) p1) = false := by rw [p_4, p_12]; decide
      have hLe := lpN_eq (w := a 5) (c := p0)
      have hPe := plN_eq hw hc
      have hGe := gpN_eq hw hc
      have hTe := tN_eq hw hv
      generalize hl0 : lpN (a 5) p0 = LL at hLe
      generalize hp0 : plN (a 5) p0 = ss at hPe
      generalize hg0 : gpN (a 5) p0 = gg at hGe
      generalize ht0 : tN p1 = tt at hTe
      have hLL := hLe.2
      have hss := hPe.2
      have hgg := hGe.2
      have ht20 : tt ≤ 20 := Nat.le_trans hTe.2 hN20
      have hG1 : nI gg = nI (gg + 1) - 1 := (nI_pred gg).symm
      have snd_0 : snd (a 5) (fun i g => Rc (a 5) LL ss gg 0 i g) (B0 ss (gg + 1)) := ls_snd0
      have mvC_n : mvC1 (a 5) LL (fun i g => Rc (a 5) LL ss gg 0 i g) := fun i g j h hi hj hy hd => h.mv hi hj hy hd
      refine lv_aload_n hx hb dX5_leastRests_21 rfl (lv_at hl 0 rfl) ?_
      refine lv_iload_n hx hb dX5_leastRests_22 rfl (lv_at hl 1 rfl) ?_
      refine lv_iconst (v := 1) hx hb dX5_leastRests_23 (by decide) ?_
      refine g_ci (g_runV S hK I (As := [.int p0, .int 1]) (rest := []) (met_X5_ofClimber l Γ mo ad f a rr ph p0 1 hc (vp_lit (by decide))) (cwV 2 hts (lw_V q3099 q3101 qs60 q151 q3102) rfl rfl rfl (by decide +kernel) ⟨Nat.le_of_ble_eq_true rfl, Nat.le_of_ble_eq_true rfl⟩) (g_recv hK I (g_at.of mG_obj) (ci := 4) rfl) rfl hl.1 rfl (Nat.le_of_ble_eq_true rfl) dX5_leastRests_24 ⟨Nat.le_of_ble_eq_true rfl, Nat.le_of_ble_eq_true rfl⟩) I (fun r_24 ph1 H locs hp I => ?_)
      obtain ⟨hp, rfl⟩ := hp
      have hp : r_24 = cX (a 5) p0 1 := hp
      subst hp
      refine lv_iconst (v := 2) hx hb dX5_leastRests_27 (by decide) ?_
      refine lv_icmp_ne (tgt := 37) hx hb dX5_leastRests_28 (by decide) (fun c_28 => ?_) (fun c_28 => ?_)
      · refine lv_aload_n hx hb dX5_leastRests_37 rfl (lv_at hl 0 rfl) ?_
        refine lv_iload_n hx hb dX5_leastRests_38 rfl (lv_at hl 1 rfl) ?_
        refine g_ci (g_runV S hK I (As := [.int p0]) (rest := []) (met_X5_carried l Γ mo ad f a rr ph p0 hw) (cwV 1 hts (lw_V q3220 q3222 qs78 q151 q3223) rfl rfl rfl (by decide +kernel) ⟨Nat.le_of_ble_eq_true rfl, Nat.le_of_ble_eq_true rfl⟩) (g_recv hK I (g_at.of mG_obj) (ci := 4) rfl) rfl hl.1 rfl (Nat.le_of_ble_eq_true rfl) dX5_leastRests_39 ⟨Nat.le_of_ble_eq_true rfl, Nat.le_of_ble_eq_true rfl⟩) I (fun r_39 ph1 H locs hp I => ?_)
        obtain ⟨hp, rfl⟩ := hp
        have hp : r_39 = carr (a 5) p0 := hp
        subst hp
        refine g_ci (g_runS S hK I (As := [.int (carr (a 5) p0)]) (rest := []) (met_X5_bits l Γ (mG Γ mo ad f a rr ph) (carr (a 5) p0)) (va_cwS 1 hts (lw_S q3240 q3241 q151 q3242) rfl rfl rfl (by decide +kernel) ⟨Nat.le_of_ble_eq_true rfl, Nat.le_of_ble_eq_true rfl⟩) rfl hl.1 rfl (Nat.le_of_ble_eq_true rfl) dX5_leastRests_42 ⟨Nat.le_of_ble_eq_true rfl, Nat.le_of_ble_eq_true rfl⟩) I (fun r_42 ph1 H locs hp I => ?_)
        obtain ⟨hp, rfl⟩ := hp
        have hp : r_42 = bits (carr (a 5) p0) := hp
        subst hp
        rw [show bits (carr (a 5) p0) = nI LL from hLe.1]
        refine lv_istore_n (lv' := [(3, .int (nI LL)), (0, .ref mo), (1, .int p0), (2, .int p1)]) hx hb dX5_leastRests_45 rfl hl (by decide) rfl (fun ls hl => ?_)
        refine lv_iconst (v := 0) hx hb dX5_leastRests_46 (by decide) ?_
        refine lv_istore (lv' := [(4, .int 0), (3, .int (nI LL)), (0, .ref mo), (1, .int p0), (2, .int p1)]) hx hb dX5_leastRests_47 hl (by decide) rfl (fun ls hl => ?_)
        have I := mI_ea I (va_upI a 14 (v := clN (a 14) 0) rfl).symm
        have L_49 : ∀ (d49 : Nat) (k : Nat), (hk : k ≤ 21) → 21 - k < d49 → ∀ (H : Heap) (locs : List Loc) (ls : Array Slot), g_I Γ (mG Γ mo ad f (va_up a 14 (clN (a 14) k)) rr ph) s H locs → lv_has ls 6 [(0, .ref mo), (1, .int p0), (2, .int p1), (3, .int (nI LL)), (4, .int (nI k))] → W p l e (g_rm 7 0 0) s m A below meth c H locs 0 0 Q (F0 m 49 ls []) := by
          intro d49
          induction d49 with
          | zero => intro k hk hd; exact absurd hd (Nat.not_lt_zero _)
          | succ d49 ih49 =>
            intro k hk hd49 H locs ls I hl
            refine lv_iload hx hb dX5_leastRests_49 (lv_at hl 4 rfl) ?_
            refine lv_bipush (v := 21) hx hb dX5_leastRests_51 (by decide) ?_
            refine lv_icmp_ge (tgt := 70) hx hb dX5_leastRests_53 (by decide) (fun c_53 => ?_) (fun c_53 => ?_)
            · have n_53 := Int32.not_lt.mpr c_53
              obtain rfl : k = 21 := k_ge (x := 21) rfl (by decide) hk c_53
              refine lv_aload_n hx hb dX5_leastRests_70 rfl (lv_at hl 0 rfl) ?_
              refine g_get S hK I k_X5 (v := .ref (ad 14)) (g_at.of mG_obj) 14 (by decide) q2966 rfl rfl dX5_leastRests_71 ?_
              refine lv_aload_n hx hb dX5_leastRests_74 rfl (lv_at hl 0 rfl) ?_
              refine lv_iload_n hx hb dX5_leastRests_75 rfl (lv_at hl 1 rfl) ?_
              refine g_ci (g_runV S hK I (As := [.int p0]) (rest := [.ref (ad 14)]) (met_X5_place l Γ mo ad f (va_up a 14 (clN (a 14) 21)) rr ph p0 hc) (cwV 1 hts (lw_V q3095 q3097 qs59 q151 q3098) rfl rfl rfl (by decide +kernel) ⟨Nat.le_of_ble_eq_true rfl, Nat.le_of_ble_eq_true rfl⟩) (g_recv hK I (g_at.of mG_obj) (ci := 4) rfl) rfl hl.1 rfl (Nat.le_of_ble_eq_true rfl) dX5_leastRests_76 ⟨Nat.le_of_ble_eq_true rfl, Nat.le_of_ble_eq_true rfl⟩) I (fun r_76 ph1 H locs hp I => ?_)
              obtain ⟨hp, rfl⟩ := hp
              have hp : r_76 = plc (a 5) p0 := hp
              subst hp
              rw [show plc (a 5) p0 = pI ss from hPe.1]
              refine lv_iconst (v := 1) hx hb dX5_leastRests_79 (by decide) ?_
              refine lv_iadd hx hb dX5_leastRests_80 ?_
              refine lv_aload_n hx hb dX5_leastRests_81 rfl (lv_at hl 0 rfl) ?_
              refine lv_iload_n hx hb dX5_leastRests_82 rfl (lv_at hl 1 rfl) ?_
              refine lv_iconst (v := 2) hx hb dX5_leastRests_83 (by decide) ?_
              refine g_ci (g_runV S hK I (As := [.int p0, .int 2]) (rest := [.int ((pI ss) + 1), .ref (ad 14)]) (met_X5_ofClimber l Γ mo ad f (va_up a 14 (clN (a 14) 21)) rr ph p0 2 hc (vp_lit (by decide))) (cwV 2 hts (lw_V q3099 q3101 qs60 q151 q3102) rfl rfl rfl (by decide +kernel) ⟨Nat.le_of_ble_eq_true rfl, Nat.le_of_ble_eq_true rfl⟩) (g_recv hK I (g_at.of mG_obj) (ci := 4) rfl) rfl hl.1 rfl (Nat.le_of_ble_eq_true rfl) dX5_leastRests_84 ⟨Nat.le_of_ble_eq_true rfl, Nat.le_of_ble_eq_true rfl⟩) I (fun r_84 ph1 H locs hp I => ?_)
              obtain ⟨hp, rfl⟩ := hp
              have hp : r_84 = cX (a 5) p0 2 := hp
              subst hp
              rw [show (cX (a 5) p0 2) = nI gg from hGe.1]
              refine m_iast S hK I (f := (clN (a 14) 21)) (k := ss) mG_14 (pI_ix (by omega)).1 (pI_ix (by omega)).2 dX5_leastRests_87 (fun H locs I => ?_)
              have I := mI_14 I
              rw [bx_uu] at I
              refine lv_aload_n hx hb dX5_leastRests_88 rfl (lv_at hl 0 rfl) ?_
              refine lv_iload_n hx hb dX5_leastRests_89 rfl (lv_at hl 3 rfl) ?_
              refine g_cv (g_runV S hK I (As := [.int (nI LL)]) (rest := []) (met_X5_spreads l Γ mo ad f (va_up a 14 (upd (clN (a 14) 21) ss (nI gg))) rr ph LL (B0 ss (gg + 1)) (fun i g => Rc (a 5) LL ss gg 0 i g) (nI LL) hw rfl hLL (bOk_0 hG1 (by omega)) (snd_0) (mvC_n)) (cwV 1 hts (lw_V q3320 q3322 qs96 q151 q3323) rfl rfl rfl (by decide +kernel) ⟨Nat.le_of_ble_eq_true rfl, Nat.le_of_ble_eq_true rfl⟩) (g_recv hK I (g_at.of mG_obj) (ci := 4) rfl) rfl hl.1 rfl (Nat.le_of_ble_eq_true rfl) dX5_leastRests_90 ⟨Nat.le_of_ble_eq_true rfl, Nat.le_of_ble_eq_true rfl⟩) I (fun ph1 H locs hp I => ?_)
              obtain ⟨b1, B1, rfl, hB1, hs1, hg1, hst1⟩ := hp
              have hc1 : cpl (a 5) LL ss gg 0 B1 := cpl_0 hss (by have := hg1 ss (by omega); unfold B0 uN at this; rw [if_pos rfl] at this; exact this) hst1
              have I := mI_ea I (show (va_up (va_up a 14 (upd (clN (a 14) 21) ss (nI gg))) 14 b1) = va_up a 14 b1 from va_uu)
              refine lv_iconst (v := 0) hx hb dX5_leastRests_93 (by decide) ?_
              refine lv_istore (lv' := [(4, .int 0), (0, .ref mo), (1, .int p0), (2, .int p1), (3, .int (nI LL))]) hx hb dX5_leastRests_94 hl (by decide) rfl (fun ls hl => ?_)
              refine lv_iconst (v := 1) hx hb dX5_leastRests_96 (by decide) ?_
              refine lv_istore (lv' := [(5, .int 1), (4, .int 0), (0, .ref mo), (1, .int p0), (2, .int p1), (3, .int (nI LL))]) hx hb dX5_leastRests_97 hl (by decide) rfl (fun ls hl => ?_)
              have L_99 : ∀ (d99 : Nat) (n : Nat) (b2 : Nat → Int32) (B2 : Nat → Nat) (m2 : Bool), (hB2 : bOk b2 B2) → (hs2 : snd (a 5) (fun i g => Rc (a 5) LL ss gg n i g) B2) → (hc2 : cpl (a 5) LL ss gg n B2) → (hst2 : stab (a 5) LL B2) → (hnt : ∀ k, k < n → ∀ g, ¬ Rc (a 5) LL ss gg k tt g) → (hfx : m2 = false → ∀ k, n ≤ k → cpl (a 5) LL ss gg k B2) → sT B2 21 + (if m2 = true then 1 else 0) < d99 → ∀ (H : Heap) (locs : List Loc) (ls : Array Slot), g_I Γ (mG Γ mo ad f (va_up a 14 b2) rr ph) s H locs → lv_has ls 6 [(0, .ref mo), (1, .int p0), (2, .int p1), (3, .int (nI LL)), (4, .int (nI n)), (5, .int (b2i m2))] → W p l e (g_rm 7 0 0) s m A below meth c H locs 0 0 Q (F0 m 99 ls []) := by
                intro d99
                induction d99 with
                | zero => intro n b2 B2 m2 hB2 hs2 hc2 hst2 hnt hfx hd; exact absurd hd (Nat.not_lt_zero _)
                | succ d99 ih99 =>
                  intro n b2 B2 m2 hB2 hs2 hc2 hst2 hnt hfx hd99 H locs ls I hl
                  refine lv_aload_n hx hb dX5_leastRests_99 rfl (lv_at hl 0 rfl) ?_
                  refine g_get S hK I k_X5 (v := .ref (ad 14)) (g_at.of mG_obj) 14 (by decide) q2966 rfl rfl dX5_leastRests_100 ?_
                  refine lv_iload_n hx hb dX5_leastRests_103 rfl (lv_at hl 2 rfl) ?_
                  refine lv_iconst (v := 1) hx hb dX5_leastRests_104 (by decide) ?_
                  refine lv_iadd hx hb dX5_leastRests_105 ?_
                  refine m_iald S hK I (f := b2) (k := tt) (g_at.of mG_14) (by rw [hTe.1]; exact (pI_ix ht20).1) (by rw [hTe.1]; exact (pI_ix ht20).2) dX5_leastRests_106 ?_
                  have J_132_0 : ∀ (H : Heap) (locs : List Loc) (ls : Array Slot), (hx2 : B2 tt = 0 → m2 = false) → g_I Γ (mG Γ mo ad f (va_up a 14 b2) rr ph) s H locs → lv_has ls 6 [(0, .ref mo), (1, .int p0), (2, .int p1), (3, .int (nI LL)), (4, .int (nI n)), (5, .int (b2i m2))] → W p l e (g_rm 7 0 0) s m A below meth c H locs 0 0 Q (F0 m 132 ls []) := by
                    intro  H locs ls hx2 I hl
                    refine lv_aload_n hx hb dX5_leastRests_132 rfl (lv_at hl 0 rfl) ?_
                    refine g_get S hK I k_X5 (v := .ref (ad 14)) (g_at.of mG_obj) 14 (by decide) q2966 rfl rfl dX5_leastRests_133 ?_
                    refine lv_iload_n hx hb dX5_leastRests_136 rfl (lv_at hl 2 rfl) ?_
                    refine lv_iconst (v := 1) hx hb dX5_leastRests_137 (by decide) ?_
                    refine lv_iadd hx hb dX5_leastRests_138 ?_
                    refine m_iald S hK I (f := b2) (k := tt) (g_at.of mG_14) (by rw [hTe.1]; exact (pI_ix ht20).1) (by rw [hTe.1]; exact (pI_ix ht20).2) dX5_leastRests_139 ?_
                    refine lv_if_ge (tgt := 149) hx hb dX5_leastRests_140 (by decide) (fun c_140 => ?_) (fun c_140 => ?_)
                    · have n_140 := Int32.not_lt.mpr c_140
                      have hbt : ¬ B2 tt = 0 := fun z => Int32.not_lt.mpr c_140 (by rw [(hB2 tt ht20).1]; exact (b_neg (by omega)).mpr z)
                      have hlr : lrIs (a 5) (lpN (a 5) p0) (plN (a 5) p0) (gpN (a 5) p0) (tN p1) (some n) := by rw [hl0, hp0, hg0, ht0]; exact ⟨⟨B2 tt - 1, hs2 tt hTe.2 _ (by omega)⟩, hnt⟩
                      refine lv_aload_n hx hb dX5_leastRests_149 rfl (lv_at hl 0 rfl) ?_
                      refine lv_iconst (v := 0) hx hb dX5_leastRests_150 (by decide) ?_
                      refine g_put S hK I k_X5 (v := .int 0) mG_obj 0 (by decide) q2952 rfl rfl rfl rfl (Nat.le_of_ble_eq_true rfl) dX5_leastRests_151 (fun H locs I => ?_)
                      have I := mI_f (f' := (upd f 0 0)) I rfl
                      refine lv_iload hx hb dX5_leastRests_154 (lv_at hl 4 rfl) ?_
                      exact g_iret S hr hlk I dX5_leastRests_156 (Nat.le_of_ble_eq_true rfl) (Nat.le_of_ble_eq_true rfl) hQ ⟨_, rfl, (by dsimp only; rw [if_neg hok, if_neg c_28]; exact ⟨some n, b2, hlr, rfl, rfl⟩)⟩
                    · have n_140 := Int32.not_le.mp c_140
                      have hbt : B2 tt = 0 := (b_neg (by have := (hB2 tt ht20).2; omega)).mp (by rw [← (hB2 tt ht20).1]; exact Int32.not_le.mp c_140)
                      have hlrN : lrIs (a 5) (lpN (a 5) p0) (plN (a 5) p0) (gpN (a 5) p0) (tN p1) none := by
                        rw [hl0, hp0, hg0, ht0]
                        intro k g hr
                        rcases Nat.lt_or_ge k n with q | q
                        · exact hnt k q g hr
                        · have := hfx (hx2 hbt) k q tt g hr; omega
                      refine lv_aload_n hx hb dX5_leastRests_143 rfl (lv_at hl 0 rfl) ?_
                      refine lv_iconst (v := 2) hx hb dX5_leastRests_144 (by decide) ?_
                      refine g_ci (g_runV S hK I (As := [.int 2]) (rest := []) (met_X5_fails l Γ mo ad f (va_up a 14 b2) rr ph 2) (cwV 1 hts (lw_V q3056 q3058 qs51 q151 q3059) rfl rfl rfl (by decide +kernel) ⟨Nat.le_of_ble_eq_true rfl, Nat.le_of_ble_eq_true rfl⟩) (g_recv hK I (g_at.of mG_obj) (ci := 4) rfl) rfl hl.1 rfl (Nat.le_of_ble_eq_true rfl) dX5_leastRests_145 ⟨Nat.le_of_ble_eq_true rfl, Nat.le_of_ble_eq_true rfl⟩) I (fun r_145 ph1 H locs hp I => ?_)
                      obtain ⟨hp, rfl⟩ := hp
                      have hp : r_145 = 0 := hp
                      subst hp
                      have I : g_I Γ (mG Γ mo ad (upd f 0 2) (va_up a 14 b2) rr ph) s H locs := I
                      exact g_iret S hr hlk I dX5_leastRests_148 (Nat.le_of_ble_eq_true rfl) (Nat.le_of_ble_eq_true rfl) hQ ⟨_, rfl, (by dsimp only; rw [if_neg hok, if_neg c_28]; exact ⟨none, b2, hlrN, rfl, rfl⟩)⟩
                  refine lv_if_ge (tgt := 132) hx hb dX5_leastRests_107 (by decide) (fun c_107 => ?_) (fun c_107 => ?_)
                  · have n_107 := Int32.not_lt.mpr c_107
                    exact J_132_0  _ _ _ (fun z => absurd ((b_neg (n := B2 tt) (by omega)).mpr z) (by rw [← (hB2 tt ht20).1]; exact Int32.not_lt.mpr c_107)) I (lv_sub hl [0, 1, 2, 3, 4, 5] rfl)
                  · have n_107 := Int32.not_le.mp c_107
                    have hb0 : B2 tt = 0 := (b_neg (by have := (hB2 tt ht20).2; omega)).mp (by rw [← (hB2 tt ht20).1]; exact Int32.not_le.mp c_107)
                    refine lv_iload hx hb dX5_leastRests_110 (lv_at hl 5 rfl) ?_
                    refine lv_if_eq (tgt := 132) hx hb dX5_leastRests_112 (by decide) (fun c_112 => ?_) (fun c_112 => ?_)
                    · have p_112 := (b2i_eq0 _).mp c_112
                      exact J_132_0  _ _ _ (fun _ => p_112) I (lv_sub hl [0, 1, 2, 3, 4, 5] rfl)
                    · have p_112 := (b2i_ne0 _).mp c_112
                      refine lv_aload_n hx hb dX5_leastRests_115 rfl (lv_at hl 0 rfl) ?_
                      refine g_ci (g_runV S hK I (As := []) (rest := []) (met_X5_restsEach l Γ mo ad f (va_up a 14 b2) rr ph B2 hw hB2) (cwV 0 hts (lw_V q3328 q3330 qs98 q151 q3331) rfl rfl rfl (by decide +kernel) ⟨Nat.le_of_ble_eq_true rfl, Nat.le_of_ble_eq_true rfl⟩) (g_recv hK I (g_at.of mG_obj) (ci := 4) rfl) rfl hl.1 rfl (Nat.le_of_ble_eq_true rfl) dX5_leastRests_116 ⟨Nat.le_of_ble_eq_true rfl, Nat.le_of_ble_eq_true rfl⟩) I (fun r_116 ph1 H locs hp I => ?_)
                      obtain ⟨b3, B3, m3, rfl, rfl, hB3, hr3, hf3, ht3⟩ := hp
                      have I := mI_ea I (show va_up (va_up a 14 b2) 14 b3 = va_up a 14 b3 from va_uu)
                      have hge3 := rstd_ge hr3 (fun i hi => (hB2 i hi).2)
                      refine lv_istore (lv' := [(5, .int (b2i m3)), (0, .ref mo), (1, .int p0), (2, .int p1), (3, .int (nI LL)), (4, .int (nI n))]) hx hb dX5_leastRests_119 hl (by decide) rfl (fun ls hl => ?_)
                      refine lv_iinc (v := nI (n + 1)) (lv' := [(4, .int (nI (n + 1))), (5, .int (b2i m3)), (0, .ref mo), (1, .int p0), (2, .int p1), (3, .int (nI LL))]) hx hb dX5_leastRests_121 hl (k := 5) rfl (nI_1 n) (by decide) rfl (fun ls hl => ?_)
                      refine lv_aload_n hx hb dX5_leastRests_124 rfl (lv_at hl 2 rfl) ?_
                      refine lv_iload_n hx hb dX5_leastRests_125 rfl (lv_at hl 5 rfl) ?_
                      refine g_cv (g_runV S hK I (As := [.int (nI LL)]) (rest := []) (met_X5_spreads l Γ mo ad f (va_up a 14 b3) rr ph LL B3 (fun i g => Rc (a 5) LL ss gg (n + 1) i g ∧ (m3 = false → g + 1 ≤ B2 i)) (nI LL) hw rfl hLL hB3 (snd_s hs2 hr3 hf3) (mvC_s hst2)) (cwV 1 hts (lw_V q3320 q3322 qs96 q151 q3323) rfl rfl rfl (by decide +kernel) ⟨Nat.le_of_ble_eq_true rfl, Nat.le_of_ble_eq_true rfl⟩) (g_recv hK I (g_at.of mG_obj) (ci := 4) rfl) rfl hl.1 rfl (Nat.le_of_ble_eq_true rfl) dX5_leastRests_126 ⟨Nat.le_of_ble_eq_true rfl, Nat.le_of_ble_eq_true rfl⟩) I (fun ph1 H locs hp I => ?_)
                      obtain ⟨b4, B4, rfl, hB4, hs4, hg4, hst4⟩ := hp
                      have I := mI_ea I (show va_up (va_up a 14 b3) 14 b4 = va_up a 14 b4 from va_uu)
                      have hc4 : cpl (a 5) LL ss gg (n + 1) B4 := cpl_s hss hc2 hr3 (fun i hi => hg4 i (by omega)) hst4
                      have hnt4 : ∀ k, k < n + 1 → ∀ g, ¬ Rc (a 5) LL ss gg k tt g := by
                        intro k hk g hr
                        rcases Nat.lt_succ_iff_lt_or_eq.mp hk with q | q
                        · exact hnt k q g hr
                        · subst q; have := hc2 tt g hr; omega
                      have hfx4 : m3 = false → ∀ k, n + 1 ≤ k → cpl (a 5) LL ss gg k B4 := by
                        intro q k hk i g hr
                        have h5 := (cpl_fix hss hc2 hr3 (hf3 q) hst2) k (by omega) i g hr
                        have hi := hr.le hss
                        have h6 := hge3 i (by omega)
                        have h7 := hg4 i (by omega)
                        omega
                      have hms : sT B4 21 + (if m3 = true then 1 else 0) < d99 := by
                        have h5 := sT_mono (B := B3) (B' := B4) 21 (fun i hi => hg4 i (by omega))
                        have h6 := sT_mono (B := B2) (B' := B3) 21 (fun i hi => hge3 i (by omega))
                        rw [p_112, if_pos rfl] at hd99
                        by_cases q : m3 = true
                        · have := ht3 q; rw [if_pos q]; omega
                        · rw [if_neg q]; omega
                      refine lv_goto (tgt := 99) hx hb dX5_leastRests_129 (by decide) ?_
                      exact ih99 (n + 1) b4 B4 m3 hB4 (fun i hi g hg => (hs4 i hi g hg).1) hc4 hst4 hnt4 hfx4 hms _ _ _ I (lv_sub hl [2, 3, 4, 5, 0, 1] rfl)
              exact L_99 _ 0 b1 B1 true hB1 hs1 hc1 hst1 (fun k hk => absurd hk (Nat.not_lt_zero _)) (fun q => absurd q (by decide)) (Nat.lt_succ_self _) _ _ _ I (lv_sub hl [2, 3, 4, 5, 1, 0] rfl)
            · have n_53 := Int32.not_le.mp c_53
              have hkl : k < 21 := k_lt (x := 21) rfl (by decide) hk c_53
              refine lv_aload_n hx hb dX5_leastRests_56 rfl (lv_at hl 0 rfl) ?_
              refine g_get S hK I k_X5 (v := .ref (ad 14)) (g_at.of mG_obj) 14 (by decide) q2966 rfl rfl dX5_leastRests_57 ?_
              refine lv_iload hx hb dX5_leastRests_60 (lv_at hl 4 rfl) ?_
              refine lv_iconst (v := (-1)) hx hb dX5_leastRests_62 (by decide) ?_
              refine m_iast S hK I (f := (clN (a 14) k)) (k := k) mG_14 (vp_in_nI hkl (by decide)) (nI_clamp (by omega)) dX5_leastRests_63 (fun H locs I => ?_)
              have I := mI_14 I
              rw [bx_uu] at I
              refine lv_iinc (v := nI (k + 1)) (lv' := [(4, .int (nI (k + 1))), (0, .ref mo), (1, .int p0), (2, .int p1), (3, .int (nI LL))]) hx hb dX5_leastRests_64 hl (k := 4) rfl (nI_1 k) (by decide) rfl (fun ls hl => ?_)
              refine lv_goto (tgt := 49) hx hb dX5_leastRests_67 (by decide) ?_
              exact ih49 (k + 1) hkl (by omega) _ _ _ I (lv_sub hl [1, 2, 3, 4, 0] rfl)
        exact L_49 _ 0 (Nat.zero_le _) (Nat.lt_succ_self _) _ _ _ I (lv_sub hl [2, 3, 4, 1, 0] rfl)
      · refine lv_aload_n hx hb dX5_leastRests_31 rfl (lv_at hl 0 rfl) ?_
        refine lv_iconst (v := 2) hx hb dX5_leastRests_32 (by decide) ?_
        refine g_ci (g_runV S hK I (As := [.int 2]) (rest := []) (met_X5_fails l Γ mo ad f a rr ph 2) (cwV 1 hts (lw_V q3056 q3058 qs51 q151 q3059) rfl rfl rfl (by decide +kernel) ⟨Nat.le_of_ble_eq_true rfl, Nat.le_of_ble_eq_true rfl⟩) (g_recv hK I (g_at.of mG_obj) (ci := 4) rfl) rfl hl.1 rfl (Nat.le_of_ble_eq_true rfl) dX5_leastRests_33 ⟨Nat.le_of_ble_eq_true rfl, Nat.le_of_ble_eq_true rfl⟩) I (fun r_33 ph1 H locs hp I => ?_)
        obtain ⟨hp, rfl⟩ := hp
        have hp : r_33 = 0 := hp
        subst hp
        have I : g_I Γ (mG Γ mo ad (upd f 0 2) a rr ph) s H locs := I
        exact g_iret S hr hlk I dX5_leastRests_36 (Nat.le_of_ble_eq_true rfl) (Nat.le_of_ble_eq_true rfl) hQ ⟨_, rfl, (by dsimp only; rw [if_neg hok, if_pos c_28]; exact ⟨rfl, rfl⟩)⟩
    · have p_12 := (b2i_eq0 _).mp c_12
      refine lv_aload_n hx hb dX5_leastRests_15 rfl (lv_at hl 0 rfl) ?_
      refine lv_iconst (v := 1) hx hb dX5_leastRests_16 (by decide) ?_
      refine g_ci (g_runV S hK I (As := [.int 1]) (rest := []) (met_X5_fails l Γ mo ad f a rr ph 1) (cwV 1 hts (lw_V q3056 q3058 qs51 q151 q3059) rfl rfl rfl (by decide +kernel) ⟨Nat.le_of_ble_eq_true rfl, Nat.le_of_ble_eq_true rfl⟩) (g_recv hK I (g_at.of mG_obj) (ci := 4) rfl) rfl hl.1 rfl (Nat.le_of_ble_eq_true rfl) dX5_leastRests_17 ⟨Nat.le_of_ble_eq_true rfl, Nat.le_of_ble_eq_true rfl⟩) I (fun r_17 ph1 H locs hp I => ?_)
      obtain ⟨hp, rfl⟩ := hp
      have hp : r_17 = 0 := hp
      subst hp
      have I : g_I Γ (mG Γ mo ad (upd f 0 1) a rr ph) s H locs := I
      exact g_iret S hr hlk I dX5_leastRests_20 (Nat.le_of_ble_eq_true rfl) (Nat.le_of_ble_eq_true rfl) hQ ⟨_, rfl, (by dsimp only; rw [if_pos (by simp [p_4, p_12])]; exact ⟨rfl, rfl⟩)⟩


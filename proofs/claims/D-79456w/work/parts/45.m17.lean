/-! THE REFERENCE IS MADE -/
set_option maxRecDepth 100000
set_option maxHeartbeats 2000000 in
set_option maxRecDepth 100000 in
theorem met_X5_init (l : Launch) (Γ : g_C) (mo : Nat) (ph : g_H) (hp0 : ∀ j, 40 ≤ j → ∀ q, ph j 0 q = none) : g_Met l yX5_init (ws_ yX5_init cX5_init 2 none) { frames := 1, cells := 15, slots := 2149, locals := 64 } Γ [.ref mo] (gput ph 40 0 mo (.inr (4, x5z))) (g_ov (fun ph' => ∃ ad : Nat → Nat, ph' = mG Γ mo ad x5f x5A x5r ph)) g_no := by
  refine g_start (y := yX5_init) (cc := cX5_init) (maxL := 2) (ret := none) (rm := { frames := 1, cells := 15, slots := 2149, locals := 64 }) (by decide) (Nat.le_of_ble_eq_true rfl) ?_
  intro p e s m A below meth c ls Q hQ S hr hlk hex hnm hK I hl
  have hx := S.1
  have hb := S.2.1
  have hown := S.2.2.2.1
  have hts := S.2.2.2.2
  have S : CallFix p m c cX5_init 2 s A lw_all "CrumblingWallModel" := S
  have hl : lv_has ls 2 [(0, .ref mo)] := hl
  rw [mH_0 hp0] at I
  unfold x5z at I
  refine lv_aload_n hx hb dX5_init_0 rfl (lv_at hl 0 rfl) ?_
  refine g_obj S hl.1 q2951 dX5_init_1 (Nat.le_of_ble_eq_true rfl) (Nat.le_of_ble_eq_true rfl) ?_
  refine lv_aload_n hx hb dX5_init_4 rfl (lv_at hl 0 rfl) ?_
  refine lv_sipush (v := 170) hx hb dX5_init_5 (by decide) ?_
  refine g_newa (atype := .int) S hK I (40 + 5) 0 0 (N' := 170) (a0 := (170, .inl fun _ => 0)) q761 rfl rfl (fun _ => rfl) (by decide) rfl (by decide) (Nat.le_of_ble_eq_true rfl) (Nat.le_of_ble_eq_true rfl) dX5_init_8 (fun q5_ H hf I => ?_)
  rw [mH_new (by decide) rfl] at I
  refine g_putF S hK I k_X5 (v := .ref q5_) mH_obj 5 (by decide) q2957 rfl rfl hnm rfl rfl (Nat.le_of_ble_eq_true rfl) dX5_init_10 (fun H locs I => ?_)
  rw [mH_f] at I
  have I : g_I Γ (mH mo [.int 0, .int 0, .int 0, .int 0, .int 0, .ref q5_, .null, .null, .null, .int 0, .int 0, .int 0, .null, .int 0, .null, .null, .null, .null, .null, .null, .int 0, .null, .null, .null, .null, .int 0, .int 0, .int 0, .int 0, .int 0] (cu (fun _ => none) 5 q5_ (.inl (g_t Γ 0, (170, .inl fun _ => 0)))) ph) s H locs := I
  refine lv_aload_n hx hb dX5_init_13 rfl (lv_at hl 0 rfl) ?_
  refine lv_sipush (v := 1360) hx hb dX5_init_14 (by decide) ?_
  refine g_newa (atype := .int) S hK I (40 + 6) 0 0 (N' := 1360) (a0 := (1360, .inl fun _ => 0)) q761 rfl rfl (fun _ => rfl) (by decide) rfl (by decide) (Nat.le_of_ble_eq_true rfl) (Nat.le_of_ble_eq_true rfl) dX5_init_17 (fun q6_ H hf I => ?_)
  rw [mH_new (by decide) rfl] at I
  refine g_putF S hK I k_X5 (v := .ref q6_) mH_obj 6 (by decide) q2958 rfl rfl hnm rfl rfl (Nat.le_of_ble_eq_true rfl) dX5_init_19 (fun H locs I => ?_)
  rw [mH_f] at I
  have I : g_I Γ (mH mo [.int 0, .int 0, .int 0, .int 0, .int 0, .ref q5_, .ref q6_, .null, .null, .int 0, .int 0, .int 0, .null, .int 0, .null, .null, .null, .null, .null, .null, .int 0, .null, .null, .null, .null, .int 0, .int 0, .int 0, .int 0, .int 0] (cu (cu (fun _ => none) 5 q5_ (.inl (g_t Γ 0, (170, .inl fun _ => 0)))) 6 q6_ (.inl (g_t Γ 0, (1360, .inl fun _ => 0)))) ph) s H locs := I
  refine lv_aload_n hx hb dX5_init_22 rfl (lv_at hl 0 rfl) ?_
  refine lv_sipush (v := 170) hx hb dX5_init_23 (by decide) ?_
  refine g_newa (atype := .int) S hK I (40 + 7) 0 0 (N' := 170) (a0 := (170, .inl fun _ => 0)) q761 rfl rfl (fun _ => rfl) (by decide) rfl (by decide) (Nat.le_of_ble_eq_true rfl) (Nat.le_of_ble_eq_true rfl) dX5_init_26 (fun q7_ H hf I => ?_)
  rw [mH_new (by decide) rfl] at I
  refine g_putF S hK I k_X5 (v := .ref q7_) mH_obj 7 (by decide) q2959 rfl rfl hnm rfl rfl (Nat.le_of_ble_eq_true rfl) dX5_init_28 (fun H locs I => ?_)
  rw [mH_f] at I
  have I : g_I Γ (mH mo [.int 0, .int 0, .int 0, .int 0, .int 0, .ref q5_, .ref q6_, .ref q7_, .null, .int 0, .int 0, .int 0, .null, .int 0, .null, .null, .null, .null, .null, .null, .int 0, .null, .null, .null, .null, .int 0, .int 0, .int 0, .int 0, .int 0] (cu (cu (cu (fun _ => none) 5 q5_ (.inl (g_t Γ 0, (170, .inl fun _ => 0)))) 6 q6_ (.inl (g_t Γ 0, (1360, .inl fun _ => 0)))) 7 q7_ (.inl (g_t Γ 0, (170, .inl fun _ => 0)))) ph) s H locs := I
  refine lv_aload_n hx hb dX5_init_31 rfl (lv_at hl 0 rfl) ?_
  refine lv_sipush (v := 170) hx hb dX5_init_32 (by decide) ?_
  refine g_newa (atype := .int) S hK I (40 + 8) 0 0 (N' := 170) (a0 := (170, .inl fun _ => 0)) q761 rfl rfl (fun _ => rfl) (by decide) rfl (by decide) (Nat.le_of_ble_eq_true rfl) (Nat.le_of_ble_eq_true rfl) dX5_init_35 (fun q8_ H hf I => ?_)
  rw [mH_new (by decide) rfl] at I
  refine g_putF S hK I k_X5 (v := .ref q8_) mH_obj 8 (by decide) q2960 rfl rfl hnm rfl rfl (Nat.le_of_ble_eq_true rfl) dX5_init_37 (fun H locs I => ?_)
  rw [mH_f] at I
  have I : g_I Γ (mH mo [.int 0, .int 0, .int 0, .int 0, .int 0, .ref q5_, .ref q6_, .ref q7_, .ref q8_, .int 0, .int 0, .int 0, .null, .int 0, .null, .null, .null, .null, .null, .null, .int 0, .null, .null, .null, .null, .int 0, .int 0, .int 0, .int 0, .int 0] (cu (cu (cu (cu (fun _ => none) 5 q5_ (.inl (g_t Γ 0, (170, .inl fun _ => 0)))) 6 q6_ (.inl (g_t Γ 0, (1360, .inl fun _ => 0)))) 7 q7_ (.inl (g_t Γ 0, (170, .inl fun _ => 0)))) 8 q8_ (.inl (g_t Γ 0, (170, .inl fun _ => 0)))) ph) s H locs := I
  refine lv_aload_n hx hb dX5_init_40 rfl (lv_at hl 0 rfl) ?_
  refine lv_bipush (v := 24) hx hb dX5_init_41 (by decide) ?_
  refine g_newa (atype := .int) S hK I (40 + 12) 0 0 (N' := 24) (a0 := (24, .inl fun _ => 0)) q761 rfl rfl (fun _ => rfl) (by decide) rfl (by decide) (Nat.le_of_ble_eq_true rfl) (Nat.le_of_ble_eq_true rfl) dX5_init_43 (fun q12_ H hf I => ?_)
  rw [mH_new (by decide) rfl] at I
  refine g_putF S hK I k_X5 (v := .ref q12_) mH_obj 12 (by decide) q2964 rfl rfl hnm rfl rfl (Nat.le_of_ble_eq_true rfl) dX5_init_45 (fun H locs I => ?_)
  rw [mH_f] at I
  have I : g_I Γ (mH mo [.int 0, .int 0, .int 0, .int 0, .int 0, .ref q5_, .ref q6_, .ref q7_, .ref q8_, .int 0, .int 0, .int 0, .ref q12_, .int 0, .null, .null, .null, .null, .null, .null, .int 0, .null, .null, .null, .null, .int 0, .int 0, .int 0, .int 0, .int 0] (cu (cu (cu (cu (cu (fun _ => none) 5 q5_ (.inl (g_t Γ 0, (170, .inl fun _ => 0)))) 6 q6_ (.inl (g_t Γ 0, (1360, .inl fun _ => 0)))) 7 q7_ (.inl (g_t Γ 0, (170, .inl fun _ => 0)))) 8 q8_ (.inl (g_t Γ 0, (170, .inl fun _ => 0)))) 12 q12_ (.inl (g_t Γ 0, (24, .inl fun _ => 0)))) ph) s H locs := I
  refine lv_aload_n hx hb dX5_init_48 rfl (lv_at hl 0 rfl) ?_
  refine lv_bipush (v := 21) hx hb dX5_init_49 (by decide) ?_
  refine g_newa (atype := .int) S hK I (40 + 14) 0 0 (N' := 21) (a0 := (21, .inl fun _ => 0)) q761 rfl rfl (fun _ => rfl) (by decide) rfl (by decide) (Nat.le_of_ble_eq_true rfl) (Nat.le_of_ble_eq_true rfl) dX5_init_51 (fun q14_ H hf I => ?_)
  rw [mH_new (by decide) rfl] at I
  refine g_putF S hK I k_X5 (v := .ref q14_) mH_obj 14 (by decide) q2966 rfl rfl hnm rfl rfl (Nat.le_of_ble_eq_true rfl) dX5_init_53 (fun H locs I => ?_)
  rw [mH_f] at I
  have I : g_I Γ (mH mo [.int 0, .int 0, .int 0, .int 0, .int 0, .ref q5_, .ref q6_, .ref q7_, .ref q8_, .int 0, .int 0, .int 0, .ref q12_, .int 0, .ref q14_, .null, .null, .null, .null, .null, .int 0, .null, .null, .null, .null, .int 0, .int 0, .int 0, .int 0, .int 0] (cu (cu (cu (cu (cu (cu (fun _ => none) 5 q5_ (.inl (g_t Γ 0, (170, .inl fun _ => 0)))) 6 q6_ (.inl (g_t Γ 0, (1360, .inl fun _ => 0)))) 7 q7_ (.inl (g_t Γ 0, (170, .inl fun _ => 0)))) 8 q8_ (.inl (g_t Γ 0, (170, .inl fun _ => 0)))) 12 q12_ (.inl (g_t Γ 0, (24, .inl fun _ => 0)))) 14 q14_ (.inl (g_t Γ 0, (21, .inl fun _ => 0)))) ph) s H locs := I
  refine lv_aload_n hx hb dX5_init_56 rfl (lv_at hl 0 rfl) ?_
  refine lv_bipush (v := 21) hx hb dX5_init_57 (by decide) ?_
  refine g_newa (atype := .int) S hK I (40 + 15) 0 0 (N' := 21) (a0 := (21, .inl fun _ => 0)) q761 rfl rfl (fun _ => rfl) (by decide) rfl (by decide) (Nat.le_of_ble_eq_true rfl) (Nat.le_of_ble_eq_true rfl) dX5_init_59 (fun q15_ H hf I => ?_)
  rw [mH_new (by decide) rfl] at I
  refine g_putF S hK I k_X5 (v := .ref q15_) mH_obj 15 (by decide) q2967 rfl rfl hnm rfl rfl (Nat.le_of_ble_eq_true rfl) dX5_init_61 (fun H locs I => ?_)
  rw [mH_f] at I
  have I : g_I Γ (mH mo [.int 0, .int 0, .int 0, .int 0, .int 0, .ref q5_, .ref q6_, .ref q7_, .ref q8_, .int 0, .int 0, .int 0, .ref q12_, .int 0, .ref q14_, .ref q15_, .null, .null, .null, .null, .int 0, .null, .null, .null, .null, .int 0, .int 0, .int 0, .int 0, .int 0] (cu (cu (cu (cu (cu (cu (cu (fun _ => none) 5 q5_ (.inl (g_t Γ 0, (170, .inl fun _ => 0)))) 6 q6_ (.inl (g_t Γ 0, (1360, .inl fun _ => 0)))) 7 q7_ (.inl (g_t Γ 0, (170, .inl fun _ => 0)))) 8 q8_ (.inl (g_t Γ 0, (170, .inl fun _ => 0)))) 12 q12_ (.inl (g_t Γ 0, (24, .inl fun _ => 0)))) 14 q14_ (.inl (g_t Γ 0, (21, .inl fun _ => 0)))) 15 q15_ (.inl (g_t Γ 0, (21, .inl fun _ => 0)))) ph) s H locs := I
  refine lv_aload_n hx hb dX5_init_64 rfl (lv_at hl 0 rfl) ?_
  refine lv_bipush (v := 48) hx hb dX5_init_65 (by decide) ?_
  refine g_newa (atype := .float) S hK I (40 + 16) 0 5 (N' := 48) (a0 := (48, .inr (.inr (.inl fun _ => 0)))) q703 rfl rfl (fun _ => rfl) (by decide) rfl (by decide) (Nat.le_of_ble_eq_true rfl) (Nat.le_of_ble_eq_true rfl) dX5_init_67 (fun q16_ H hf I => ?_)
  rw [mH_new (by decide) rfl] at I
  refine g_putF S hK I k_X5 (v := .ref q16_) mH_obj 16 (by decide) q2968 rfl rfl hnm rfl rfl (Nat.le_of_ble_eq_true rfl) dX5_init_69 (fun H locs I => ?_)
  rw [mH_f] at I
  have I : g_I Γ (mH mo [.int 0, .int 0, .int 0, .int 0, .int 0, .ref q5_, .ref q6_, .ref q7_, .ref q8_, .int 0, .int 0, .int 0, .ref q12_, .int 0, .ref q14_, .ref q15_, .ref q16_, .null, .null, .null, .int 0, .null, .null, .null, .null, .int 0, .int 0, .int 0, .int 0, .int 0] (cu (cu (cu (cu (cu (cu (cu (cu (fun _ => none) 5 q5_ (.inl (g_t Γ 0, (170, .inl fun _ => 0)))) 6 q6_ (.inl (g_t Γ 0, (1360, .inl fun _ => 0)))) 7 q7_ (.inl (g_t Γ 0, (170, .inl fun _ => 0)))) 8 q8_ (.inl (g_t Γ 0, (170, .inl fun _ => 0)))) 12 q12_ (.inl (g_t Γ 0, (24, .inl fun _ => 0)))) 14 q14_ (.inl (g_t Γ 0, (21, .inl fun _ => 0)))) 15 q15_ (.inl (g_t Γ 0, (21, .inl fun _ => 0)))) 16 q16_ (.inl (g_t Γ 5, (48, .inr (.inr (.inl fun _ => 0)))))) ph) s H locs := I
  refine lv_aload_n hx hb dX5_init_72 rfl (lv_at hl 0 rfl) ?_
  refine lv_iconst (v := 3) hx hb dX5_init_73 (by decide) ?_
  refine g_newa (atype := .int) S hK I (40 + 17) 0 0 (N' := 3) (a0 := (3, .inl fun _ => 0)) q761 rfl rfl (fun _ => rfl) (by decide) rfl (by decide) (Nat.le_of_ble_eq_true rfl) (Nat.le_of_ble_eq_true rfl) dX5_init_74 (fun q17_ H hf I => ?_)
  rw [mH_new (by decide) rfl] at I
  refine g_putF S hK I k_X5 (v := .ref q17_) mH_obj 17 (by decide) q2969 rfl rfl hnm rfl rfl (Nat.le_of_ble_eq_true rfl) dX5_init_76 (fun H locs I => ?_)
  rw [mH_f] at I
  have I : g_I Γ (mH mo [.int 0, .int 0, .int 0, .int 0, .int 0, .ref q5_, .ref q6_, .ref q7_, .ref q8_, .int 0, .int 0, .int 0, .ref q12_, .int 0, .ref q14_, .ref q15_, .ref q16_, .ref q17_, .null, .null, .int 0, .null, .null, .null, .null, .int 0, .int 0, .int 0, .int 0, .int 0] (cu (cu (cu (cu (cu (cu (cu (cu (cu (fun _ => none) 5 q5_ (.inl (g_t Γ 0, (170, .inl fun _ => 0)))) 6 q6_ (.inl (g_t Γ 0, (1360, .inl fun _ => 0)))) 7 q7_ (.inl (g_t Γ 0, (170, .inl fun _ => 0)))) 8 q8_ (.inl (g_t Γ 0, (170, .inl fun _ => 0)))) 12 q12_ (.inl (g_t Γ 0, (24, .inl fun _ => 0)))) 14 q14_ (.inl (g_t Γ 0, (21, .inl fun _ => 0)))) 15 q15_ (.inl (g_t Γ 0, (21, .inl fun _ => 0)))) 16 q16_ (.inl (g_t Γ 5, (48, .inr (.inr (.inl fun _ => 0)))))) 17 q17_ (.inl (g_t Γ 0, (3, .inl fun _ => 0)))) ph) s H locs := I
  refine lv_aload_n hx hb dX5_init_79 rfl (lv_at hl 0 rfl) ?_
  refine lv_iconst (v := 3) hx hb dX5_init_80 (by decide) ?_
  refine g_newa (atype := .boolean) S hK I (40 + 18) 0 1 (N' := 3) (a0 := (3, .inl fun _ => 0)) q3043 rfl rfl (fun _ => rfl) (by decide) rfl (by decide) (Nat.le_of_ble_eq_true rfl) (Nat.le_of_ble_eq_true rfl) dX5_init_81 (fun q18_ H hf I => ?_)
  rw [mH_new (by decide) rfl] at I
  refine g_putF S hK I k_X5 (v := .ref q18_) mH_obj 18 (by decide) q2970 rfl rfl hnm rfl rfl (Nat.le_of_ble_eq_true rfl) dX5_init_83 (fun H locs I => ?_)
  rw [mH_f] at I
  have I : g_I Γ (mH mo [.int 0, .int 0, .int 0, .int 0, .int 0, .ref q5_, .ref q6_, .ref q7_, .ref q8_, .int 0, .int 0, .int 0, .ref q12_, .int 0, .ref q14_, .ref q15_, .ref q16_, .ref q17_, .ref q18_, .null, .int 0, .null, .null, .null, .null, .int 0, .int 0, .int 0, .int 0, .int 0] (cu (cu (cu (cu (cu (cu (cu (cu (cu (cu (fun _ => none) 5 q5_ (.inl (g_t Γ 0, (170, .inl fun _ => 0)))) 6 q6_ (.inl (g_t Γ 0, (1360, .inl fun _ => 0)))) 7 q7_ (.inl (g_t Γ 0, (170, .inl fun _ => 0)))) 8 q8_ (.inl (g_t Γ 0, (170, .inl fun _ => 0)))) 12 q12_ (.inl (g_t Γ 0, (24, .inl fun _ => 0)))) 14 q14_ (.inl (g_t Γ 0, (21, .inl fun _ => 0)))) 15 q15_ (.inl (g_t Γ 0, (21, .inl fun _ => 0)))) 16 q16_ (.inl (g_t Γ 5, (48, .inr (.inr (.inl fun _ => 0)))))) 17 q17_ (.inl (g_t Γ 0, (3, .inl fun _ => 0)))) 18 q18_ (.inl (g_t Γ 1, (3, .inl fun _ => 0)))) ph) s H locs := I
  refine lv_aload_n hx hb dX5_init_86 rfl (lv_at hl 0 rfl) ?_
  refine lv_bipush (v := 6) hx hb dX5_init_87 (by decide) ?_
  refine g_newa (atype := .int) S hK I (40 + 19) 0 0 (N' := 6) (a0 := (6, .inl fun _ => 0)) q761 rfl rfl (fun _ => rfl) (by decide) rfl (by decide) (Nat.le_of_ble_eq_true rfl) (Nat.le_of_ble_eq_true rfl) dX5_init_89 (fun q19_ H hf I => ?_)
  rw [mH_new (by decide) rfl] at I
  refine g_putF S hK I k_X5 (v := .ref q19_) mH_obj 19 (by decide) q2971 rfl rfl hnm rfl rfl (Nat.le_of_ble_eq_true rfl) dX5_init_91 (fun H locs I => ?_)
  rw [mH_f] at I
  have I : g_I Γ (mH mo [.int 0, .int 0, .int 0, .int 0, .int 0, .ref q5_, .ref q6_, .ref q7_, .ref q8_, .int 0, .int 0, .int 0, .ref q12_, .int 0, .ref q14_, .ref q15_, .ref q16_, .ref q17_, .ref q18_, .ref q19_, .int 0, .null, .null, .null, .null, .int 0, .int 0, .int 0, .int 0, .int 0] (cu (cu (cu (cu (cu (cu (cu (cu (cu (cu (cu (fun _ => none) 5 q5_ (.inl (g_t Γ 0, (170, .inl fun _ => 0)))) 6 q6_ (.inl (g_t Γ 0, (1360, .inl fun _ => 0)))) 7 q7_ (.inl (g_t Γ 0, (170, .inl fun _ => 0)))) 8 q8_ (.inl (g_t Γ 0, (170, .inl fun _ => 0)))) 12 q12_ (.inl (g_t Γ 0, (24, .inl fun _ => 0)))) 14 q14_ (.inl (g_t Γ 0, (21, .inl fun _ => 0)))) 15 q15_ (.inl (g_t Γ 0, (21, .inl fun _ => 0)))) 16 q16_ (.inl (g_t Γ 5, (48, .inr (.inr (.inl fun _ => 0)))))) 17 q17_ (.inl (g_t Γ 0, (3, .inl fun _ => 0)))) 18 q18_ (.inl (g_t Γ 1, (3, .inl fun _ => 0)))) 19 q19_ (.inl (g_t Γ 0, (6, .inl fun _ => 0)))) ph) s H locs := I
  refine lv_aload_n hx hb dX5_init_94 rfl (lv_at hl 0 rfl) ?_
  refine lv_iconst (v := 4) hx hb dX5_init_95 (by decide) ?_
  refine g_put S hK I k_X5 (v := .int 4) mH_obj 20 (by decide) q2972 rfl rfl rfl rfl (Nat.le_of_ble_eq_true rfl) dX5_init_96 (fun H locs I => ?_)
  rw [mH_f] at I
  have I : g_I Γ (mH mo [.int 0, .int 0, .int 0, .int 0, .int 0, .ref q5_, .ref q6_, .ref q7_, .ref q8_, .int 0, .int 0, .int 0, .ref q12_, .int 0, .ref q14_, .ref q15_, .ref q16_, .ref q17_, .ref q18_, .ref q19_, .int 4, .null, .null, .null, .null, .int 0, .int 0, .int 0, .int 0, .int 0] (cu (cu (cu (cu (cu (cu (cu (cu (cu (cu (cu (fun _ => none) 5 q5_ (.inl (g_t Γ 0, (170, .inl fun _ => 0)))) 6 q6_ (.inl (g_t Γ 0, (1360, .inl fun _ => 0)))) 7 q7_ (.inl (g_t Γ 0, (170, .inl fun _ => 0)))) 8 q8_ (.inl (g_t Γ 0, (170, .inl fun _ => 0)))) 12 q12_ (.inl (g_t Γ 0, (24, .inl fun _ => 0)))) 14 q14_ (.inl (g_t Γ 0, (21, .inl fun _ => 0)))) 15 q15_ (.inl (g_t Γ 0, (21, .inl fun _ => 0)))) 16 q16_ (.inl (g_t Γ 5, (48, .inr (.inr (.inl fun _ => 0)))))) 17 q17_ (.inl (g_t Γ 0, (3, .inl fun _ => 0)))) 18 q18_ (.inl (g_t Γ 1, (3, .inl fun _ => 0)))) 19 q19_ (.inl (g_t Γ 0, (6, .inl fun _ => 0)))) ph) s H locs := I
  refine lv_aload_n hx hb dX5_init_99 rfl (lv_at hl 0 rfl) ?_
  refine lv_bipush (v := 60) hx hb dX5_init_100 (by decide) ?_
  refine g_newa (atype := .char) S hK I (40 + 21) 0 2 (N' := 60) (a0 := (60, .inl fun _ => 0)) q3044 rfl rfl (fun _ => rfl) (by decide) rfl (by decide) (Nat.le_of_ble_eq_true rfl) (Nat.le_of_ble_eq_true rfl) dX5_init_102 (fun q21_ H hf I => ?_)
  rw [mH_new (by decide) rfl] at I
  refine g_putF S hK I k_X5 (v := .ref q21_) mH_obj 21 (by decide) q2973 rfl rfl hnm rfl rfl (Nat.le_of_ble_eq_true rfl) dX5_init_104 (fun H locs I => ?_)
  rw [mH_f] at I
  have I : g_I Γ (mH mo [.int 0, .int 0, .int 0, .int 0, .int 0, .ref q5_, .ref q6_, .ref q7_, .ref q8_, .int 0, .int 0, .int 0, .ref q12_, .int 0, .ref q14_, .ref q15_, .ref q16_, .ref q17_, .ref q18_, .ref q19_, .int 4, .ref q21_, .null, .null, .null, .int 0, .int 0, .int 0, .int 0, .int 0] (cu (cu (cu (cu (cu (cu (cu (cu (cu (cu (cu (cu (fun _ => none) 5 q5_ (.inl (g_t Γ 0, (170, .inl fun _ => 0)))) 6 q6_ (.inl (g_t Γ 0, (1360, .inl fun _ => 0)))) 7 q7_ (.inl (g_t Γ 0, (170, .inl fun _ => 0)))) 8 q8_ (.inl (g_t Γ 0, (170, .inl fun _ => 0)))) 12 q12_ (.inl (g_t Γ 0, (24, .inl fun _ => 0)))) 14 q14_ (.inl (g_t Γ 0, (21, .inl fun _ => 0)))) 15 q15_ (.inl (g_t Γ 0, (21, .inl fun _ => 0)))) 16 q16_ (.inl (g_t Γ 5, (48, .inr (.inr (.inl fun _ => 0)))))) 17 q17_ (.inl (g_t Γ 0, (3, .inl fun _ => 0)))) 18 q18_ (.inl (g_t Γ 1, (3, .inl fun _ => 0)))) 19 q19_ (.inl (g_t Γ 0, (6, .inl fun _ => 0)))) 21 q21_ (.inl (g_t Γ 2, (60, .inl fun _ => 0)))) ph) s H locs := I
  refine lv_aload_n hx hb dX5_init_107 rfl (lv_at hl 0 rfl) ?_
  refine lv_bipush (v := 31) hx hb dX5_init_108 (by decide) ?_
  refine g_newa (atype := .int) S hK I (40 + 22) 0 0 (N' := 31) (a0 := (31, .inl fun _ => 0)) q761 rfl rfl (fun _ => rfl) (by decide) rfl (by decide) (Nat.le_of_ble_eq_true rfl) (Nat.le_of_ble_eq_true rfl) dX5_init_110 (fun q22_ H hf I => ?_)
  rw [mH_new (by decide) rfl] at I
  refine g_putF S hK I k_X5 (v := .ref q22_) mH_obj 22 (by decide) q2974 rfl rfl hnm rfl rfl (Nat.le_of_ble_eq_true rfl) dX5_init_112 (fun H locs I => ?_)
  rw [mH_f] at I
  have I : g_I Γ (mH mo [.int 0, .int 0, .int 0, .int 0, .int 0, .ref q5_, .ref q6_, .ref q7_, .ref q8_, .int 0, .int 0, .int 0, .ref q12_, .int 0, .ref q14_, .ref q15_, .ref q16_, .ref q17_, .ref q18_, .ref q19_, .int 4, .ref q21_, .ref q22_, .null, .null, .int 0, .int 0, .int 0, .int 0, .int 0] (cu (cu (cu (cu (cu (cu (cu (cu (cu (cu (cu (cu (cu (fun _ => none) 5 q5_ (.inl (g_t Γ 0, (170, .inl fun _ => 0)))) 6 q6_ (.inl (g_t Γ 0, (1360, .inl fun _ => 0)))) 7 q7_ (.inl (g_t Γ 0, (170, .inl fun _ => 0)))) 8 q8_ (.inl (g_t Γ 0, (170, .inl fun _ => 0)))) 12 q12_ (.inl (g_t Γ 0, (24, .inl fun _ => 0)))) 14 q14_ (.inl (g_t Γ 0, (21, .inl fun _ => 0)))) 15 q15_ (.inl (g_t Γ 0, (21, .inl fun _ => 0)))) 16 q16_ (.inl (g_t Γ 5, (48, .inr (.inr (.inl fun _ => 0)))))) 17 q17_ (.inl (g_t Γ 0, (3, .inl fun _ => 0)))) 18 q18_ (.inl (g_t Γ 1, (3, .inl fun _ => 0)))) 19 q19_ (.inl (g_t Γ 0, (6, .inl fun _ => 0)))) 21 q21_ (.inl (g_t Γ 2, (60, .inl fun _ => 0)))) 22 q22_ (.inl (g_t Γ 0, (31, .inl fun _ => 0)))) ph) s H locs := I
  refine lv_aload_n hx hb dX5_init_115 rfl (lv_at hl 0 rfl) ?_
  refine lv_bipush (v := 31) hx hb dX5_init_116 (by decide) ?_
  refine g_newa (atype := .int) S hK I (40 + 23) 0 0 (N' := 31) (a0 := (31, .inl fun _ => 0)) q761 rfl rfl (fun _ => rfl) (by decide) rfl (by decide) (Nat.le_of_ble_eq_true rfl) (Nat.le_of_ble_eq_true rfl) dX5_init_118 (fun q23_ H hf I => ?_)
  rw [mH_new (by decide) rfl] at I
  refine g_putF S hK I k_X5 (v := .ref q23_) mH_obj 23 (by decide) q2975 rfl rfl hnm rfl rfl (Nat.le_of_ble_eq_true rfl) dX5_init_120 (fun H locs I => ?_)
  rw [mH_f] at I
  have I : g_I Γ (mH mo [.int 0, .int 0, .int 0, .int 0, .int 0, .ref q5_, .ref q6_, .ref q7_, .ref q8_, .int 0, .int 0, .int 0, .ref q12_, .int 0, .ref q14_, .ref q15_, .ref q16_, .ref q17_, .ref q18_, .ref q19_, .int 4, .ref q21_, .ref q22_, .ref q23_, .null, .int 0, .int 0, .int 0, .int 0, .int 0] (cu (cu (cu (cu (cu (cu (cu (cu (cu (cu (cu (cu (cu (cu (fun _ => none) 5 q5_ (.inl (g_t Γ 0, (170, .inl fun _ => 0)))) 6 q6_ (.inl (g_t Γ 0, (1360, .inl fun _ => 0)))) 7 q7_ (.inl (g_t Γ 0, (170, .inl fun _ => 0)))) 8 q8_ (.inl (g_t Γ 0, (170, .inl fun _ => 0)))) 12 q12_ (.inl (g_t Γ 0, (24, .inl fun _ => 0)))) 14 q14_ (.inl (g_t Γ 0, (21, .inl fun _ => 0)))) 15 q15_ (.inl (g_t Γ 0, (21, .inl fun _ => 0)))) 16 q16_ (.inl (g_t Γ 5, (48, .inr (.inr (.inl fun _ => 0)))))) 17 q17_ (.inl (g_t Γ 0, (3, .inl fun _ => 0)))) 18 q18_ (.inl (g_t Γ 1, (3, .inl fun _ => 0)))) 19 q19_ (.inl (g_t Γ 0, (6, .inl fun _ => 0)))) 21 q21_ (.inl (g_t Γ 2, (60, .inl fun _ => 0)))) 22 q22_ (.inl (g_t Γ 0, (31, .inl fun _ => 0)))) 23 q23_ (.inl (g_t Γ 0, (31, .inl fun _ => 0)))) ph) s H locs := I
  refine lv_aload_n hx hb dX5_init_123 rfl (lv_at hl 0 rfl) ?_
  refine lv_bipush (v := 31) hx hb dX5_init_124 (by decide) ?_
  refine g_newa (atype := .int) S hK I (40 + 24) 0 0 (N' := 31) (a0 := (31, .inl fun _ => 0)) q761 rfl rfl (fun _ => rfl) (by decide) rfl (by decide) (Nat.le_of_ble_eq_true rfl) (Nat.le_of_ble_eq_true rfl) dX5_init_126 (fun q24_ H hf I => ?_)
  rw [mH_new (by decide) rfl] at I
  refine g_putF S hK I k_X5 (v := .ref q24_) mH_obj 24 (by decide) q2976 rfl rfl hnm rfl rfl (Nat.le_of_ble_eq_true rfl) dX5_init_128 (fun H locs I => ?_)
  rw [mH_f] at I
  have I : g_I Γ (mH mo [.int 0, .int 0, .int 0, .int 0, .int 0, .ref q5_, .ref q6_, .ref q7_, .ref q8_, .int 0, .int 0, .int 0, .ref q12_, .int 0, .ref q14_, .ref q15_, .ref q16_, .ref q17_, .ref q18_, .ref q19_, .int 4, .ref q21_, .ref q22_, .ref q23_, .ref q24_, .int 0, .int 0, .int 0, .int 0, .int 0] (cu (cu (cu (cu (cu (cu (cu (cu (cu (cu (cu (cu (cu (cu (cu (fun _ => none) 5 q5_ (.inl (g_t Γ 0, (170, .inl fun _ => 0)))) 6 q6_ (.inl (g_t Γ 0, (1360, .inl fun _ => 0)))) 7 q7_ (.inl (g_t Γ 0, (170, .inl fun _ => 0)))) 8 q8_ (.inl (g_t Γ 0, (170, .inl fun _ => 0)))) 12 q12_ (.inl (g_t Γ 0, (24, .inl fun _ => 0)))) 14 q14_ (.inl (g_t Γ 0, (21, .inl fun _ => 0)))) 15 q15_ (.inl (g_t Γ 0, (21, .inl fun _ => 0)))) 16 q16_ (.inl (g_t Γ 5, (48, .inr (.inr (.inl fun _ => 0)))))) 17 q17_ (.inl (g_t Γ 0, (3, .inl fun _ => 0)))) 18 q18_ (.inl (g_t Γ 1, (3, .inl fun _ => 0)))) 19 q19_ (.inl (g_t Γ 0, (6, .inl fun _ => 0)))) 21 q21_ (.inl (g_t Γ 2, (60, .inl fun _ => 0)))) 22 q22_ (.inl (g_t Γ 0, (31, .inl fun _ => 0)))) 23 q23_ (.inl (g_t Γ 0, (31, .inl fun _ => 0)))) 24 q24_ (.inl (g_t Γ 0, (31, .inl fun _ => 0)))) ph) s H locs := I
  refine lv_aload_n hx hb dX5_init_131 rfl (lv_at hl 0 rfl) ?_
  refine lv_iconst (v := (-1)) hx hb dX5_init_132 (by decide) ?_
  refine g_put S hK I k_X5 (v := .int (-1)) mH_obj 28 (by decide) q2980 rfl rfl rfl rfl (Nat.le_of_ble_eq_true rfl) dX5_init_133 (fun H locs I => ?_)
  rw [mH_f] at I
  have I : g_I Γ (mH mo [.int 0, .int 0, .int 0, .int 0, .int 0, .ref q5_, .ref q6_, .ref q7_, .ref q8_, .int 0, .int 0, .int 0, .ref q12_, .int 0, .ref q14_, .ref q15_, .ref q16_, .ref q17_, .ref q18_, .ref q19_, .int 4, .ref q21_, .ref q22_, .ref q23_, .ref q24_, .int 0, .int 0, .int 0, .int (-1), .int 0] (cu (cu (cu (cu (cu (cu (cu (cu (cu (cu (cu (cu (cu (cu (cu (fun _ => none) 5 q5_ (.inl (g_t Γ 0, (170, .inl fun _ => 0)))) 6 q6_ (.inl (g_t Γ 0, (1360, .inl fun _ => 0)))) 7 q7_ (.inl (g_t Γ 0, (170, .inl fun _ => 0)))) 8 q8_ (.inl (g_t Γ 0, (170, .inl fun _ => 0)))) 12 q12_ (.inl (g_t Γ 0, (24, .inl fun _ => 0)))) 14 q14_ (.inl (g_t Γ 0, (21, .inl fun _ => 0)))) 15 q15_ (.inl (g_t Γ 0, (21, .inl fun _ => 0)))) 16 q16_ (.inl (g_t Γ 5, (48, .inr (.inr (.inl fun _ => 0)))))) 17 q17_ (.inl (g_t Γ 0, (3, .inl fun _ => 0)))) 18 q18_ (.inl (g_t Γ 1, (3, .inl fun _ => 0)))) 19 q19_ (.inl (g_t Γ 0, (6, .inl fun _ => 0)))) 21 q21_ (.inl (g_t Γ 2, (60, .inl fun _ => 0)))) 22 q22_ (.inl (g_t Γ 0, (31, .inl fun _ => 0)))) 23 q23_ (.inl (g_t Γ 0, (31, .inl fun _ => 0)))) 24 q24_ (.inl (g_t Γ 0, (31, .inl fun _ => 0)))) ph) s H locs := I
  obtain ⟨ad, I⟩ : ∃ ad : Nat → Nat, g_I Γ (mG Γ mo ad x5f x5a x5r ph) s H locs := by
    refine ⟨fun k => if k = 5 then q5_ else if k = 6 then q6_ else if k = 7 then q7_ else if k = 8 then q8_ else if k = 12 then q12_ else if k = 14 then q14_ else if k = 15 then q15_ else if k = 16 then q16_ else if k = 17 then q17_ else if k = 18 then q18_ else if k = 19 then q19_ else if k = 21 then q21_ else if k = 22 then q22_ else if k = 23 then q23_ else if k = 24 then q24_ else 0, ?_⟩
    rw [← mH_end (c := (cu (cu (cu (cu (cu (cu (cu (cu (cu (cu (cu (cu (cu (cu (cu (fun _ => none) 5 q5_ (.inl (g_t Γ 0, (170, .inl fun _ => 0)))) 6 q6_ (.inl (g_t Γ 0, (1360, .inl fun _ => 0)))) 7 q7_ (.inl (g_t Γ 0, (170, .inl fun _ => 0)))) 8 q8_ (.inl (g_t Γ 0, (170, .inl fun _ => 0)))) 12 q12_ (.inl (g_t Γ 0, (24, .inl fun _ => 0)))) 14 q14_ (.inl (g_t Γ 0, (21, .inl fun _ => 0)))) 15 q15_ (.inl (g_t Γ 0, (21, .inl fun _ => 0)))) 16 q16_ (.inl (g_t Γ 5, (48, .inr (.inr (.inl fun _ => 0)))))) 17 q17_ (.inl (g_t Γ 0, (3, .inl fun _ => 0)))) 18 q18_ (.inl (g_t Γ 1, (3, .inl fun _ => 0)))) 19 q19_ (.inl (g_t Γ 0, (6, .inl fun _ => 0)))) 21 q21_ (.inl (g_t Γ 2, (60, .inl fun _ => 0)))) 22 q22_ (.inl (g_t Γ 0, (31, .inl fun _ => 0)))) 23 q23_ (.inl (g_t Γ 0, (31, .inl fun _ => 0)))) 24 q24_ (.inl (g_t Γ 0, (31, .inl fun _ => 0))))) (fs := [.int 0, .int 0, .int 0, .int 0, .int 0, .ref q5_, .ref q6_, .ref q7_, .ref q8_, .int 0, .int 0, .int 0, .ref q12_, .int 0, .ref q14_, .ref q15_, .ref q16_, .ref q17_, .ref q18_, .ref q19_, .int 4, .ref q21_, .ref q22_, .ref q23_, .ref q24_, .int 0, .int 0, .int 0, .int (-1), .int 0])]
    · exact I
    · rfl
    · intro k
      by_cases h24 : k = 24
      · subst h24; rfl
      by_cases h23 : k = 23
      · subst h23; rfl
      by_cases h22 : k = 22
      · subst h22; rfl
      by_cases h21 : k = 21
      · subst h21; rfl
      by_cases h19 : k = 19
      · subst h19; rfl
      by_cases h18 : k = 18
      · subst h18; rfl
      by_cases h17 : k = 17
      · subst h17; rfl
      by_cases h16 : k = 16
      · subst h16; rfl
      by_cases h15 : k = 15
      · subst h15; rfl
      by_cases h14 : k = 14
      · subst h14; rfl
      by_cases h12 : k = 12
      · subst h12; rfl
      by_cases h8 : k = 8
      · subst h8; rfl
      by_cases h7 : k = 7
      · subst h7; rfl
      by_cases h6 : k = 6
      · subst h6; rfl
      by_cases h5 : k = 5
      · subst h5; rfl
      simp [cu, m_isA, h5, h6, h7, h8, h12, h14, h15, h16, h17, h18, h19, h21, h22, h23, h24]
  refine lv_aload_n hx hb dX5_init_136 rfl (lv_at hl 0 rfl) ?_
  refine g_get S hK I k_X5 (v := .ref (ad 5)) (g_at.of mG_obj) 5 (by decide) q2957 rfl rfl dX5_init_137 ?_
  refine lv_bipush (v := 101) hx hb dX5_init_140 (by decide) ?_
  refine lv_iconst (v := 3) hx hb dX5_init_142 (by decide) ?_
  refine m_iast S hK I (f := (x5a 5)) (k := 101) mG_5 (vp_lit (by decide)) (by decide) dX5_init_143 (fun H locs I => ?_)
  have I := mI_5 I
  refine lv_aload_n hx hb dX5_init_144 rfl (lv_at hl 0 rfl) ?_
  refine g_get S hK I k_X5 (v := .ref (ad 5)) (g_at.of mG_obj) 5 (by decide) q2957 rfl rfl dX5_init_145 ?_
  refine lv_bipush (v := 102) hx hb dX5_init_148 (by decide) ?_
  refine lv_bipush (v := 21) hx hb dX5_init_150 (by decide) ?_
  refine m_iast S hK I (f := (upd (x5a 5) 101 3)) (k := 102) mG_5 (vp_lit (by decide)) (by decide) dX5_init_152 (fun H locs I => ?_)
  have I := mI_5 I
  rw [bx_uu] at I
  refine lv_aload_n hx hb dX5_init_153 rfl (lv_at hl 0 rfl) ?_
  refine g_get S hK I k_X5 (v := .ref (ad 5)) (g_at.of mG_obj) 5 (by decide) q2957 rfl rfl dX5_init_154 ?_
  refine lv_bipush (v := 103) hx hb dX5_init_157 (by decide) ?_
  refine lv_bipush (v := 30) hx hb dX5_init_159 (by decide) ?_
  refine m_iast S hK I (f := (upd (upd (x5a 5) 101 3) 102 21)) (k := 103) mG_5 (vp_lit (by decide)) (by decide) dX5_init_161 (fun H locs I => ?_)
  have I := mI_5 I
  rw [bx_uu] at I
  refine lv_iconst (v := 0) hx hb dX5_init_162 (by decide) ?_
  refine lv_istore_n (lv' := [(1, .int 0), (0, .ref mo)]) hx hb dX5_init_163 rfl hl (by decide) rfl (fun ls hl => ?_)
  have I : g_I Γ (mG Γ mo ad x5f (va_up x5a 5 (mkN 0)) x5r ph) s H locs := I
  have L_164 : ∀ (d : Nat) (k : Nat), (hk : k ≤ 2) → 2 - k < d → ∀ (H : Heap) (locs : List Loc) (ls : Array Slot), g_I Γ (mG Γ mo ad x5f (va_up x5a 5 (mkN k)) x5r ph) s H locs → lv_has ls 2 [(0, .ref mo), (1, .int (nI k))] → W p l e ({ frames := 1, cells := 15, slots := 2149, locals := 64 }) s m A below meth c H locs 15 2149 Q (F0 m 164 ls []) := by
    intro d
    induction d with
    | zero => intro k hk hd; exact absurd hd (Nat.not_lt_zero _)
    | succ d ih =>
      intro k hk hd H locs ls I hl
      refine lv_iload_n hx hb dX5_init_164 rfl (lv_at hl 1 rfl) ?_
      refine lv_iconst (v := 2) hx hb dX5_init_165 (by decide) ?_
      refine lv_icmp_ge (tgt := 202) hx hb dX5_init_166 (by decide) (fun c_166 => ?_) (fun c_166 => ?_)
      · have n_166 := Int32.not_lt.mpr c_166
        obtain rfl : k = 2 := k_ge (x := 2) rfl (by decide) hk c_166
        refine lv_iconst (v := 0) hx hb dX5_init_202 (by decide) ?_
        refine lv_istore_n (lv' := [(1, .int 0), (0, .ref mo)]) hx hb dX5_init_203 rfl hl (by decide) rfl (fun ls hl => ?_)
        have I : g_I Γ (mG Γ mo ad x5f (va_up (va_up x5a 5 (mkN 2)) 19 (clN (x5a 19) 0)) x5r ph) s H locs := mI_ea I (va_upI (va_up x5a 5 (mkN 2)) 19 (v := clN (x5a 19) 0) rfl).symm
        have L_204 : ∀ (d : Nat) (k : Nat), (hk : k ≤ 6) → 6 - k < d → ∀ (H : Heap) (locs : List Loc) (ls : Array Slot), g_I Γ (mG Γ mo ad x5f (va_up (va_up x5a 5 (mkN 2)) 19 (clN (x5a 19) k)) x5r ph) s H locs → lv_has ls 2 [(0, .ref mo), (1, .int (nI k))] → W p l e ({ frames := 1, cells := 15, slots := 2149, locals := 64 }) s m A below meth c H locs 15 2149 Q (F0 m 204 ls []) := by
          intro d
          induction d with
          | zero => intro k hk hd; exact absurd hd (Nat.not_lt_zero _)
          | succ d ih =>
            intro k hk hd H locs ls I hl
            refine lv_iload_n hx hb dX5_init_204 rfl (lv_at hl 1 rfl) ?_
            refine lv_bipush (v := 6) hx hb dX5_init_205 (by decide) ?_
            refine lv_icmp_ge (tgt := 223) hx hb dX5_init_207 (by decide) (fun c_207 => ?_) (fun c_207 => ?_)
            · have n_207 := Int32.not_lt.mpr c_207
              obtain rfl : k = 6 := k_ge (x := 6) rfl (by decide) hk c_207
              exact g_vret S hr hlk I dX5_init_223 (Nat.le_of_ble_eq_true rfl) (Nat.le_of_ble_eq_true rfl) hQ ⟨rfl, ⟨ad, rfl⟩⟩
            · have n_207 := Int32.not_le.mp c_207
              have hkl : k < 6 := k_lt (x := 6) rfl (by decide) hk c_207
              refine lv_aload_n hx hb dX5_init_210 rfl (lv_at hl 0 rfl) ?_
              refine g_get S hK I k_X5 (v := .ref (ad 19)) (g_at.of mG_obj) 19 (by decide) q2971 rfl rfl dX5_init_211 ?_
              refine lv_iload_n hx hb dX5_init_214 rfl (lv_at hl 1 rfl) ?_
              refine lv_iconst (v := (-1)) hx hb dX5_init_215 (by decide) ?_
              refine m_iast S hK I (f := (clN (x5a 19) k)) (k := k) mG_19 (vp_in_nI (by omega) (by decide)) (nI_clamp (by omega)) dX5_init_216 (fun H locs I => ?_)
              have I := mI_19 I
              rw [bx_uu] at I
              refine lv_iinc (v := nI (k + 1)) (lv' := [(1, .int (nI (k + 1))), (0, .ref mo)]) hx hb dX5_init_217 hl (k := 1) rfl (nI_1 k) (by decide) rfl (fun ls hl => ?_)
              refine lv_goto (tgt := 204) hx hb dX5_init_220 (by decide) ?_
              exact ih (k + 1) hkl (by omega) _ _ _ I (lv_sub hl [1, 0] rfl)
        exact L_204 _ 0 (Nat.zero_le _) (Nat.lt_succ_self _) _ _ _ I (lv_sub hl [1, 0] rfl)
      · have n_166 := Int32.not_le.mp c_166
        have hkl : k < 2 := k_lt (x := 2) rfl (by decide) hk c_166
        refine lv_aload_n hx hb dX5_init_169 rfl (lv_at hl 0 rfl) ?_
        refine g_get S hK I k_X5 (v := .ref (ad 5)) (g_at.of mG_obj) 5 (by decide) q2957 rfl rfl dX5_init_170 ?_
        refine lv_bipush (v := 125) hx hb dX5_init_173 (by decide) ?_
        refine lv_iconst (v := 3) hx hb dX5_init_175 (by decide) ?_
        refine lv_iload_n hx hb dX5_init_176 rfl (lv_at hl 1 rfl) ?_
        refine lv_imul hx hb dX5_init_177 ?_
        refine lv_iadd hx hb dX5_init_178 ?_
        refine lv_iconst (v := (-1)) hx hb dX5_init_179 (by decide) ?_
        refine m_iast S hK I (f := (mkN k)) (k := (125 + 3 * k)) mG_5 (mk_ix hkl).1.1 (mk_ix hkl).1.2 dX5_init_180 (fun H locs I => ?_)
        have I := mI_5 I
        rw [bx_uu] at I
        refine lv_aload_n hx hb dX5_init_181 rfl (lv_at hl 0 rfl) ?_
        refine g_get S hK I k_X5 (v := .ref (ad 5)) (g_at.of mG_obj) 5 (by decide) q2957 rfl rfl dX5_init_182 ?_
        refine lv_bipush (v := 125) hx hb dX5_init_185 (by decide) ?_
        refine lv_iconst (v := 3) hx hb dX5_init_187 (by decide) ?_
        refine lv_iload_n hx hb dX5_init_188 rfl (lv_at hl 1 rfl) ?_
        refine lv_imul hx hb dX5_init_189 ?_
        refine lv_iadd hx hb dX5_init_190 ?_
        refine lv_iconst (v := 2) hx hb dX5_init_191 (by decide) ?_
        refine lv_iadd hx hb dX5_init_192 ?_
        refine lv_bipush (v := 20) hx hb dX5_init_193 (by decide) ?_
        refine m_iast S hK I (f := (upd (mkN k) (125 + 3 * k) (-1))) (k := (125 + 3 * k + 2)) mG_5 (mk_ix hkl).2.1 (mk_ix hkl).2.2 dX5_init_195 (fun H locs I => ?_)
        have I := mI_5 I
        rw [bx_uu] at I
        refine lv_iinc (v := nI (k + 1)) (lv' := [(1, .int (nI (k + 1))), (0, .ref mo)]) hx hb dX5_init_196 hl (k := 1) rfl (nI_1 k) (by decide) rfl (fun ls hl => ?_)
        refine lv_goto (tgt := 164) hx hb dX5_init_199 (by decide) ?_
        exact ih (k + 1) hkl (by omega) _ _ _ I (lv_sub hl [1, 0] rfl)
  exact L_164 _ 0 (Nat.zero_le _) (Nat.lt_succ_self _) _ _ _ I (lv_sub hl [1, 0] rfl)


/-! THE JDK: ArrayList, ArrayDeque, List.of, Throwable's constructor, Integer.bitCount, Math.min -/
set_option maxRecDepth 100000
/-- what may be stored into an Object[] -/
def g_st (Γ : g_C) (ph : g_H) (v : Nat) : Prop := (∃ (ci : Nat) (r : vw_C) (fs : List Value), vwCl[ci]? = some r ∧ Cond.castable r.1 "java/lang/Object" ∈ lw_tbl ∧ g_at Γ ph v (.inr (ci, fs))) ∨ ∃ n, n < 128 ∧ v = g_bx Γ n
theorem g_st.of {Γ : g_C} {ph : g_H} {v j i ci : Nat} {r : vw_C} {fs : List Value} (h1 : vwCl[ci]? = some r) (h2 : Cond.castable r.1 "java/lang/Object" ∈ lw_tbl) (h3 : ph j i v = some (.inr (ci, fs))) : g_st Γ ph v := Or.inl ⟨ci, r, fs, h1, h2, Or.inl ⟨j, i, h3⟩⟩
section ST
variable {p : Program} {l : Launch} {e : Env} {R : Room} {s : State} {m : MethodId} {args : Array Value} {below : List Frame} {meth : Method} {c : Code} {H : Heap} {locs : List Loc} {cells slots : Nat} {Q : State → Prop}
variable {cc : ByteArray} {pc : Nat} {ls : Array Slot} {rest : List Value} {Γ : g_C} {ph : g_H} {a nL : Nat} {own : String}
theorem g_st.recv {v : Nat} (h : g_st Γ ph v) (hK : g_K Γ s) (I : g_I Γ ph s H locs) : ∃ C, Cond.castable C "java/lang/Object" ∈ lw_tbl ∧ ∃ cell : Cell, H[v]? = some cell ∧ cell.vm.isStatics = false ∧ s.vm.findClass C = some cell.cls := by
  rcases h with ⟨ci, r, fs, h1, h2, h3⟩ | ⟨n, hn, rfl⟩
  · exact ⟨r.1, h2, g_recv hK I h3 h1⟩
  · exact ⟨_, q3587, g_recvB hK I hn⟩
theorem o_aastO (S : CallFix p m c cc nL s args lw_all own) (hK : g_K Γ s) (I : g_I Γ ph s H locs) {j i n k v : Nat} {f : Nat → Option Nat} {x : Int32} (ha : ph j i a = some (.inl (g_t Γ 7, n, .inr (.inr (.inr (.inr f)))))) (hv : g_st Γ ph v) (hin : vp_in x n) (hk : x.toNatClampNeg = k) (hdg : decode cc pc = .ok (.aastore, 1))
    (kk : ∀ (H1 : Heap) (locs1 : List Loc), g_I Γ (gput ph j i a (.inl (g_t Γ 7, n, .inr (.inr (.inr (.inr (va_up f k (some v)))))))) s H1 locs1 → W p l e R s m args below meth c H1 locs1 cells slots Q (F0 m (pc + 1) ls rest)) : W p l e R s m args below meth c H locs cells slots Q (F0 m pc ls (.ref v :: .int x :: .ref a :: rest)) := by
  obtain ⟨C, hc, hr⟩ := hv.recv hK I
  subst hk
  exact g_aast S hK I 7 rfl ha hr hc hin hdg kk
theorem o_aastN (S : CallFix p m c cc nL s args lw_all own) (hK : g_K Γ s) (I : g_I Γ ph s H locs) {j i n k : Nat} {f : Nat → Option Nat} {x : Int32} (ha : ph j i a = some (.inl (g_t Γ 7, n, .inr (.inr (.inr (.inr f)))))) (hin : vp_in x n) (hk : x.toNatClampNeg = k) (hdg : decode cc pc = .ok (.aastore, 1))
    (kk : ∀ (H1 : Heap) (locs1 : List Loc), g_I Γ (gput ph j i a (.inl (g_t Γ 7, n, .inr (.inr (.inr (.inr (va_up f k none))))))) s H1 locs1 → W p l e R s m args below meth c H1 locs1 cells slots Q (F0 m (pc + 1) ls rest)) : W p l e R s m args below meth c H locs cells slots Q (F0 m pc ls (.null :: .int x :: .ref a :: rest)) := by
  subst hk
  exact g_aastN S hK I 7 rfl ha hin hdg kk
end ST
theorem ad_inc : ∀ x, x < 17 → (if nI x + 1 < 17 then nI x + 1 else 0) = nI ((x + 1) % 17) := by decide
theorem ad_dec : ∀ x, x < 17 → (if 0 ≤ nI x + (-1) then nI x + (-1) else 17 - 1) = nI ((x + 16) % 17) := by decide
/-- an ArrayDeque at q of part j, its array at d of part jd: n items from place h on -/
def g_AD (Γ : g_C) (ph : g_H) (j i q jd d h n : Nat) (it : Nat → Nat) : Prop := ∃ f : Nat → Option Nat, ph j i q = some (.inr (25, [.ref d, .int (nI h), .int (nI ((h + n) % 17))])) ∧ ph jd i d = some (.inl (g_t Γ 7, 17, .inr (.inr (.inr (.inr f))))) ∧ (∀ t, t < n → f ((h + t) % 17) = some (it t)) ∧ h < 17 ∧ n < 17
theorem g_AD.fr {Γ : g_C} {ph ph' : g_H} {j i q jd d h n : Nat} {it : Nat → Nat} (hA : g_AD Γ ph j i q jd d h n it) (h1 : ph' j i = ph j i) (h2 : ph' jd i = ph jd i) : g_AD Γ ph' j i q jd d h n it := by
  obtain ⟨f, a1, a2, a3⟩ := hA
  exact ⟨f, by rw [h1]; exact a1, by rw [h2]; exact a2, a3⟩
theorem ad_put {f : Nat → Option Nat} {it : Nat → Nat} {h n t v : Nat} (hf : ∀ t, t < n → f ((h + t) % 17) = some (it t)) (ht : (h + n) % 17 = t) (hn : n + 1 < 17) : ∀ k, k < n + 1 → va_up f t (some v) ((h + k) % 17) = some (va_up it n v k) := by
  intro k hk
  by_cases e : k = n
  · subst e
    rw [ht, va_up_s, va_up_s]
  · rw [va_up_n (by omega), va_up_n e]
    exact hf k (by omega)
theorem ad_size {h n : Nat} (h1 : h < 17) (h2 : n < 17) : (if nI ((h + n) % 17) - nI h < 0 then nI ((h + n) % 17) - nI h + nI 17 else nI ((h + n) % 17) - nI h) = nI n := by
  have H : ∀ h, h < 17 → ∀ n, n < 17 → (if Int32.ofNat ((h + n) % 17) - Int32.ofNat h < 0 then Int32.ofNat ((h + n) % 17) - Int32.ofNat h + Int32.ofNat 17 else Int32.ofNat ((h + n) % 17) - Int32.ofNat h) = Int32.ofNat n := by decide +kernel
  exact H h h1 n h2
theorem ad_empty {h n : Nat} (h1 : h < 17) (h2 : n < 17) : decide (nI h = nI ((h + n) % 17)) = decide (n = 0) := by
  apply decide_eq_decide.mpr
  constructor
  · intro e
    have := nI_inj (by omega) (by omega) e
    omega
  · rintro rfl
    rw [Nat.add_zero, Nat.mod_eq_of_lt h1]
set_option maxHeartbeats 4000000 in
set_option maxRecDepth 100000 in
theorem met_J7_init_20 (l : Launch) (Γ : g_C) (ph : g_H) (j i q jd : Nat)   (hq : ph j i q = some (.inr (21, [.int 0, .null, .int 0]))) (hj : j ≠ jd) : g_Met l yJ7_init (ws_ yJ7_init cJ7_init 2 none) (g_rm 3 1 20) Γ [.ref q, .int 20] (ph) (g_ov (fun ph' => ∃ d, ph' j i q = some (.inr (21, [.int 0, .ref d, .int 0])) ∧ ph' jd i d = some (.inl (g_t Γ 7, 20, .inr (.inr (.inr (.inr (fun _ => none)))))) ∧ g_fr [(j, i), (jd, i)] ph ph')) g_no := by
  refine g_start (y := yJ7_init) (cc := cJ7_init) (maxL := 2) (ret := none) (rm := g_rm 3 1 20) (by decide) (Nat.le_of_ble_eq_true rfl) ?_
  intro p e s m A below meth c ls Q hQ S hr hlk hex hnm hK I hl
  have hx := S.1
  have hb := S.2.1
  have hown := S.2.2.2.1
  have hts := S.2.2.2.2
  have S : CallFix p m c cJ7_init 2 s A lw_all "java/util/ArrayList" := S
  have hl : lv_has ls 2 [(0, .ref q), (1, .int 20)] := hl
  refine lv_aload_n hx hb dJ7_init_0 rfl (lv_at hl 0 rfl) ?_
  refine g_cv (g_runI S hK I (As := []) (rest := []) (met_J6_init l Γ ph j i q 0 0 0 .null hq) (cwI 0 hts (lw_meth q268) rfl rfl rfl (hts _ q129) (hts _ q266) (hts _ q267) rfl (by decide +kernel) ⟨Nat.le_of_ble_eq_true rfl, Nat.le_of_ble_eq_true rfl⟩) rfl hl.1 rfl (Nat.le_of_ble_eq_true rfl) dJ7_init_1 ⟨Nat.le_of_ble_eq_true rfl, Nat.le_of_ble_eq_true rfl⟩) I (fun ph1 H locs hp I => ?_)
  rw [hp] at I
  have I : g_I Γ (gput ph j i q (.inr (21, [.int 0, .null, .int 0]))) s _ _ := I
  refine lv_iload_n hx hb dJ7_init_4 rfl (lv_at hl 1 rfl) ?_
  refine lv_if_le (tgt := 19) hx hb dJ7_init_5 (by decide) (fun c_5 => absurd c_5 ((by decide))) (fun _ => ?_)
  refine lv_aload_n hx hb dJ7_init_8 rfl (lv_at hl 0 rfl) ?_
  refine lv_iload_n hx hb dJ7_init_9 rfl (lv_at hl 1 rfl) ?_
  refine g_newq S hK I jd i 7 0 rfl rfl q270 (N' := 20) (by decide) (by decide) (Nat.le_of_ble_eq_true rfl) (Nat.le_of_ble_eq_true rfl) (Nat.le_of_ble_eq_true rfl) dJ7_init_10 (fun d H hfd I => ?_)
  have I : g_I Γ (gput (gput ph j i q (.inr (21, [.int 0, .null, .int 0]))) jd i d (.inl (g_t Γ 7, 20, .inr (.inr (.inr (.inr (fun _ => none))))))) s _ _ := I
  refine g_put S hK I k_J7 (v := .ref d) ((g_oj hj).trans (gput_self _ _ _ _ _)) 1 (by decide) q595 rfl rfl rfl rfl (Nat.le_of_ble_eq_true rfl) dJ7_init_13 (fun H locs I => ?_)
  have I : g_I Γ (gput (gput (gput ph j i q (.inr (21, [.int 0, .null, .int 0]))) jd i d (.inl (g_t Γ 7, 20, .inr (.inr (.inr (.inr (fun _ => none))))))) j i q (.inr (21, [.int 0, .ref d, .int 0]))) s _ _ := I
  refine lv_goto (tgt := 60) hx hb dJ7_init_16 (by decide) ?_
  exact g_vret S hr hlk I dJ7_init_60 (Nat.le_of_ble_eq_true rfl) (Nat.le_of_ble_eq_true rfl) hQ ⟨rfl, ⟨d, (gput_self _ _ _ _ _), ((g_oj (Ne.symm hj)).trans (gput_self _ _ _ _ _)), (g_fr.put (g_fr.put (g_fr.put (g_fr.refl _ _) (by simp)) (by simp)) (by simp))⟩⟩

set_option maxHeartbeats 4000000 in
set_option maxRecDepth 100000 in
theorem met_J7_init_4 (l : Launch) (Γ : g_C) (ph : g_H) (j i q jd : Nat)   (hq : ph j i q = some (.inr (21, [.int 0, .null, .int 0]))) (hj : j ≠ jd) : g_Met l yJ7_init (ws_ yJ7_init cJ7_init 2 none) (g_rm 3 1 4) Γ [.ref q, .int 4] (ph) (g_ov (fun ph' => ∃ d, ph' j i q = some (.inr (21, [.int 0, .ref d, .int 0])) ∧ ph' jd i d = some (.inl (g_t Γ 7, 4, .inr (.inr (.inr (.inr (fun _ => none)))))) ∧ g_fr [(j, i), (jd, i)] ph ph')) g_no := by
  refine g_start (y := yJ7_init) (cc := cJ7_init) (maxL := 2) (ret := none) (rm := g_rm 3 1 4) (by decide) (Nat.le_of_ble_eq_true rfl) ?_
  intro p e s m A below meth c ls Q hQ S hr hlk hex hnm hK I hl
  have hx := S.1
  have hb := S.2.1
  have hown := S.2.2.2.1
  have hts := S.2.2.2.2
  have S : CallFix p m c cJ7_init 2 s A lw_all "java/util/ArrayList" := S
  have hl : lv_has ls 2 [(0, .ref q), (1, .int 4)] := hl
  refine lv_aload_n hx hb dJ7_init_0 rfl (lv_at hl 0 rfl) ?_
  refine g_cv (g_runI S hK I (As := []) (rest := []) (met_J6_init l Γ ph j i q 0 0 0 .null hq) (cwI 0 hts (lw_meth q268) rfl rfl rfl (hts _ q129) (hts _ q266) (hts _ q267) rfl (by decide +kernel) ⟨Nat.le_of_ble_eq_true rfl, Nat.le_of_ble_eq_true rfl⟩) rfl hl.1 rfl (Nat.le_of_ble_eq_true rfl) dJ7_init_1 ⟨Nat.le_of_ble_eq_true rfl, Nat.le_of_ble_eq_true rfl⟩) I (fun ph1 H locs hp I => ?_)
  rw [hp] at I
  have I : g_I Γ (gput ph j i q (.inr (21, [.int 0, .null, .int 0]))) s _ _ := I
  refine lv_iload_n hx hb dJ7_init_4 rfl (lv_at hl 1 rfl) ?_
  refine lv_if_le (tgt := 19) hx hb dJ7_init_5 (by decide) (fun c_5 => absurd c_5 ((by decide))) (fun _ => ?_)
  refine lv_aload_n hx hb dJ7_init_8 rfl (lv_at hl 0 rfl) ?_
  refine lv_iload_n hx hb dJ7_init_9 rfl (lv_at hl 1 rfl) ?_
  refine g_newq S hK I jd i 7 0 rfl rfl q270 (N' := 4) (by decide) (by decide) (Nat.le_of_ble_eq_true rfl) (Nat.le_of_ble_eq_true rfl) (Nat.le_of_ble_eq_true rfl) dJ7_init_10 (fun d H hfd I => ?_)
  have I : g_I Γ (gput (gput ph j i q (.inr (21, [.int 0, .null, .int 0]))) jd i d (.inl (g_t Γ 7, 4, .inr (.inr (.inr (.inr (fun _ => none))))))) s _ _ := I
  refine g_put S hK I k_J7 (v := .ref d) ((g_oj hj).trans (gput_self _ _ _ _ _)) 1 (by decide) q595 rfl rfl rfl rfl (Nat.le_of_ble_eq_true rfl) dJ7_init_13 (fun H locs I => ?_)
  have I : g_I Γ (gput (gput (gput ph j i q (.inr (21, [.int 0, .null, .int 0]))) jd i d (.inl (g_t Γ 7, 4, .inr (.inr (.inr (.inr (fun _ => none))))))) j i q (.inr (21, [.int 0, .ref d, .int 0]))) s _ _ := I
  refine lv_goto (tgt := 60) hx hb dJ7_init_16 (by decide) ?_
  exact g_vret S hr hlk I dJ7_init_60 (Nat.le_of_ble_eq_true rfl) (Nat.le_of_ble_eq_true rfl) hQ ⟨rfl, ⟨d, (gput_self _ _ _ _ _), ((g_oj (Ne.symm hj)).trans (gput_self _ _ _ _ _)), (g_fr.put (g_fr.put (g_fr.put (g_fr.refl _ _) (by simp)) (by simp)) (by simp))⟩⟩

set_option maxHeartbeats 4000000 in
set_option maxRecDepth 100000 in
theorem met_J7_add_2 (l : Launch) (Γ : g_C) (ph : g_H) (j i q jd d v N n : Nat) (mc : Int32) (f : Nat → Option Nat)   (hq : ph j i q = some (.inr (21, [.int mc, .ref d, .int (nI n)]))) (hd : ph jd i d = some (.inl (g_t Γ 7, N, .inr (.inr (.inr (.inr f)))))) (hj : j ≠ jd) (hv : g_st Γ ph v) (hnN : n < N) (hN : N < 2 ^ 31) : g_Met l yJ7_add_2 (ws_ yJ7_add_2 cJ7_add_2 4 none) (g_rm 1 0 0) Γ [.ref q, .ref v, .ref d, .int (nI n)] (ph) (g_ov (fun ph' => ph' = gput (gput ph jd i d (.inl (g_t Γ 7, N, .inr (.inr (.inr (.inr (va_up f n (some v)))))))) j i q (.inr (21, [.int mc, .ref d, .int (nI (n + 1))])))) g_no := by
  refine g_start (y := yJ7_add_2) (cc := cJ7_add_2) (maxL := 4) (ret := none) (rm := g_rm 1 0 0) (by decide) (Nat.le_of_ble_eq_true rfl) ?_
  intro p e s m A below meth c ls Q hQ S hr hlk hex hnm hK I hl
  have hx := S.1
  have hb := S.2.1
  have hown := S.2.2.2.1
  have hts := S.2.2.2.2
  have S : CallFix p m c cJ7_add_2 4 s A lw_all "java/util/ArrayList" := S
  have hl : lv_has ls 4 [(0, .ref q), (1, .ref v), (2, .ref d), (3, .int (nI n))] := hl
  refine lv_iload_n hx hb dJ7_add_2_0 rfl (lv_at hl 3 rfl) ?_
  refine lv_aload_n hx hb dJ7_add_2_1 rfl (lv_at hl 2 rfl) ?_
  refine g_alen S hK I (g_at.of hd) rfl (v := (nI N)) rfl dJ7_add_2_2 ?_
  refine lv_icmp_ne (tgt := 11) hx hb dJ7_add_2_3 (by decide) (fun c_3 => ?_) (fun c_3 => ?_)
  · refine lv_aload_n hx hb dJ7_add_2_11 rfl (lv_at hl 2 rfl) ?_
    refine lv_iload_n hx hb dJ7_add_2_12 rfl (lv_at hl 3 rfl) ?_
    refine lv_aload_n hx hb dJ7_add_2_13 rfl (lv_at hl 1 rfl) ?_
    refine o_aastO S hK I (f := f) (k := n) hd hv (vp_in_nI hnN hN) (nI_clamp (by omega)) dJ7_add_2_14 (fun H locs I => ?_)
    have I : g_I Γ (gput ph jd i d (.inl (g_t Γ 7, N, .inr (.inr (.inr (.inr (va_up f n (some v)))))))) s _ _ := I
    refine lv_aload_n hx hb dJ7_add_2_15 rfl (lv_at hl 0 rfl) ?_
    refine lv_iload_n hx hb dJ7_add_2_16 rfl (lv_at hl 3 rfl) ?_
    refine lv_iconst (v := 1) hx hb dJ7_add_2_17 (by decide) ?_
    refine lv_iadd hx hb dJ7_add_2_18 ?_
    rw [nI_1]
    refine g_put S hK I k_J7 (v := .int (nI (n + 1))) ((g_oj hj).trans hq) 2 (by decide) q598 rfl rfl rfl rfl (Nat.le_of_ble_eq_true rfl) dJ7_add_2_19 (fun H locs I => ?_)
    have I : g_I Γ (gput (gput ph jd i d (.inl (g_t Γ 7, N, .inr (.inr (.inr (.inr (va_up f n (some v)))))))) j i q (.inr (21, [.int mc, .ref d, .int (nI (n + 1))]))) s _ _ := I
    exact g_vret S hr hlk I dJ7_add_2_22 (Nat.le_of_ble_eq_true rfl) (Nat.le_of_ble_eq_true rfl) hQ ⟨rfl, rfl⟩
  · exact absurd (nI_inj (by omega) hN c_3) (by omega)

theorem g_st.put {Γ : g_C} {ph : g_H} {v j i q ci : Nat} {fs fs' : List Value} (h : g_st Γ ph v) (hq : ph j i q = some (.inr (ci, fs'))) : g_st Γ (gput ph j i q (.inr (ci, fs))) v := by
  rcases h with ⟨ci', r, fs1, h1, h2, h3⟩ | h
  · refine Or.inl ?_
    rcases h3 with ⟨j', i', h3⟩ | h3
    · by_cases e : j' = j ∧ i' = i ∧ v = q
      · obtain ⟨rfl, rfl, rfl⟩ := e
        cases hq.symm.trans h3
        exact ⟨ci, r, fs, h1, h2, Or.inl ⟨_, _, gput_self _ _ _ _ _⟩⟩
      · refine ⟨ci', r, fs1, h1, h2, Or.inl ⟨j', i', ?_⟩⟩
        unfold gput gset
        by_cases e1 : j' = j
        · subst e1
          by_cases e2 : i' = i
          · subst e2
            rw [if_pos rfl, if_pos rfl, pput_ne _ _ (fun z => e ⟨rfl, rfl, z⟩)]
            exact h3
          · rw [if_pos rfl, if_neg e2]; exact h3
        · rw [if_neg e1]; exact h3
    · exact ⟨ci', r, fs1, h1, h2, Or.inr h3⟩
  · exact Or.inr h
theorem g_st.fr {Γ : g_C} {ph ph' : g_H} {v : Nat} (h : g_st Γ ph v) (hf : ∀ j i a e, ph j i a = some e → ph' j i a = some e) : g_st Γ ph' v := by
  rcases h with ⟨ci', r, fs1, h1, h2, h3⟩ | h
  · refine Or.inl ⟨ci', r, fs1, h1, h2, ?_⟩
    rcases h3 with ⟨j', i', h3⟩ | h3
    · exact Or.inl ⟨j', i', hf _ _ _ _ h3⟩
    · exact Or.inr h3
  · exact Or.inr h
set_option maxHeartbeats 4000000 in
set_option maxRecDepth 100000 in
theorem met_J7_add (l : Launch) (Γ : g_C) (ph : g_H) (j i q jd d v N n : Nat) (mc : Int32) (f : Nat → Option Nat)   (hq : ph j i q = some (.inr (21, [.int mc, .ref d, .int (nI n)]))) (hd : ph jd i d = some (.inl (g_t Γ 7, N, .inr (.inr (.inr (.inr f)))))) (hj : j ≠ jd) (hv : g_st Γ ph v) (hnN : n < N) (hN : N < 2 ^ 31) : g_Met l yJ7_add (ws_ yJ7_add cJ7_add 2 (some .boolean)) (g_rm 2 0 0) Γ [.ref q, .ref v] (ph) (g_oi (fun rv_ ph' => rv_ = 1 ∧ ph' j i q = some (.inr (21, [.int (mc + 1), .ref d, .int (nI (n + 1))])) ∧ ph' jd i d = some (.inl (g_t Γ 7, N, .inr (.inr (.inr (.inr (va_up f n (some v))))))) ∧ g_fr [(j, i), (jd, i)] ph ph')) g_no := by
  refine g_start (y := yJ7_add) (cc := cJ7_add) (maxL := 2) (ret := (some .boolean)) (rm := g_rm 2 0 0) (by decide) (Nat.le_of_ble_eq_true rfl) ?_
  intro p e s m A below meth c ls Q hQ S hr hlk hex hnm hK I hl
  have hx := S.1
  have hb := S.2.1
  have hown := S.2.2.2.1
  have hts := S.2.2.2.2
  have S : CallFix p m c cJ7_add 2 s A lw_all "java/util/ArrayList" := S
  have hl : lv_has ls 2 [(0, .ref q), (1, .ref v)] := hl
  refine lv_aload_n hx hb dJ7_add_0 rfl (lv_at hl 0 rfl) ?_
  refine lv_dup hx hb dJ7_add_1 rfl ?_
  refine g_getU S hK I k_J7 (v := .int mc) (g_at.of hq) 0 (by decide) q606 q603 rfl dJ7_add_2 ?_
  refine lv_iconst (v := 1) hx hb dJ7_add_5 (by decide) ?_
  refine lv_iadd hx hb dJ7_add_6 ?_
  refine g_putU S hK I k_J7 (v := .int (mc + 1)) hq 0 (by decide) q606 q603 rfl rfl rfl (Nat.le_of_ble_eq_true rfl) dJ7_add_7 (fun H locs I => ?_)
  have I : g_I Γ (gput ph j i q (.inr (21, [.int (mc + 1), .ref d, .int (nI n)]))) s _ _ := I
  refine lv_aload_n hx hb dJ7_add_10 rfl (lv_at hl 0 rfl) ?_
  refine lv_aload_n hx hb dJ7_add_11 rfl (lv_at hl 1 rfl) ?_
  refine lv_aload_n hx hb dJ7_add_12 rfl (lv_at hl 0 rfl) ?_
  refine g_get S hK I k_J7 (v := .ref d) (g_at.of (gput_self _ _ _ _ _)) 1 (by decide) q595 rfl rfl dJ7_add_13 ?_
  refine lv_aload_n hx hb dJ7_add_16 rfl (lv_at hl 0 rfl) ?_
  refine g_get S hK I k_J7 (v := .int (nI n)) (g_at.of (gput_self _ _ _ _ _)) 2 (by decide) q598 rfl rfl dJ7_add_17 ?_
  refine g_cv (g_runV S hK I (As := [.ref v, .ref d, .int (nI n)]) (rest := []) (met_J7_add_2 l Γ (gput ph j i q (.inr (21, [.int (mc + 1), .ref d, .int (nI n)]))) j i q jd d v N n (mc + 1) f (gput_self _ _ _ _ _) ((g_oj (Ne.symm hj)).trans hd) hj (hv.put hq) hnN hN) (cwV 3 hts (lw_V q1534 q1536 qs9 q130 q1537) rfl rfl rfl (by decide +kernel) ⟨Nat.le_of_ble_eq_true rfl, Nat.le_of_ble_eq_true rfl⟩) (g_recv hK I (g_at.of (gput_self _ _ _ _ _)) (ci := 21) rfl) rfl hl.1 rfl (Nat.le_of_ble_eq_true rfl) dJ7_add_20 ⟨Nat.le_of_ble_eq_true rfl, Nat.le_of_ble_eq_true rfl⟩) I (fun ph1 H locs hp I => ?_)
  rw [hp] at I
  have I : g_I Γ (gput (gput (gput ph j i q (.inr (21, [.int (mc + 1), .ref d, .int (nI n)]))) jd i d (.inl (g_t Γ 7, N, .inr (.inr (.inr (.inr (va_up f n (some v)))))))) j i q (.inr (21, [.int (mc + 1), .ref d, .int (nI (n + 1))]))) s _ _ := I
  refine lv_iconst (v := 1) hx hb dJ7_add_23 (by decide) ?_
  exact g_zret S hr hlk I rfl dJ7_add_24 (Nat.le_of_ble_eq_true rfl) (Nat.le_of_ble_eq_true rfl) hQ ⟨_, rfl, ⟨rfl, (gput_self _ _ _ _ _), ((g_oj (Ne.symm hj)).trans (gput_self _ _ _ _ _)), (g_fr.put (g_fr.put (g_fr.put (g_fr.refl _ _) (by simp)) (by simp)) (by simp))⟩⟩

set_option maxHeartbeats 4000000 in
set_option maxRecDepth 100000 in
theorem met_J25_init (l : Launch) (Γ : g_C) (ph : g_H) (j i q jd : Nat) (it : Nat → Nat)   (hq : ph j i q = some (.inr (25, [.null, .int 0, .int 0]))) (hj : j ≠ jd) : g_Met l yJ25_init (ws_ yJ25_init cJ25_init 1 none) (g_rm 2 1 17) Γ [.ref q] (ph) (g_ov (fun ph' => ∃ d, g_AD Γ ph' j i q jd d 0 0 it ∧ g_fr [(j, i), (jd, i)] ph ph')) g_no := by
  refine g_start (y := yJ25_init) (cc := cJ25_init) (maxL := 1) (ret := none) (rm := g_rm 2 1 17) (by decide) (Nat.le_of_ble_eq_true rfl) ?_
  intro p e s m A below meth c ls Q hQ S hr hlk hex hnm hK I hl
  have hx := S.1
  have hb := S.2.1
  have hown := S.2.2.2.1
  have hts := S.2.2.2.2
  have S : CallFix p m c cJ25_init 1 s A lw_all "java/util/ArrayDeque" := S
  have hl : lv_has ls 1 [(0, .ref q)] := hl
  refine lv_aload_n hx hb dJ25_init_0 rfl (lv_at hl 0 rfl) ?_
  refine g_cv (g_runI S hK I (As := []) (rest := []) (met_J1_init l Γ ph q) (cwI 0 hts (lw_meth q245) rfl rfl rfl (hts _ q124) (hts _ q709) (hts _ q244) rfl (by decide +kernel) ⟨Nat.le_of_ble_eq_true rfl, Nat.le_of_ble_eq_true rfl⟩) rfl hl.1 rfl (Nat.le_of_ble_eq_true rfl) dJ25_init_1 ⟨Nat.le_of_ble_eq_true rfl, Nat.le_of_ble_eq_true rfl⟩) I (fun ph1 H locs hp I => ?_)
  rw [hp] at I
  refine lv_aload_n hx hb dJ25_init_4 rfl (lv_at hl 0 rfl) ?_
  refine lv_bipush (v := 17) hx hb dJ25_init_5 (by decide) ?_
  refine g_newq S hK I jd i 7 0 rfl rfl q710 (N' := 17) (by decide) (by decide) (Nat.le_of_ble_eq_true rfl) (Nat.le_of_ble_eq_true rfl) (Nat.le_of_ble_eq_true rfl) dJ25_init_7 (fun d H hfd I => ?_)
  have I : g_I Γ (gput ph jd i d (.inl (g_t Γ 7, 17, .inr (.inr (.inr (.inr (fun _ => none))))))) s _ _ := I
  refine g_put S hK I k_J25 (v := .ref d) ((g_oj hj).trans hq) 0 (by decide) q711 rfl rfl rfl rfl (Nat.le_of_ble_eq_true rfl) dJ25_init_10 (fun H locs I => ?_)
  have I : g_I Γ (gput (gput ph jd i d (.inl (g_t Γ 7, 17, .inr (.inr (.inr (.inr (fun _ => none))))))) j i q (.inr (25, [.ref d, .int 0, .int 0]))) s _ _ := I
  exact g_vret S hr hlk I dJ25_init_13 (Nat.le_of_ble_eq_true rfl) (Nat.le_of_ble_eq_true rfl) hQ ⟨rfl, ⟨d, ⟨_, (gput_self _ _ _ _ _), ((g_oj (Ne.symm hj)).trans (gput_self _ _ _ _ _)), fun t ht => absurd ht (Nat.not_lt_zero _), by decide, by decide⟩, (g_fr.put (g_fr.put (g_fr.refl _ _) (by simp)) (by simp))⟩⟩

set_option maxHeartbeats 4000000 in
set_option maxRecDepth 100000 in
theorem met_J25_addLast (l : Launch) (Γ : g_C) (ph : g_H) (j i q jd d h n : Nat) (it : Nat → Nat) (v : Nat)   (hA : g_AD Γ ph j i q jd d h n it) (hj : j ≠ jd) (hv : g_st Γ ph v) (hn : n + 1 < 17) : g_Met l yJ25_addLast (ws_ yJ25_addLast cJ25_addLast 3 none) (g_rm 2 0 0) Γ [.ref q, .ref v] (ph) (g_ov (fun ph' => g_AD Γ ph' j i q jd d h (n + 1) (va_up it n v) ∧ g_fr [(j, i), (jd, i)] ph ph')) g_no := by
  refine g_start (y := yJ25_addLast) (cc := cJ25_addLast) (maxL := 3) (ret := none) (rm := g_rm 2 0 0) (by decide) (Nat.le_of_ble_eq_true rfl) ?_
  intro p e s m A below meth c ls Q hQ S hr hlk hex hnm hK I hl
  have hx := S.1
  have hb := S.2.1
  have hown := S.2.2.2.1
  have hts := S.2.2.2.2
  have S : CallFix p m c cJ25_addLast 3 s A lw_all "java/util/ArrayDeque" := S
  have hl : lv_has ls 3 [(0, .ref q), (1, .ref v)] := hl
  obtain ⟨f, hq, hd, hf, h17, n17⟩ := hA
  generalize ht : (h + n) % 17 = t at hq
  have t17 : t < 17 := by omega
  refine lv_aload_n hx hb dJ25_addLast_0 rfl (lv_at hl 1 rfl) ?_
  refine lv_ifnonnull (tgt := 12) hx hb dJ25_addLast_1 (by decide) ?_
  refine lv_aload_n hx hb dJ25_addLast_12 rfl (lv_at hl 0 rfl) ?_
  refine g_get S hK I k_J25 (v := .ref d) (g_at.of hq) 0 (by decide) q711 rfl rfl dJ25_addLast_13 ?_
  refine lv_astore_n (lv' := [(2, .ref d), (0, .ref q), (1, .ref v)]) hx hb dJ25_addLast_16 rfl hl (by decide) rfl (fun ls hl => ?_)
  refine lv_aload_n hx hb dJ25_addLast_17 rfl (lv_at hl 0 rfl) ?_
  refine lv_aload_n hx hb dJ25_addLast_18 rfl (lv_at hl 1 rfl) ?_
  refine g_get S hK I k_J25 (v := .int (nI t)) (g_at.of hq) 2 (by decide) q713 rfl rfl dJ25_addLast_19 ?_
  refine lv_aload_n hx hb dJ25_addLast_22 rfl (lv_at hl 2 rfl) ?_
  refine o_aastO S hK I (f := f) (k := t) hd hv (vp_in_nI (by omega) (by decide)) (nI_clamp (by omega)) dJ25_addLast_23 (fun H locs I => ?_)
  have I : g_I Γ (gput ph jd i d (.inl (g_t Γ 7, 17, .inr (.inr (.inr (.inr (va_up f t (some v)))))))) s _ _ := I
  refine lv_aload_n hx hb dJ25_addLast_24 rfl (lv_at hl 1 rfl) ?_
  refine g_get S hK I k_J25 (v := .int (nI h)) (g_at.of ((g_oj hj).trans hq)) 1 (by decide) q712 rfl rfl dJ25_addLast_25 ?_
  refine lv_aload_n hx hb dJ25_addLast_28 rfl (lv_at hl 1 rfl) ?_
  refine lv_aload_n hx hb dJ25_addLast_29 rfl (lv_at hl 1 rfl) ?_
  refine g_get S hK I k_J25 (v := .int (nI t)) (g_at.of ((g_oj hj).trans hq)) 2 (by decide) q713 rfl rfl dJ25_addLast_30 ?_
  refine lv_aload_n hx hb dJ25_addLast_33 rfl (lv_at hl 0 rfl) ?_
  refine g_alen S hK I (g_at.of (gput_self _ _ _ _ _)) rfl (v := (17 : Int32)) rfl dJ25_addLast_34 ?_
  refine g_ci (g_runS S hK I (As := [.int (nI t), .int 17]) (rest := [.ref q, .int (nI h)]) (met_J25_inc l Γ (gput ph jd i d (.inl (g_t Γ 7, 17, .inr (.inr (.inr (.inr (va_up f t (some v)))))))) (nI t) 17) (va_cwS 2 hts (lw_S q1737 q1738 q150 q1739) rfl rfl rfl (by decide +kernel) ⟨Nat.le_of_ble_eq_true rfl, Nat.le_of_ble_eq_true rfl⟩) rfl hl.1 rfl (Nat.le_of_ble_eq_true rfl) dJ25_addLast_35 ⟨Nat.le_of_ble_eq_true rfl, Nat.le_of_ble_eq_true rfl⟩) I (fun r_35 ph1 H locs hp I => ?_)
  obtain ⟨hp, hph⟩ := hp
  rw [hph] at I
  have hp : r_35 = (if (nI t) + 1 < 17 then (nI t) + 1 else 0) := hp
  rw [hp]
  rw [ad_inc t t17]
  refine lv_dup_x1 hx hb dJ25_addLast_38 rfl rfl ?_
  refine g_put S hK I k_J25 (v := .int (nI ((t + 1) % 17))) ((g_oj hj).trans hq) 2 (by decide) q713 rfl rfl rfl rfl (Nat.le_of_ble_eq_true rfl) dJ25_addLast_39 (fun H locs I => ?_)
  have I : g_I Γ (gput (gput ph jd i d (.inl (g_t Γ 7, 17, .inr (.inr (.inr (.inr (va_up f t (some v)))))))) j i q (.inr (25, [.ref d, .int (nI h), .int (nI ((t + 1) % 17))]))) s _ _ := I
  refine lv_icmp_ne (tgt := 50) hx hb dJ25_addLast_42 (by decide) (fun c_42 => ?_) (fun c_42 => ?_)
  · exact g_vret S hr hlk I dJ25_addLast_50 (Nat.le_of_ble_eq_true rfl) (Nat.le_of_ble_eq_true rfl) hQ ⟨rfl, ⟨⟨_, by rw [show (h + (n + 1)) % 17 = (t + 1) % 17 by omega]; exact (gput_self _ _ _ _ _), ((g_oj (Ne.symm hj)).trans (gput_self _ _ _ _ _)), ad_put hf ht hn, h17, hn⟩, (g_fr.put (g_fr.put (g_fr.refl _ _) (by simp)) (by simp))⟩⟩
  · exact absurd (nI_inj (by omega) (by omega) c_42) (by omega)

theorem met_J25_isEmptyA (l : Launch) (Γ : g_C) (ph : g_H) (j i q jd d h n : Nat) (it : Nat → Nat)  (hA : g_AD Γ ph j i q jd d h n it) : g_Met l yJ25_isEmpty (ws_ yJ25_isEmpty cJ25_isEmpty 1 (some .boolean)) (g_rm 1 0 0) Γ [.ref q] ph (g_oi (fun rv_ ph' => rv_ = b2i (decide (n = 0)) ∧ ph' = ph)) g_no := by
  obtain ⟨f, hq, hd, hf, h17, n17⟩ := hA
  have h := met_J25_isEmpty l Γ ph j i q d (nI h) (nI ((h + n) % 17)) hq
  rw [ad_empty h17 n17] at h
  exact h
theorem met_J25_sizeA (l : Launch) (Γ : g_C) (ph : g_H) (j i q jd d h n : Nat) (it : Nat → Nat)  (hA : g_AD Γ ph j i q jd d h n it) : g_Met l yJ25_size (ws_ yJ25_size cJ25_size 1 (some .int)) (g_rm 2 0 0) Γ [.ref q] ph (g_oi (fun rv_ ph' => rv_ = nI n ∧ ph' = ph)) g_no := by
  obtain ⟨f, hq, hd, hf, h17, n17⟩ := hA
  have h := met_J25_size l Γ ph j i q jd i d (nI h) (nI ((h + n) % 17)) 17 f hq hd
  rw [ad_size h17 n17] at h
  exact h
set_option maxHeartbeats 4000000 in
set_option maxRecDepth 100000 in
theorem met_J25_elementAt (l : Launch) (Γ : g_C) (ph : g_H) (j i d : Nat) (x : Int32) (N : Nat) (f : Nat → Option Nat) (v : Nat)  (hd : ph j i d = some (.inl (g_t Γ 7, N, .inr (.inr (.inr (.inr f)))))) (hin : vp_in x N) (hv : f x.toNatClampNeg = some v) : g_Met l yJ25_elementAt (ws_ yJ25_elementAt cJ25_elementAt 2 (some (.object "java/lang/Object"))) (g_rm 1 0 0) Γ [.ref d, .int x] (ph) (g_or (fun rv_ ph' => rv_ = v ∧ ph' = ph)) g_no := by
  refine g_start (y := yJ25_elementAt) (cc := cJ25_elementAt) (maxL := 2) (ret := (some (.object "java/lang/Object"))) (rm := g_rm 1 0 0) (by decide) (Nat.le_of_ble_eq_true rfl) ?_
  intro p e s m A below meth c ls Q hQ S hr hlk hex hnm hK I hl
  have hx := S.1
  have hb := S.2.1
  have hown := S.2.2.2.1
  have hts := S.2.2.2.2
  have S : CallFix p m c cJ25_elementAt 2 s A lw_all "java/util/ArrayDeque" := S
  have hl : lv_has ls 2 [(0, .ref d), (1, .int x)] := hl
  refine lv_aload_n hx hb dJ25_elementAt_0 rfl (lv_at hl 0 rfl) ?_
  refine lv_iload_n hx hb dJ25_elementAt_1 rfl (lv_at hl 1 rfl) ?_
  refine o_aald S hK I 7 rfl (f := f) (k := x.toNatClampNeg) (g_at.of hd) hin rfl dJ25_elementAt_2 ?_
  rw [hv]
  exact g_aret S hr (Or.inl ⟨_, rfl⟩) hlk I dJ25_elementAt_3 (Nat.le_of_ble_eq_true rfl) (Nat.le_of_ble_eq_true rfl) hQ ⟨_, rfl, rfl, rfl⟩

set_option maxHeartbeats 4000000 in
set_option maxRecDepth 100000 in
theorem met_J25_pollFirst (l : Launch) (Γ : g_C) (ph : g_H) (j i q jd d h n : Nat) (it : Nat → Nat)   (hA : g_AD Γ ph j i q jd d h (n + 1) it) (hj : j ≠ jd) : g_Met l yJ25_pollFirst (ws_ yJ25_pollFirst cJ25_pollFirst 4 (some (.object "java/lang/Object"))) (g_rm 2 0 0) Γ [.ref q] (ph) (g_or (fun rv_ ph' => rv_ = it 0 ∧ g_AD Γ ph' j i q jd d ((h + 1) % 17) n (fun k => it (k + 1)) ∧ g_fr [(j, i), (jd, i)] ph ph')) g_no := by
  refine g_start (y := yJ25_pollFirst) (cc := cJ25_pollFirst) (maxL := 4) (ret := (some (.object "java/lang/Object"))) (rm := g_rm 2 0 0) (by decide) (Nat.le_of_ble_eq_true rfl) ?_
  intro p e s m A below meth c ls Q hQ S hr hlk hex hnm hK I hl
  have hx := S.1
  have hb := S.2.1
  have hown := S.2.2.2.1
  have hts := S.2.2.2.2
  have S : CallFix p m c cJ25_pollFirst 4 s A lw_all "java/util/ArrayDeque" := S
  have hl : lv_has ls 4 [(0, .ref q)] := hl
  obtain ⟨f, hq, hd, hf, h17, n17⟩ := hA
  generalize ht : (h + (n + 1)) % 17 = t at hq
  have t17 : t < 17 := by omega
  have hf0 : f h = some (it 0) := by have z := hf 0 (by omega); rw [Nat.add_zero, Nat.mod_eq_of_lt h17] at z; exact z
  refine lv_aload_n hx hb dJ25_pollFirst_0 rfl (lv_at hl 0 rfl) ?_
  refine g_get S hK I k_J25 (v := .ref d) (g_at.of hq) 0 (by decide) q711 rfl rfl dJ25_pollFirst_1 ?_
  refine lv_dup hx hb dJ25_pollFirst_4 rfl ?_
  refine lv_astore_n (lv' := [(1, .ref d), (0, .ref q)]) hx hb dJ25_pollFirst_5 rfl hl (by decide) rfl (fun ls hl => ?_)
  refine lv_aload_n hx hb dJ25_pollFirst_6 rfl (lv_at hl 1 rfl) ?_
  refine g_get S hK I k_J25 (v := .int (nI h)) (g_at.of hq) 1 (by decide) q712 rfl rfl dJ25_pollFirst_7 ?_
  refine lv_dup hx hb dJ25_pollFirst_10 rfl ?_
  refine lv_istore_n (lv' := [(2, .int (nI h)), (1, .ref d), (0, .ref q)]) hx hb dJ25_pollFirst_11 rfl hl (by decide) rfl (fun ls hl => ?_)
  refine g_cr (g_runS S hK I (As := [.ref d, .int (nI h)]) (rest := []) (met_J25_elementAt l Γ (ph) jd i d (nI h) 17 f (it 0) hd (vp_in_nI (by omega) (by decide)) (by rw [nI_clamp (by omega)]; exact hf0)) (va_cwS 2 hts (lw_S q1773 q1774 q150 q1775) rfl rfl rfl (by decide +kernel) ⟨Nat.le_of_ble_eq_true rfl, Nat.le_of_ble_eq_true rfl⟩) rfl hl.1 rfl (Nat.le_of_ble_eq_true rfl) dJ25_pollFirst_12 ⟨Nat.le_of_ble_eq_true rfl, Nat.le_of_ble_eq_true rfl⟩) I (fun r_12 ph1 H locs hp I => ?_)
  obtain ⟨hp, hph⟩ := hp
  rw [hph] at I
  have hp : r_12 = (it 0) := hp
  rw [hp]
  refine lv_astore_n (lv' := [(3, .ref (it 0)), (2, .int (nI h)), (1, .ref d), (0, .ref q)]) hx hb dJ25_pollFirst_15 rfl hl (by decide) rfl (fun ls hl => ?_)
  refine lv_aload_n hx hb dJ25_pollFirst_16 rfl (lv_at hl 0 rfl) ?_
  refine lv_ifnull hx hb dJ25_pollFirst_17 ?_
  refine lv_aload_n hx hb dJ25_pollFirst_20 rfl (lv_at hl 2 rfl) ?_
  refine lv_iload_n hx hb dJ25_pollFirst_21 rfl (lv_at hl 1 rfl) ?_
  refine lv_null hx hb dJ25_pollFirst_22 ?_
  refine o_aastN S hK I (f := f) (k := h) hd (vp_in_nI (by omega) (by decide)) (nI_clamp (by omega)) dJ25_pollFirst_23 (fun H locs I => ?_)
  have I : g_I Γ (gput ph jd i d (.inl (g_t Γ 7, 17, .inr (.inr (.inr (.inr (va_up f h none))))))) s _ _ := I
  refine lv_aload_n hx hb dJ25_pollFirst_24 rfl (lv_at hl 3 rfl) ?_
  refine lv_iload_n hx hb dJ25_pollFirst_25 rfl (lv_at hl 1 rfl) ?_
  refine lv_aload_n hx hb dJ25_pollFirst_26 rfl (lv_at hl 2 rfl) ?_
  refine g_alen S hK I (g_at.of (gput_self _ _ _ _ _)) rfl (v := (17 : Int32)) rfl dJ25_pollFirst_27 ?_
  refine g_ci (g_runS S hK I (As := [.int (nI h), .int 17]) (rest := [.ref q]) (met_J25_inc l Γ (gput ph jd i d (.inl (g_t Γ 7, 17, .inr (.inr (.inr (.inr (va_up f h none))))))) (nI h) 17) (va_cwS 2 hts (lw_S q1737 q1738 q150 q1739) rfl rfl rfl (by decide +kernel) ⟨Nat.le_of_ble_eq_true rfl, Nat.le_of_ble_eq_true rfl⟩) rfl hl.1 rfl (Nat.le_of_ble_eq_true rfl) dJ25_pollFirst_28 ⟨Nat.le_of_ble_eq_true rfl, Nat.le_of_ble_eq_true rfl⟩) I (fun r_28 ph1 H locs hp I => ?_)
  obtain ⟨hp, hph⟩ := hp
  rw [hph] at I
  have hp : r_28 = (if (nI h) + 1 < 17 then (nI h) + 1 else 0) := hp
  rw [hp]
  rw [ad_inc h h17]
  refine g_put S hK I k_J25 (v := .int (nI ((h + 1) % 17))) ((g_oj hj).trans hq) 1 (by decide) q712 rfl rfl rfl rfl (Nat.le_of_ble_eq_true rfl) dJ25_pollFirst_31 (fun H locs I => ?_)
  have I : g_I Γ (gput (gput ph jd i d (.inl (g_t Γ 7, 17, .inr (.inr (.inr (.inr (va_up f h none))))))) j i q (.inr (25, [.ref d, .int (nI ((h + 1) % 17)), .int (nI t)]))) s _ _ := I
  refine lv_aload_n hx hb dJ25_pollFirst_34 rfl (lv_at hl 0 rfl) ?_
  exact g_aret S hr (Or.inl ⟨_, rfl⟩) hlk I dJ25_pollFirst_35 (Nat.le_of_ble_eq_true rfl) (Nat.le_of_ble_eq_true rfl) hQ ⟨_, rfl, ⟨rfl, ⟨_, by rw [show ((h + 1) % 17 + n) % 17 = t by omega]; exact (gput_self _ _ _ _ _), ((g_oj (Ne.symm hj)).trans (gput_self _ _ _ _ _)), fun k hk => by rw [va_up_n (by omega), show ((h + 1) % 17 + k) % 17 = (h + (k + 1)) % 17 by omega]; exact hf (k + 1) (by omega), by omega, by omega⟩, (g_fr.put (g_fr.put (g_fr.refl _ _) (by simp)) (by simp))⟩⟩

set_option maxHeartbeats 4000000 in
set_option maxRecDepth 100000 in
theorem met_J25_removeFirst (l : Launch) (Γ : g_C) (ph : g_H) (j i q jd d h n : Nat) (it : Nat → Nat)   (hA : g_AD Γ ph j i q jd d h (n + 1) it) (hj : j ≠ jd) : g_Met l yJ25_removeFirst (ws_ yJ25_removeFirst cJ25_removeFirst 2 (some (.object "java/lang/Object"))) (g_rm 3 0 0) Γ [.ref q] (ph) (g_or (fun rv_ ph' => rv_ = it 0 ∧ g_AD Γ ph' j i q jd d ((h + 1) % 17) n (fun k => it (k + 1)) ∧ g_fr [(j, i), (jd, i)] ph ph')) g_no := by
  refine g_start (y := yJ25_removeFirst) (cc := cJ25_removeFirst) (maxL := 2) (ret := (some (.object "java/lang/Object"))) (rm := g_rm 3 0 0) (by decide) (Nat.le_of_ble_eq_true rfl) ?_
  intro p e s m A below meth c ls Q hQ S hr hlk hex hnm hK I hl
  have hx := S.1
  have hb := S.2.1
  have hown := S.2.2.2.1
  have hts := S.2.2.2.2
  have S : CallFix p m c cJ25_removeFirst 2 s A lw_all "java/util/ArrayDeque" := S
  have hl : lv_has ls 2 [(0, .ref q)] := hl
  have hA9 := hA
  obtain ⟨f, hq, -⟩ := hA9
  refine lv_aload_n hx hb dJ25_removeFirst_0 rfl (lv_at hl 0 rfl) ?_
  refine g_cr (g_runV S hK I (As := []) (rest := []) (met_J25_pollFirst l Γ ph j i q jd d h n it hA hj) (cwV 0 hts (lw_V q1769 q1770 q1771 q150 q1772) rfl rfl rfl (by decide +kernel) ⟨Nat.le_of_ble_eq_true rfl, Nat.le_of_ble_eq_true rfl⟩) (g_recv hK I (g_at.of hq) (ci := 25) rfl) rfl hl.1 rfl (Nat.le_of_ble_eq_true rfl) dJ25_removeFirst_1 ⟨Nat.le_of_ble_eq_true rfl, Nat.le_of_ble_eq_true rfl⟩) I (fun r_1 ph1 H locs hp I => ?_)
  refine lv_astore_n (lv' := [(1, .ref r_1), (0, .ref q)]) hx hb dJ25_removeFirst_4 rfl hl (by decide) rfl (fun ls hl => ?_)
  refine lv_aload_n hx hb dJ25_removeFirst_5 rfl (lv_at hl 0 rfl) ?_
  refine lv_ifnonnull (tgt := 17) hx hb dJ25_removeFirst_6 (by decide) ?_
  refine lv_aload_n hx hb dJ25_removeFirst_17 rfl (lv_at hl 0 rfl) ?_
  exact g_aret S hr (Or.inl ⟨_, rfl⟩) hlk I dJ25_removeFirst_18 (Nat.le_of_ble_eq_true rfl) (Nat.le_of_ble_eq_true rfl) hQ ⟨_, rfl, hp⟩

set_option maxHeartbeats 4000000 in
set_option maxRecDepth 100000 in
theorem met_J25_pollLast (l : Launch) (Γ : g_C) (ph : g_H) (j i q jd d h n : Nat) (it : Nat → Nat)   (hA : g_AD Γ ph j i q jd d h (n + 1) it) (hj : j ≠ jd) : g_Met l yJ25_pollLast (ws_ yJ25_pollLast cJ25_pollLast 4 (some (.object "java/lang/Object"))) (g_rm 2 0 0) Γ [.ref q] (ph) (g_or (fun rv_ ph' => rv_ = it n ∧ g_AD Γ ph' j i q jd d h n it ∧ g_fr [(j, i), (jd, i)] ph ph')) g_no := by
  refine g_start (y := yJ25_pollLast) (cc := cJ25_pollLast) (maxL := 4) (ret := (some (.object "java/lang/Object"))) (rm := g_rm 2 0 0) (by decide) (Nat.le_of_ble_eq_true rfl) ?_
  intro p e s m A below meth c ls Q hQ S hr hlk hex hnm hK I hl
  have hx := S.1
  have hb := S.2.1
  have hown := S.2.2.2.1
  have hts := S.2.2.2.2
  have S : CallFix p m c cJ25_pollLast 4 s A lw_all "java/util/ArrayDeque" := S
  have hl : lv_has ls 4 [(0, .ref q)] := hl
  obtain ⟨f, hq, hd, hf, h17, n17⟩ := hA
  generalize ht : (h + (n + 1)) % 17 = t at hq
  have t17 : t < 17 := by omega
  have hf0 : f ((t + 16) % 17) = some (it n) := by have z := hf n (by omega); rw [show (h + n) % 17 = (t + 16) % 17 by omega] at z; exact z
  refine lv_aload_n hx hb dJ25_pollLast_0 rfl (lv_at hl 0 rfl) ?_
  refine g_get S hK I k_J25 (v := .ref d) (g_at.of hq) 0 (by decide) q711 rfl rfl dJ25_pollLast_1 ?_
  refine lv_dup hx hb dJ25_pollLast_4 rfl ?_
  refine lv_astore_n (lv' := [(1, .ref d), (0, .ref q)]) hx hb dJ25_pollLast_5 rfl hl (by decide) rfl (fun ls hl => ?_)
  refine lv_aload_n hx hb dJ25_pollLast_6 rfl (lv_at hl 1 rfl) ?_
  refine g_get S hK I k_J25 (v := .int (nI t)) (g_at.of hq) 2 (by decide) q713 rfl rfl dJ25_pollLast_7 ?_
  refine lv_aload_n hx hb dJ25_pollLast_10 rfl (lv_at hl 0 rfl) ?_
  refine g_alen S hK I (g_at.of hd) rfl (v := (17 : Int32)) rfl dJ25_pollLast_11 ?_
  refine g_ci (g_runS S hK I (As := [.int (nI t), .int 17]) (rest := [.ref d]) (met_J25_dec l Γ (ph) (nI t) 17) (va_cwS 2 hts (lw_S q2929 q2930 q150 q2931) rfl rfl rfl (by decide +kernel) ⟨Nat.le_of_ble_eq_true rfl, Nat.le_of_ble_eq_true rfl⟩) rfl hl.1 rfl (Nat.le_of_ble_eq_true rfl) dJ25_pollLast_12 ⟨Nat.le_of_ble_eq_true rfl, Nat.le_of_ble_eq_true rfl⟩) I (fun r_12 ph1 H locs hp I => ?_)
  obtain ⟨hp, hph⟩ := hp
  rw [hph] at I
  have hp : r_12 = (if 0 ≤ (nI t) + (-1) then (nI t) + (-1) else 17 - 1) := hp
  rw [hp]
  rw [ad_dec t t17]
  refine lv_dup hx hb dJ25_pollLast_15 rfl ?_
  refine lv_istore_n (lv' := [(2, .int (nI ((t + 16) % 17))), (1, .ref d), (0, .ref q)]) hx hb dJ25_pollLast_16 rfl hl (by decide) rfl (fun ls hl => ?_)
  refine g_cr (g_runS S hK I (As := [.ref d, .int (nI ((t + 16) % 17))]) (rest := []) (met_J25_elementAt l Γ (ph) jd i d (nI ((t + 16) % 17)) 17 f (it n) hd (vp_in_nI (by omega) (by decide)) (by rw [nI_clamp (by omega)]; exact hf0)) (va_cwS 2 hts (lw_S q1773 q1774 q150 q1775) rfl rfl rfl (by decide +kernel) ⟨Nat.le_of_ble_eq_true rfl, Nat.le_of_ble_eq_true rfl⟩) rfl hl.1 rfl (Nat.le_of_ble_eq_true rfl) dJ25_pollLast_17 ⟨Nat.le_of_ble_eq_true rfl, Nat.le_of_ble_eq_true rfl⟩) I (fun r_17 ph1 H locs hp I => ?_)
  obtain ⟨hp, hph⟩ := hp
  rw [hph] at I
  have hp : r_17 = (it n) := hp
  rw [hp]
  refine lv_astore_n (lv' := [(3, .ref (it n)), (2, .int (nI ((t + 16) % 17))), (1, .ref d), (0, .ref q)]) hx hb dJ25_pollLast_20 rfl hl (by decide) rfl (fun ls hl => ?_)
  refine lv_aload_n hx hb dJ25_pollLast_21 rfl (lv_at hl 0 rfl) ?_
  refine lv_ifnull hx hb dJ25_pollLast_22 ?_
  refine lv_aload_n hx hb dJ25_pollLast_25 rfl (lv_at hl 2 rfl) ?_
  refine lv_aload_n hx hb dJ25_pollLast_26 rfl (lv_at hl 3 rfl) ?_
  refine lv_iload_n hx hb dJ25_pollLast_27 rfl (lv_at hl 1 rfl) ?_
  refine lv_dup_x1 hx hb dJ25_pollLast_28 rfl rfl ?_
  refine g_put S hK I k_J25 (v := .int (nI ((t + 16) % 17))) hq 2 (by decide) q713 rfl rfl rfl rfl (Nat.le_of_ble_eq_true rfl) dJ25_pollLast_29 (fun H locs I => ?_)
  have I : g_I Γ (gput ph j i q (.inr (25, [.ref d, .int (nI h), .int (nI ((t + 16) % 17))]))) s _ _ := I
  refine lv_null hx hb dJ25_pollLast_32 ?_
  refine o_aastN S hK I (f := f) (k := ((t + 16) % 17)) ((g_oj (Ne.symm hj)).trans hd) (vp_in_nI (by omega) (by decide)) (nI_clamp (by omega)) dJ25_pollLast_33 (fun H locs I => ?_)
  have I : g_I Γ (gput (gput ph j i q (.inr (25, [.ref d, .int (nI h), .int (nI ((t + 16) % 17))]))) jd i d (.inl (g_t Γ 7, 17, .inr (.inr (.inr (.inr (va_up f ((t + 16) % 17) none))))))) s _ _ := I
  refine lv_aload_n hx hb dJ25_pollLast_34 rfl (lv_at hl 0 rfl) ?_
  exact g_aret S hr (Or.inl ⟨_, rfl⟩) hlk I dJ25_pollLast_35 (Nat.le_of_ble_eq_true rfl) (Nat.le_of_ble_eq_true rfl) hQ ⟨_, rfl, ⟨rfl, ⟨_, by rw [show (h + n) % 17 = (t + 16) % 17 by omega]; exact ((g_oj hj).trans (gput_self _ _ _ _ _)), (gput_self _ _ _ _ _), fun k hk => by rw [va_up_n (by omega)]; exact hf k (by omega), h17, by omega⟩, (g_fr.put (g_fr.put (g_fr.refl _ _) (by simp)) (by simp))⟩⟩

set_option maxHeartbeats 4000000 in
set_option maxRecDepth 100000 in
theorem met_J25_removeLast (l : Launch) (Γ : g_C) (ph : g_H) (j i q jd d h n : Nat) (it : Nat → Nat)   (hA : g_AD Γ ph j i q jd d h (n + 1) it) (hj : j ≠ jd) : g_Met l yJ25_removeLast (ws_ yJ25_removeLast cJ25_removeLast 2 (some (.object "java/lang/Object"))) (g_rm 3 0 0) Γ [.ref q] (ph) (g_or (fun rv_ ph' => rv_ = it n ∧ g_AD Γ ph' j i q jd d h n it ∧ g_fr [(j, i), (jd, i)] ph ph')) g_no := by
  refine g_start (y := yJ25_removeLast) (cc := cJ25_removeLast) (maxL := 2) (ret := (some (.object "java/lang/Object"))) (rm := g_rm 3 0 0) (by decide) (Nat.le_of_ble_eq_true rfl) ?_
  intro p e s m A below meth c ls Q hQ S hr hlk hex hnm hK I hl
  have hx := S.1
  have hb := S.2.1
  have hown := S.2.2.2.1
  have hts := S.2.2.2.2
  have S : CallFix p m c cJ25_removeLast 2 s A lw_all "java/util/ArrayDeque" := S
  have hl : lv_has ls 2 [(0, .ref q)] := hl
  have hA9 := hA
  obtain ⟨f, hq, -⟩ := hA9
  refine lv_aload_n hx hb dJ25_removeLast_0 rfl (lv_at hl 0 rfl) ?_
  refine g_cr (g_runV S hK I (As := []) (rest := []) (met_J25_pollLast l Γ ph j i q jd d h n it hA hj) (cwV 0 hts (lw_V q2925 q2926 q2927 q150 q2928) rfl rfl rfl (by decide +kernel) ⟨Nat.le_of_ble_eq_true rfl, Nat.le_of_ble_eq_true rfl⟩) (g_recv hK I (g_at.of hq) (ci := 25) rfl) rfl hl.1 rfl (Nat.le_of_ble_eq_true rfl) dJ25_removeLast_1 ⟨Nat.le_of_ble_eq_true rfl, Nat.le_of_ble_eq_true rfl⟩) I (fun r_1 ph1 H locs hp I => ?_)
  refine lv_astore_n (lv' := [(1, .ref r_1), (0, .ref q)]) hx hb dJ25_removeLast_4 rfl hl (by decide) rfl (fun ls hl => ?_)
  refine lv_aload_n hx hb dJ25_removeLast_5 rfl (lv_at hl 0 rfl) ?_
  refine lv_ifnonnull (tgt := 17) hx hb dJ25_removeLast_6 (by decide) ?_
  refine lv_aload_n hx hb dJ25_removeLast_17 rfl (lv_at hl 0 rfl) ?_
  exact g_aret S hr (Or.inl ⟨_, rfl⟩) hlk I dJ25_removeLast_18 (Nat.le_of_ble_eq_true rfl) (Nat.le_of_ble_eq_true rfl) hQ ⟨_, rfl, hp⟩

theorem gput2 {ph : g_H} {j i a : Nat} {e e' : va_E} : gput (gput ph j i a e) j i a e' = gput ph j i a e' := gput_gput
theorem gput_id {ph : g_H} {j i a : Nat} {e : va_E} (h : ph j i a = some e) : gput ph j i a e = ph := by
  unfold gput
  have : pput (ph j i) a e = ph j i := by
    funext x
    unfold pput
    by_cases hx : x = a
    · rw [if_pos hx, hx, h]
    · rw [if_neg hx]
  rw [this, gset_id]

/-! THE JDK: calls by other owners and by interfaces; iterators of LinkedList made; the list's end; ArrayList, ArrayDeque -/
set_option maxRecDepth 100000
theorem lw_F {own : String} {idx : Nat} {C : String} {x y : MethodName} {b : ByteArray} {L : Nat} {r : Option FieldType} (h1 : Cond.methodLink own idx x ∈ lw_all) (h2 : Cond.selects C x y ∈ lw_all) (h3 : Cond.instanceMethod y ∈ lw_all) (h4 : Cond.initialized y.cls ∈ lw_all) (h5 : Cond.code y b L r ∈ lw_all) : GoodIn lw_all (va_wsF own idx C x y (ws_ y b L r)) := by
  unfold va_wsF
  refine lw_app (fun w hw => ?_) (lw_meth h5)
  rcases List.mem_cons.mp hw with rfl | hw
  · exact h1
  rcases List.mem_cons.mp hw with rfl | hw
  · exact h2
  rcases List.mem_cons.mp hw with rfl | hw
  · exact h3
  rcases List.mem_cons.mp hw with rfl | hw
  · exact h4
  · exact absurd hw List.not_mem_nil
theorem g_declN {s : State} {x : MethodName} (h : va_Nw (.declares x) s) : va_Decl s x := Cond.declares_spec h
theorem g_cwD {R : Room} {s : State} {args : Array Value} {own C owner : String} {index maxL n : Nat} {x y : MethodName} {bytes : ByteArray} {ret : Option FieldType} {rm : Room} (hts : ∀ w ∈ lw_all, w.before args s = true) (hcode : Cond.code y bytes maxL ret ∈ lw_all) (hini : Cond.initialized y.cls ∈ lw_all) (hown : owner ≠ "java/lang/invoke/MethodHandle" ∧ owner ≠ "java/lang/invoke/VarHandle") (hlen : (parseMethodDescriptor x.desc).map (fun d => d.parameters.length) = some n)
    (hl : Cond.methodLink own index x ∈ lw_all) (hsm : Cond.sameMethod x.cls owner x.name x.desc ∈ lw_all) (hd : va_Decl s ⟨owner, x.name, x.desc⟩) (hsel : Cond.selects C x y ∈ lw_all) (hi : Cond.instanceMethod y ∈ lw_all) (hR : rm.frames + 1 ≤ R.frames ∧ 8 + (maxL + 11) + rm.locals ≤ R.locals) : va_CU R s args own C owner index x y bytes maxL ret (ws_ y bytes maxL ret) rm rm.cells rm.slots n := by
  refine ⟨⟨rfl, rfl, hR.1, hR.2, pay_in hts (lw_meth hcode), List.mem_cons_self⟩, hts _ hcode, hts _ hini, hown, fun sig h => ?_, hts _ hl, hts _ hsm, hd, hts _ hsel, hts _ hi⟩
  rw [h] at hlen
  exact (Option.some.inj hlen).symm
set_option maxHeartbeats 4000000 in
set_option maxRecDepth 100000 in
theorem met_J24_isPositionIndex (l : Launch) (Γ : g_C) (ph : g_H) (j i q : Nat) (mc : Int32) (n k : Nat) (fv lv : Value)  (hq : ph j i q = some (.inr (24, [.int mc, .int (nI n), fv, lv]))) (hkn : k ≤ n) (hn : n < 2 ^ 31) : g_Met l yJ24_isPositionIndex (ws_ yJ24_isPositionIndex cJ24_isPositionIndex 2 (some .boolean)) (g_rm 1 0 0) Γ [.ref q, .int (nI k)] (ph) (g_oi (fun rv_ ph' => rv_ = 1 ∧ ph' = ph)) g_no := by
  refine g_start (y := yJ24_isPositionIndex) (cc := cJ24_isPositionIndex) (maxL := 2) (ret := (some .boolean)) (rm := g_rm 1 0 0) (by decide) (Nat.le_of_ble_eq_true rfl) ?_
  intro p e s m A below meth c ls Q hQ S hr hlk hex hnm hK I hl
  have hx := S.1
  have hb := S.2.1
  have hown := S.2.2.2.1
  have hts := S.2.2.2.2
  have S : CallFix p m c cJ24_isPositionIndex 2 s A lw_all "java/util/LinkedList" := S
  have hl : lv_has ls 2 [(0, .ref q), (1, .int (nI k))] := hl
  refine lv_iload_n hx hb dJ24_isPositionIndex_0 rfl (lv_at hl 1 rfl) ?_
  refine lv_if_lt (tgt := 16) hx hb dJ24_isPositionIndex_1 (by decide) (fun c_1 => absurd c_1 ((fun z => absurd z (Int32.not_lt.mpr (nI_nn (by omega)))))) (fun _ => ?_)
  refine lv_iload_n hx hb dJ24_isPositionIndex_4 rfl (lv_at hl 1 rfl) ?_
  refine lv_aload_n hx hb dJ24_isPositionIndex_5 rfl (lv_at hl 0 rfl) ?_
  refine g_get S hK I k_J24 (v := .int (nI n)) (g_at.of hq) 1 (by decide) q623 rfl rfl dJ24_isPositionIndex_6 ?_
  refine lv_icmp_gt (tgt := 16) hx hb dJ24_isPositionIndex_9 (by decide) (fun c_9 => absurd c_9 ((fun z => by rw [nI_ltI hn (by omega)] at z; omega))) (fun _ => ?_)
  refine lv_iconst (v := 1) hx hb dJ24_isPositionIndex_12 (by decide) ?_
  refine lv_goto (tgt := 17) hx hb dJ24_isPositionIndex_13 (by decide) ?_
  exact g_zret S hr hlk I rfl dJ24_isPositionIndex_17 (Nat.le_of_ble_eq_true rfl) (Nat.le_of_ble_eq_true rfl) hQ ⟨_, rfl, rfl, rfl⟩

set_option maxHeartbeats 4000000 in
set_option maxRecDepth 100000 in
theorem met_J24_checkPositionIndex (l : Launch) (Γ : g_C) (ph : g_H) (j i q : Nat) (mc : Int32) (n k : Nat) (fv lv : Value)  (hq : ph j i q = some (.inr (24, [.int mc, .int (nI n), fv, lv]))) (hkn : k ≤ n) (hn : n < 2 ^ 31) : g_Met l yJ24_checkPositionIndex (ws_ yJ24_checkPositionIndex cJ24_checkPositionIndex 2 none) (g_rm 2 0 0) Γ [.ref q, .int (nI k)] (ph) (g_ov (fun ph' => ph' = ph)) g_no := by
  refine g_start (y := yJ24_checkPositionIndex) (cc := cJ24_checkPositionIndex) (maxL := 2) (ret := none) (rm := g_rm 2 0 0) (by decide) (Nat.le_of_ble_eq_true rfl) ?_
  intro p e s m A below meth c ls Q hQ S hr hlk hex hnm hK I hl
  have hx := S.1
  have hb := S.2.1
  have hown := S.2.2.2.1
  have hts := S.2.2.2.2
  have S : CallFix p m c cJ24_checkPositionIndex 2 s A lw_all "java/util/LinkedList" := S
  have hl : lv_has ls 2 [(0, .ref q), (1, .int (nI k))] := hl
  refine lv_aload_n hx hb dJ24_checkPositionIndex_0 rfl (lv_at hl 0 rfl) ?_
  refine lv_iload_n hx hb dJ24_checkPositionIndex_1 rfl (lv_at hl 1 rfl) ?_
  refine g_ci (g_runV S hK I (As := [.int (nI k)]) (rest := []) (met_J24_isPositionIndex l Γ (ph) j i q mc n k fv lv hq (by assumption) (by assumption)) (cwV 1 hts (lw_V q953 q955 qs8 q148 q956) rfl rfl rfl (by decide +kernel) ⟨Nat.le_of_ble_eq_true rfl, Nat.le_of_ble_eq_true rfl⟩) (g_recv hK I (g_at.of hq) (ci := 24) rfl) rfl hl.1 rfl (Nat.le_of_ble_eq_true rfl) dJ24_checkPositionIndex_2 ⟨Nat.le_of_ble_eq_true rfl, Nat.le_of_ble_eq_true rfl⟩) I (fun r_2 ph1 H locs hp I => ?_)
  obtain ⟨hp, hph⟩ := hp
  rw [hph] at I
  have hp : r_2 = 1 := hp
  rw [hp]
  refine lv_if_ne (tgt := 21) hx hb dJ24_checkPositionIndex_5 (by decide) (fun _ => ?_) (fun c_5 => absurd c_5 (by decide))
  exact g_vret S hr hlk I dJ24_checkPositionIndex_21 (Nat.le_of_ble_eq_true rfl) (Nat.le_of_ble_eq_true rfl) hQ ⟨rfl, rfl⟩

set_option maxHeartbeats 4000000 in
set_option maxRecDepth 100000 in
theorem met_J24_listIterator (l : Launch) (Γ : g_C) (ph : g_H) (j i q jn n k : Nat) (na it : Nat → Nat) (mc : Int32) (ju iu : Nat)   (hL : g_LL ph j i q jn n na it mc) (hkn : k ≤ n) (hn : n < 2 ^ 31) (hj1 : ju ≠ j) (hj2 : ju ≠ jn) : g_Met l yJ24_listIterator (ws_ yJ24_listIterator cJ24_listIterator 2 (some (.object "java/util/ListIterator"))) (g_rm 3 1 5) Γ [.ref q, .int (nI k)] (ph) (g_or (fun u ph' => (∀ j i, ph j i u = none) ∧ ph' ju iu u = some (.inr (26, [.null, lkK k n na, .int (nI k), .int mc, .ref q])) ∧ g_fr [(ju, iu)] ph ph')) g_no := by
  refine g_start (y := yJ24_listIterator) (cc := cJ24_listIterator) (maxL := 2) (ret := (some (.object "java/util/ListIterator"))) (rm := g_rm 3 1 5) (by decide) (Nat.le_of_ble_eq_true rfl) ?_
  intro p e s m A below meth c ls Q hQ S hr hlk hex hnm hK I hl
  have hx := S.1
  have hb := S.2.1
  have hown := S.2.2.2.1
  have hts := S.2.2.2.2
  have S : CallFix p m c cJ24_listIterator 2 s A lw_all "java/util/LinkedList" := S
  have hl : lv_has ls 2 [(0, .ref q), (1, .int (nI k))] := hl
  have hq := hL.1
  refine lv_aload_n hx hb dJ24_listIterator_0 rfl (lv_at hl 0 rfl) ?_
  refine lv_iload_n hx hb dJ24_listIterator_1 rfl (lv_at hl 1 rfl) ?_
  refine g_cv (g_runV S hK I (As := [.int (nI k)]) (rest := []) (met_J24_checkPositionIndex l Γ ph j i q mc n k (lkF n na) (lkL n na) hq hkn hn) (cwV 1 hts (lw_V q949 q951 qs7 q148 q952) rfl rfl rfl (by decide +kernel) ⟨Nat.le_of_ble_eq_true rfl, Nat.le_of_ble_eq_true rfl⟩) (g_recv hK I (g_at.of hq) (ci := 24) rfl) rfl hl.1 rfl (Nat.le_of_ble_eq_true rfl) dJ24_listIterator_2 ⟨Nat.le_of_ble_eq_true rfl, Nat.le_of_ble_eq_true rfl⟩) I (fun ph1 H locs hp I => ?_)
  rw [hp] at I
  refine g_new S hK I ju iu k_J32 q957 q958 q167 (fs := [.null, .null, .int 0, .int 0, .null]) (by decide) (Nat.le_of_ble_eq_true rfl) (Nat.le_of_ble_eq_true rfl) dJ24_listIterator_5 (fun u H hfu I => ?_)
  have I : g_I Γ (gput ph ju iu u (.inr (26, [.null, .null, .int 0, .int 0, .null]))) s _ _ := I
  refine lv_dup hx hb dJ24_listIterator_8 rfl ?_
  refine lv_aload_n hx hb dJ24_listIterator_9 rfl (lv_at hl 0 rfl) ?_
  refine lv_iload_n hx hb dJ24_listIterator_10 rfl (lv_at hl 1 rfl) ?_
  have hL9 : g_LL (gput ph ju iu u (.inr (26, [.null, .null, .int 0, .int 0, .null]))) j i q jn n na it mc := ⟨((g_oj (Ne.symm hj1)).trans hq), fun x hx => (g_oj (Ne.symm hj2)).trans (hL.2.1 x hx), hL.2.2⟩
  refine g_cv (g_runI S hK I (As := [.ref q, .int (nI k)]) (rest := [.ref u]) (met_J32_init l Γ (gput ph ju iu u (.inr (26, [.null, .null, .int 0, .int 0, .null]))) j i q jn n k na it mc ju iu u hL9 hkn hn (gput_self _ _ _ _ _) hj1 hj2) (cwI 2 hts (lw_meth q961) rfl rfl rfl (hts _ q167) (hts _ q959) (hts _ q960) rfl (by decide +kernel) ⟨Nat.le_of_ble_eq_true rfl, Nat.le_of_ble_eq_true rfl⟩) rfl hl.1 rfl (Nat.le_of_ble_eq_true rfl) dJ24_listIterator_11 ⟨Nat.le_of_ble_eq_true rfl, Nat.le_of_ble_eq_true rfl⟩) I (fun ph1 H locs hp I => ?_)
  exact g_aret S hr (Or.inl ⟨_, rfl⟩) hlk I dJ24_listIterator_14 (Nat.le_of_ble_eq_true rfl) (Nat.le_of_ble_eq_true rfl) hQ ⟨_, rfl, ⟨hfu, hp.1, ((g_fr.refl _ _).put (by simp)).trans hp.2⟩⟩

set_option maxHeartbeats 4000000 in
set_option maxRecDepth 100000 in
theorem met_J6_listIterator (l : Launch) (Γ : g_C) (ph : g_H) (j i q jn n : Nat) (na it : Nat → Nat) (mc : Int32) (ju iu : Nat)   (hL : g_LL ph j i q jn n na it mc) (hn : n < 2 ^ 31) (hj1 : ju ≠ j) (hj2 : ju ≠ jn) : g_Met l yJ6_listIterator (ws_ yJ6_listIterator cJ6_listIterator 1 (some (.object "java/util/ListIterator"))) (g_rm 4 1 5) Γ [.ref q] (ph) (g_or (fun u ph' => (∀ j i, ph j i u = none) ∧ ph' ju iu u = some (.inr (26, [.null, lkK 0 n na, .int (nI 0), .int mc, .ref q])) ∧ g_fr [(ju, iu)] ph ph')) g_no := by
  refine g_start (y := yJ6_listIterator) (cc := cJ6_listIterator) (maxL := 1) (ret := (some (.object "java/util/ListIterator"))) (rm := g_rm 4 1 5) (by decide) (Nat.le_of_ble_eq_true rfl) ?_
  intro p e s m A below meth c ls Q hQ S hr hlk hex hnm hK I hl
  have hx := S.1
  have hb := S.2.1
  have hown := S.2.2.2.1
  have hts := S.2.2.2.2
  have S : CallFix p m c cJ6_listIterator 1 s A lw_all "java/util/AbstractList" := S
  have hl : lv_has ls 1 [(0, .ref q)] := hl
  have hq := hL.1
  refine lv_aload_n hx hb dJ6_listIterator_0 rfl (lv_at hl 0 rfl) ?_
  refine lv_iconst (v := 0) hx hb dJ6_listIterator_1 (by decide) ?_
  refine g_cr (g_runU S hK I (As := [.int 0]) (rest := []) (met_J24_listIterator l Γ ph j i q jn n 0 na it mc ju iu hL (Nat.zero_le _) hn hj1 hj2) (g_cwD hts q948 q148 (by decide) (by decide +kernel) q901 q903 (g_declN (hK.N q980 rfl)) q946 q947 ⟨Nat.le_of_ble_eq_true rfl, Nat.le_of_ble_eq_true rfl⟩) (g_recv hK I (g_at.of hq) (ci := 24) rfl) rfl hl.1 rfl (Nat.le_of_ble_eq_true rfl) dJ6_listIterator_2 ⟨Nat.le_of_ble_eq_true rfl, Nat.le_of_ble_eq_true rfl⟩) I (fun r_2 ph1 H locs hp I => ?_)
  exact g_aret S hr (Or.inl ⟨_, rfl⟩) hlk I dJ6_listIterator_5 (Nat.le_of_ble_eq_true rfl) (Nat.le_of_ble_eq_true rfl) hQ ⟨_, rfl, hp⟩

set_option maxHeartbeats 4000000 in
set_option maxRecDepth 100000 in
theorem met_J23_iterator (l : Launch) (Γ : g_C) (ph : g_H) (j i q jn n : Nat) (na it : Nat → Nat) (mc : Int32) (ju iu : Nat)   (hL : g_LL ph j i q jn n na it mc) (hn : n < 2 ^ 31) (hj1 : ju ≠ j) (hj2 : ju ≠ jn) : g_Met l yJ23_iterator (ws_ yJ23_iterator cJ23_iterator 1 (some (.object "java/util/Iterator"))) (g_rm 5 1 5) Γ [.ref q] (ph) (g_or (fun u ph' => (∀ j i, ph j i u = none) ∧ ph' ju iu u = some (.inr (26, [.null, lkK 0 n na, .int (nI 0), .int mc, .ref q])) ∧ g_fr [(ju, iu)] ph ph')) g_no := by
  refine g_start (y := yJ23_iterator) (cc := cJ23_iterator) (maxL := 1) (ret := (some (.object "java/util/Iterator"))) (rm := g_rm 5 1 5) (by decide) (Nat.le_of_ble_eq_true rfl) ?_
  intro p e s m A below meth c ls Q hQ S hr hlk hex hnm hK I hl
  have hx := S.1
  have hb := S.2.1
  have hown := S.2.2.2.1
  have hts := S.2.2.2.2
  have S : CallFix p m c cJ23_iterator 1 s A lw_all "java/util/AbstractSequentialList" := S
  have hl : lv_has ls 1 [(0, .ref q)] := hl
  have hq := hL.1
  refine lv_aload_n hx hb dJ23_iterator_0 rfl (lv_at hl 0 rfl) ?_
  refine g_cr (g_runU S hK I (As := []) (rest := []) (met_J6_listIterator l Γ ph j i q jn n na it mc ju iu hL hn hj1 hj2) (g_cwD hts q900 q129 (by decide) (by decide +kernel) q895 q896 (g_declN (hK.N q897 rfl)) q898 q899 ⟨Nat.le_of_ble_eq_true rfl, Nat.le_of_ble_eq_true rfl⟩) (g_recv hK I (g_at.of hq) (ci := 24) rfl) rfl hl.1 rfl (Nat.le_of_ble_eq_true rfl) dJ23_iterator_1 ⟨Nat.le_of_ble_eq_true rfl, Nat.le_of_ble_eq_true rfl⟩) I (fun r_1 ph1 H locs hp I => ?_)
  exact g_aret S hr (Or.inl ⟨_, rfl⟩) hlk I dJ23_iterator_4 (Nat.le_of_ble_eq_true rfl) (Nat.le_of_ble_eq_true rfl) hQ ⟨_, rfl, hp⟩

set_option maxHeartbeats 4000000 in
set_option maxRecDepth 100000 in
theorem met_J40_init (l : Launch) (Γ : g_C) (ph : g_H) (j i q jn n : Nat) (na it : Nat → Nat) (mc : Int32) (ju iu jv v : Nat)   (hL : g_LL ph j i q jn n na it mc) (hn : n < 2 ^ 31) (hj1 : ju ≠ j) (hj2 : ju ≠ jn) (hv1 : jv ≠ j) (hv2 : jv ≠ jn) (hv3 : jv ≠ ju) (hv : ph jv iu v = some (.inr (29, [.null, .null]))) : g_Met l yJ40_init (ws_ yJ40_init cJ40_init 2 none) (g_rm 3 1 5) Γ [.ref v, .ref q] (ph) (g_ov (fun ph' => ∃ u, ph' jv iu v = some (.inr (29, [.ref u, .ref q])) ∧ ph' ju iu u = some (.inr (26, [.null, .null, .int (nI n), .int mc, .ref q])) ∧ g_fr [(ju, iu), (jv, iu)] ph ph')) g_no := by
  refine g_start (y := yJ40_init) (cc := cJ40_init) (maxL := 2) (ret := none) (rm := g_rm 3 1 5) (by decide) (Nat.le_of_ble_eq_true rfl) ?_
  intro p e s m A below meth c ls Q hQ S hr hlk hex hnm hK I hl
  have hx := S.1
  have hb := S.2.1
  have hown := S.2.2.2.1
  have hts := S.2.2.2.2
  have S : CallFix p m c cJ40_init 2 s A lw_all "java/util/LinkedList$DescendingIterator" := S
  have hl : lv_has ls 2 [(0, .ref v), (1, .ref q)] := hl
  have hq := hL.1
  refine lv_aload_n hx hb dJ40_init_0 rfl (lv_at hl 0 rfl) ?_
  refine lv_aload_n hx hb dJ40_init_1 rfl (lv_at hl 1 rfl) ?_
  refine g_putF S hK I k_J40 (v := .ref q) hv 1 (by decide) q1316 rfl rfl hnm rfl rfl (Nat.le_of_ble_eq_true rfl) dJ40_init_2 (fun H locs I => ?_)
  have I : g_I Γ (gput ph jv iu v (.inr (29, [.null, .ref q]))) s _ _ := I
  refine lv_aload_n hx hb dJ40_init_5 rfl (lv_at hl 0 rfl) ?_
  refine g_obj S hl.1 q1311 dJ40_init_6 (Nat.le_of_ble_eq_true rfl) (Nat.le_of_ble_eq_true rfl) ?_
  refine lv_aload_n hx hb dJ40_init_9 rfl (lv_at hl 0 rfl) ?_
  refine g_new S hK I ju iu k_J32 q1312 q958 q167 (fs := [.null, .null, .int 0, .int 0, .null]) (by decide) (Nat.le_of_ble_eq_true rfl) (Nat.le_of_ble_eq_true rfl) dJ40_init_10 (fun u H hfu I => ?_)
  have I : g_I Γ (gput (gput ph jv iu v (.inr (29, [.null, .ref q]))) ju iu u (.inr (26, [.null, .null, .int 0, .int 0, .null]))) s _ _ := I
  refine lv_dup hx hb dJ40_init_13 rfl ?_
  refine lv_aload_n hx hb dJ40_init_14 rfl (lv_at hl 0 rfl) ?_
  refine g_get S hK I k_J40 (v := .ref q) (g_at.of ((g_oj hv3).trans (gput_self _ _ _ _ _))) 1 (by decide) q1316 rfl rfl dJ40_init_15 ?_
  refine lv_aload_n hx hb dJ40_init_18 rfl (lv_at hl 0 rfl) ?_
  refine g_get S hK I k_J40 (v := .ref q) (g_at.of ((g_oj hv3).trans (gput_self _ _ _ _ _))) 1 (by decide) q1316 rfl rfl dJ40_init_19 ?_
  refine g_ci (g_runV S hK I (As := []) (rest := [.ref q, .ref u, .ref u, .ref v]) (met_J24_size l Γ (gput (gput ph jv iu v (.inr (29, [.null, .ref q]))) ju iu u (.inr (26, [.null, .null, .int 0, .int 0, .null]))) j i q mc (nI n) (lkF n na) (lkL n na) ((g_oj (Ne.symm hj1)).trans ((g_oj (Ne.symm hv1)).trans hq))) (cwV 0 hts (lw_V q1313 q767 q768 q148 q769) rfl rfl rfl (by decide +kernel) ⟨Nat.le_of_ble_eq_true rfl, Nat.le_of_ble_eq_true rfl⟩) (g_recv hK I (g_at.of ((g_oj (Ne.symm hj1)).trans ((g_oj (Ne.symm hv1)).trans hq))) (ci := 24) rfl) rfl hl.1 rfl (Nat.le_of_ble_eq_true rfl) dJ40_init_22 ⟨Nat.le_of_ble_eq_true rfl, Nat.le_of_ble_eq_true rfl⟩) I (fun r_22 ph1 H locs hp I => ?_)
  obtain ⟨hp, hph⟩ := hp
  rw [hph] at I
  rw [hp]
  have hL9 : g_LL (gput (gput ph jv iu v (.inr (29, [.null, .ref q]))) ju iu u (.inr (26, [.null, .null, .int 0, .int 0, .null]))) j i q jn n na it mc := ⟨((g_oj (Ne.symm hj1)).trans ((g_oj (Ne.symm hv1)).trans hq)), fun x hx => ((g_oj (Ne.symm hj2)).trans ((g_oj (Ne.symm hv2)).trans (hL.2.1 x hx))), hL.2.2⟩
  refine g_cv (g_runI S hK I (As := [.ref q, .int (nI n)]) (rest := [.ref u, .ref v]) (met_J32_init l Γ (gput (gput ph jv iu v (.inr (29, [.null, .ref q]))) ju iu u (.inr (26, [.null, .null, .int 0, .int 0, .null]))) j i q jn n n na it mc ju iu u hL9 (Nat.le_refl _) hn (gput_self _ _ _ _ _) hj1 hj2) (cwI 2 hts (lw_meth q961) rfl rfl rfl (hts _ q167) (hts _ q1314) (hts _ q960) rfl (by decide +kernel) ⟨Nat.le_of_ble_eq_true rfl, Nat.le_of_ble_eq_true rfl⟩) rfl hl.1 rfl (Nat.le_of_ble_eq_true rfl) dJ40_init_25 ⟨Nat.le_of_ble_eq_true rfl, Nat.le_of_ble_eq_true rfl⟩) I (fun ph1 H locs hp I => ?_)
  obtain ⟨hp1, hp2⟩ := hp
  rw [show lkK n n na = .null from if_neg (Nat.lt_irrefl _)] at hp1
  have hv5 := hp2.at (by simp [hv3]) ((g_oj hv3).trans (gput_self _ _ _ _ _))
  have hf5 : g_fr [(ju, iu), (jv, iu)] ph ph1 := ((g_fr.put (g_fr.put (g_fr.refl _ _) (by simp)) (by simp))).trans (hp2.mono (by simp))
  refine g_putF S hK I k_J40 (v := .ref u) hv5 0 (by decide) q1315 rfl rfl hnm rfl rfl (Nat.le_of_ble_eq_true rfl) dJ40_init_28 (fun H locs I => ?_)
  have I : g_I Γ (gput ph1 jv iu v (.inr (29, [.ref u, .ref q]))) s _ _ := I
  exact g_vret S hr hlk I dJ40_init_31 (Nat.le_of_ble_eq_true rfl) (Nat.le_of_ble_eq_true rfl) hQ ⟨rfl, ⟨u, (gput_self _ _ _ _ _), ((g_oj (Ne.symm hv3)).trans hp1), hf5.put (by simp)⟩⟩

set_option maxHeartbeats 4000000 in
set_option maxRecDepth 100000 in
theorem met_J24_descendingIterator (l : Launch) (Γ : g_C) (ph : g_H) (j i q jn n : Nat) (na it : Nat → Nat) (mc : Int32) (ju iu jv : Nat)   (hL : g_LL ph j i q jn n na it mc) (hn : n < 2 ^ 31) (hj1 : ju ≠ j) (hj2 : ju ≠ jn) (hv1 : jv ≠ j) (hv2 : jv ≠ jn) (hv3 : jv ≠ ju) : g_Met l yJ24_descendingIterator (ws_ yJ24_descendingIterator cJ24_descendingIterator 1 (some (.object "java/util/Iterator"))) (g_rm 4 2 7) Γ [.ref q] (ph) (g_or (fun v ph' => (∀ j i, ph j i v = none) ∧ ∃ u, ph' jv iu v = some (.inr (29, [.ref u, .ref q])) ∧ ph' ju iu u = some (.inr (26, [.null, .null, .int (nI n), .int mc, .ref q])) ∧ g_fr [(ju, iu), (jv, iu)] ph ph')) g_no := by
  refine g_start (y := yJ24_descendingIterator) (cc := cJ24_descendingIterator) (maxL := 1) (ret := (some (.object "java/util/Iterator"))) (rm := g_rm 4 2 7) (by decide) (Nat.le_of_ble_eq_true rfl) ?_
  intro p e s m A below meth c ls Q hQ S hr hlk hex hnm hK I hl
  have hx := S.1
  have hb := S.2.1
  have hown := S.2.2.2.1
  have hts := S.2.2.2.2
  have S : CallFix p m c cJ24_descendingIterator 1 s A lw_all "java/util/LinkedList" := S
  have hl : lv_has ls 1 [(0, .ref q)] := hl
  have hq := hL.1
  refine g_new S hK I jv iu k_J40 q1306 q1307 q177 (fs := [.null, .null]) (by decide) (Nat.le_of_ble_eq_true rfl) (Nat.le_of_ble_eq_true rfl) dJ24_descendingIterator_0 (fun v H hfv I => ?_)
  have I : g_I Γ (gput ph jv iu v (.inr (29, [.null, .null]))) s _ _ := I
  refine lv_dup hx hb dJ24_descendingIterator_3 rfl ?_
  refine lv_aload_n hx hb dJ24_descendingIterator_4 rfl (lv_at hl 0 rfl) ?_
  have hL9 : g_LL (gput ph jv iu v (.inr (29, [.null, .null]))) j i q jn n na it mc := ⟨((g_oj (Ne.symm hv1)).trans hq), fun x hx => (g_oj (Ne.symm hv2)).trans (hL.2.1 x hx), hL.2.2⟩
  refine g_cv (g_runIN S hK I (As := [.ref q]) (rest := [.ref v]) (met_J40_init l Γ (gput ph jv iu v (.inr (29, [.null, .null]))) j i q jn n na it mc ju iu jv v hL9 hn hj1 hj2 hv1 hv2 hv3 (gput_self _ _ _ _ _)) ⟨va_cnB 1 hts (lw_meth q1310) rfl rfl rfl (hK.N q1308 rfl) (hts _ q177) (by decide +kernel) ⟨Nat.le_of_ble_eq_true rfl, Nat.le_of_ble_eq_true rfl⟩, rfl, hts _ q1309⟩ rfl hl.1 rfl (Nat.le_of_ble_eq_true rfl) dJ24_descendingIterator_5 ⟨Nat.le_of_ble_eq_true rfl, Nat.le_of_ble_eq_true rfl⟩) I (fun ph1 H locs hp I => ?_)
  exact g_aret S hr (Or.inl ⟨_, rfl⟩) hlk I dJ24_descendingIterator_8 (Nat.le_of_ble_eq_true rfl) (Nat.le_of_ble_eq_true rfl) hQ ⟨_, rfl, (by obtain ⟨u, h1, h2, h3⟩ := hp; exact ⟨hfv, u, h1, h2, ((g_fr.refl _ _).put (by simp)).trans h3⟩)⟩

set_option maxHeartbeats 4000000 in
set_option maxRecDepth 100000 in
theorem met_J32_hasPrevious (l : Launch) (Γ : g_C) (ph : g_H) (j i q n : Nat) (na : Nat → Nat) (mc : Int32) (ju iu u k : Nat) (lr nx : Value)  (hu : ph ju iu u = some (.inr (26, [lr, nx, .int (nI k), .int mc, .ref q]))) (hk : k < 2 ^ 31) : g_Met l yJ32_hasPrevious (ws_ yJ32_hasPrevious cJ32_hasPrevious 1 (some .boolean)) (g_rm 1 0 0) Γ [.ref u] (ph) (g_oi (fun rv_ ph' => rv_ = (b2i (decide (0 < k))) ∧ ph' = ph)) g_no := by
  refine g_start (y := yJ32_hasPrevious) (cc := cJ32_hasPrevious) (maxL := 1) (ret := (some .boolean)) (rm := g_rm 1 0 0) (by decide) (Nat.le_of_ble_eq_true rfl) ?_
  intro p e s m A below meth c ls Q hQ S hr hlk hex hnm hK I hl
  have hx := S.1
  have hb := S.2.1
  have hown := S.2.2.2.1
  have hts := S.2.2.2.2
  have S : CallFix p m c cJ32_hasPrevious 1 s A lw_all "java/util/LinkedList$ListItr" := S
  have hl : lv_has ls 1 [(0, .ref u)] := hl
  refine lv_aload_n hx hb dJ32_hasPrevious_0 rfl (lv_at hl 0 rfl) ?_
  refine g_get S hK I k_J32 (v := .int (nI k)) (g_at.of hu) 2 (by decide) q966 rfl rfl dJ32_hasPrevious_1 ?_
  refine lv_if_le (tgt := 11) hx hb dJ32_hasPrevious_4 (by decide) (fun c_4 => ?_) (fun c_4 => ?_)
  · have n_4 := Int32.not_lt.mpr c_4
    refine lv_iconst (v := 0) hx hb dJ32_hasPrevious_11 (by decide) ?_
    exact g_zret S hr hlk I rfl dJ32_hasPrevious_12 (Nat.le_of_ble_eq_true rfl) (Nat.le_of_ble_eq_true rfl) hQ ⟨_, rfl, (by rw [decide_eq_false (show ¬ 0 < k from by have z := c_4; rw [show (0 : Int32) = nI 0 from rfl, nI_leI hk (by decide)] at z; omega)]; rfl), rfl⟩
  · have n_4 := Int32.not_le.mp c_4
    refine lv_iconst (v := 1) hx hb dJ32_hasPrevious_7 (by decide) ?_
    refine lv_goto (tgt := 12) hx hb dJ32_hasPrevious_8 (by decide) ?_
    exact g_zret S hr hlk I rfl dJ32_hasPrevious_12 (Nat.le_of_ble_eq_true rfl) (Nat.le_of_ble_eq_true rfl) hQ ⟨_, rfl, (by rw [decide_eq_true (show 0 < k from by have z := c_4; rw [show (0 : Int32) = nI 0 from rfl, nI_leI hk (by decide)] at z; omega)]; rfl), rfl⟩

set_option maxHeartbeats 4000000 in
set_option maxRecDepth 100000 in
theorem met_J32_previous_0 (l : Launch) (Γ : g_C) (ph : g_H) (j i q jn n : Nat) (na it : Nat → Nat) (mc : Int32) (ju iu u k : Nat) (lr : Value)   (hL : g_LL ph j i q jn n na it mc) (hu : ph ju iu u = some (.inr (26, [lr, lkK (k + 1) n na, .int (nI (k + 1)), .int mc, .ref q]))) (hn : n < 2 ^ 31) (hkn : k < n) (hj1 : ju ≠ j) (hj2 : ju ≠ jn) (hls : n = k + 1) : g_Met l yJ32_previous (ws_ yJ32_previous cJ32_previous 1 (some (.object "java/lang/Object"))) (g_rm 2 0 0) Γ [.ref u] (ph) (g_or (fun rv_ ph' => rv_ = it k ∧ ph' ju iu u = some (.inr (26, [.ref (na k), .ref (na k), .int (nI k), .int mc, .ref q])) ∧ g_fr [(ju, iu)] ph ph')) g_no := by
  refine g_start (y := yJ32_previous) (cc := cJ32_previous) (maxL := 1) (ret := (some (.object "java/lang/Object"))) (rm := g_rm 2 0 0) (by decide) (Nat.le_of_ble_eq_true rfl) ?_
  intro p e s m A below meth c ls Q hQ S hr hlk hex hnm hK I hl
  have hx := S.1
  have hb := S.2.1
  have hown := S.2.2.2.1
  have hts := S.2.2.2.2
  have S : CallFix p m c cJ32_previous 1 s A lw_all "java/util/LinkedList$ListItr" := S
  have hl : lv_has ls 1 [(0, .ref u)] := hl
  have hq : ph j i q = some (.inr (24, [.int mc, .int (nI n), lkF n na, .ref (na k)])) := by have z := hL.1; rw [show lkL n na = .ref (na k) from by rw [hls]; rfl] at z; exact z
  have hu9 : ph ju iu u = some (.inr (26, [lr, .null, .int (nI (k + 1)), .int mc, .ref q])) := by have z := hu; rw [show lkK (k + 1) n na = .null from if_neg (by omega)] at z; exact z
  have hxk := hL.2.1 k hkn
  refine lv_aload_n hx hb dJ32_previous_0 rfl (lv_at hl 0 rfl) ?_
  refine g_cv (g_runV S hK I (As := []) (rest := []) (met_J32_checkForComodification l Γ ph j i q jn n na it mc ju iu u (k + 1) lr hL hu) (cwV 0 hts (lw_V q1187 q1188 q1189 q167 q1190) rfl rfl rfl (by decide +kernel) ⟨Nat.le_of_ble_eq_true rfl, Nat.le_of_ble_eq_true rfl⟩) (g_recv hK I (g_at.of hu) (ci := 26) rfl) rfl hl.1 rfl (Nat.le_of_ble_eq_true rfl) dJ32_previous_1 ⟨Nat.le_of_ble_eq_true rfl, Nat.le_of_ble_eq_true rfl⟩) I (fun ph1 H locs hp I => ?_)
  rw [hp] at I
  refine lv_aload_n hx hb dJ32_previous_4 rfl (lv_at hl 0 rfl) ?_
  refine g_ci (g_runV S hK I (As := []) (rest := []) (met_J32_hasPrevious l Γ ph j i q n na mc ju iu u (k + 1) lr (lkK (k + 1) n na) hu (by omega)) (cwV 0 hts (lw_V q1191 q1010 q1011 q167 q1012) rfl rfl rfl (by decide +kernel) ⟨Nat.le_of_ble_eq_true rfl, Nat.le_of_ble_eq_true rfl⟩) (g_recv hK I (g_at.of hu) (ci := 26) rfl) rfl hl.1 rfl (Nat.le_of_ble_eq_true rfl) dJ32_previous_5 ⟨Nat.le_of_ble_eq_true rfl, Nat.le_of_ble_eq_true rfl⟩) I (fun r_5 ph1 H locs hp I => ?_)
  obtain ⟨hp, hph⟩ := hp
  rw [hph] at I
  rw [hp, decide_eq_true (Nat.succ_pos k)]
  refine lv_if_ne (tgt := 19) hx hb dJ32_previous_8 (by decide) (fun _ => ?_) (fun q => absurd q (by decide))
  refine lv_aload_n hx hb dJ32_previous_19 rfl (lv_at hl 0 rfl) ?_
  refine lv_aload_n hx hb dJ32_previous_20 rfl (lv_at hl 0 rfl) ?_
  refine lv_aload_n hx hb dJ32_previous_21 rfl (lv_at hl 0 rfl) ?_
  refine g_get S hK I k_J32 (v := .null) (g_at.of hu9) 1 (by decide) q965 rfl rfl dJ32_previous_22 ?_
  refine lv_ifnonnullN hx hb dJ32_previous_25 ?_
  refine lv_aload_n hx hb dJ32_previous_28 rfl (lv_at hl 0 rfl) ?_
  refine g_get S hK I k_J32 (v := .ref q) (g_at.of hu9) 4 (by decide) q968 rfl rfl dJ32_previous_29 ?_
  refine g_get S hK I k_J24 (v := .ref (na k)) (g_at.of hq) 3 (by decide) q627 rfl rfl dJ32_previous_32 ?_
  refine lv_goto (tgt := 45) hx hb dJ32_previous_35 (by decide) ?_
  refine lv_dup_x1 hx hb dJ32_previous_45 rfl rfl ?_
  refine g_put S hK I k_J32 (v := .ref (na k)) hu9 1 (by decide) q965 rfl rfl rfl rfl (Nat.le_of_ble_eq_true rfl) dJ32_previous_46 (fun H locs I => ?_)
  have I : g_I Γ (gput ph ju iu u (.inr (26, [lr, .ref (na k), .int (nI (k + 1)), .int mc, .ref q]))) s _ _ := I
  refine g_put S hK I k_J32 (v := .ref (na k)) (gput_self _ _ _ _ _) 0 (by decide) q964 rfl rfl rfl rfl (Nat.le_of_ble_eq_true rfl) dJ32_previous_49 (fun H locs I => ?_)
  have I : g_I Γ (gput (gput ph ju iu u (.inr (26, [lr, .ref (na k), .int (nI (k + 1)), .int mc, .ref q]))) ju iu u (.inr (26, [.ref (na k), .ref (na k), .int (nI (k + 1)), .int mc, .ref q]))) s _ _ := I
  refine lv_aload_n hx hb dJ32_previous_52 rfl (lv_at hl 0 rfl) ?_
  refine lv_dup hx hb dJ32_previous_53 rfl ?_
  refine g_get S hK I k_J32 (v := .int (nI (k + 1))) (g_at.of (gput_self _ _ _ _ _)) 2 (by decide) q966 rfl rfl dJ32_previous_54 ?_
  refine lv_iconst (v := 1) hx hb dJ32_previous_57 (by decide) ?_
  refine lv_isub hx hb dJ32_previous_58 ?_
  refine g_put S hK I k_J32 (v := .int ((nI (k + 1)) - 1)) (gput_self _ _ _ _ _) 2 (by decide) q966 rfl rfl rfl rfl (Nat.le_of_ble_eq_true rfl) dJ32_previous_59 (fun H locs I => ?_)
  have I : g_I Γ (gput (gput (gput ph ju iu u (.inr (26, [lr, .ref (na k), .int (nI (k + 1)), .int mc, .ref q]))) ju iu u (.inr (26, [.ref (na k), .ref (na k), .int (nI (k + 1)), .int mc, .ref q]))) ju iu u (.inr (26, [.ref (na k), .ref (na k), .int ((nI (k + 1)) - 1), .int mc, .ref q]))) s _ _ := I
  refine lv_aload_n hx hb dJ32_previous_62 rfl (lv_at hl 0 rfl) ?_
  refine g_get S hK I k_J32 (v := .ref (na k)) (g_at.of (gput_self _ _ _ _ _)) 0 (by decide) q964 rfl rfl dJ32_previous_63 ?_
  refine g_get S hK I k_J34 (v := .ref (it k)) (g_at.of ((g_oj (Ne.symm hj2)).trans ((g_oj (Ne.symm hj2)).trans ((g_oj (Ne.symm hj2)).trans hxk)))) 0 (by decide) q1610 rfl rfl dJ32_previous_66 ?_
  exact g_aret S hr (Or.inl ⟨_, rfl⟩) hlk I dJ32_previous_69 (Nat.le_of_ble_eq_true rfl) (Nat.le_of_ble_eq_true rfl) hQ ⟨_, rfl, ⟨rfl, by rw [← nI_pred k]; exact (gput_self _ _ _ _ _), (g_fr.put (g_fr.put (g_fr.put (g_fr.refl _ _) (by simp)) (by simp)) (by simp))⟩⟩

set_option maxHeartbeats 4000000 in
set_option maxRecDepth 100000 in
theorem met_J32_previous_1 (l : Launch) (Γ : g_C) (ph : g_H) (j i q jn n : Nat) (na it : Nat → Nat) (mc : Int32) (ju iu u k : Nat) (lr : Value)   (hL : g_LL ph j i q jn n na it mc) (hu : ph ju iu u = some (.inr (26, [lr, lkK (k + 1) n na, .int (nI (k + 1)), .int mc, .ref q]))) (hn : n < 2 ^ 31) (hkn : k < n) (hj1 : ju ≠ j) (hj2 : ju ≠ jn) (hls : k + 1 < n) : g_Met l yJ32_previous (ws_ yJ32_previous cJ32_previous 1 (some (.object "java/lang/Object"))) (g_rm 2 0 0) Γ [.ref u] (ph) (g_or (fun rv_ ph' => rv_ = it k ∧ ph' ju iu u = some (.inr (26, [.ref (na k), .ref (na k), .int (nI k), .int mc, .ref q])) ∧ g_fr [(ju, iu)] ph ph')) g_no := by
  refine g_start (y := yJ32_previous) (cc := cJ32_previous) (maxL := 1) (ret := (some (.object "java/lang/Object"))) (rm := g_rm 2 0 0) (by decide) (Nat.le_of_ble_eq_true rfl) ?_
  intro p e s m A below meth c ls Q hQ S hr hlk hex hnm hK I hl
  have hx := S.1
  have hb := S.2.1
  have hown := S.2.2.2.1
  have hts := S.2.2.2.2
  have S : CallFix p m c cJ32_previous 1 s A lw_all "java/util/LinkedList$ListItr" := S
  have hl : lv_has ls 1 [(0, .ref u)] := hl
  have hq : ph j i q = some (.inr (24, [.int mc, .int (nI n), lkF n na, lkL n na])) := hL.1
  have hu9 : ph ju iu u = some (.inr (26, [lr, .ref (na (k + 1)), .int (nI (k + 1)), .int mc, .ref q])) := by have z := hu; rw [show lkK (k + 1) n na = .ref (na (k + 1)) from if_pos hls] at z; exact z
  have hxk := hL.2.1 k hkn
  have hx1 : ph jn i (na (k + 1)) = some (.inr (27, [.ref (it (k + 1)), lkN (k + 1) n na, .ref (na k)])) := hL.2.1 (k + 1) hls
  refine lv_aload_n hx hb dJ32_previous_0 rfl (lv_at hl 0 rfl) ?_
  refine g_cv (g_runV S hK I (As := []) (rest := []) (met_J32_checkForComodification l Γ ph j i q jn n na it mc ju iu u (k + 1) lr hL hu) (cwV 0 hts (lw_V q1187 q1188 q1189 q167 q1190) rfl rfl rfl (by decide +kernel) ⟨Nat.le_of_ble_eq_true rfl, Nat.le_of_ble_eq_true rfl⟩) (g_recv hK I (g_at.of hu) (ci := 26) rfl) rfl hl.1 rfl (Nat.le_of_ble_eq_true rfl) dJ32_previous_1 ⟨Nat.le_of_ble_eq_true rfl, Nat.le_of_ble_eq_true rfl⟩) I (fun ph1 H locs hp I => ?_)
  rw [hp] at I
  refine lv_aload_n hx hb dJ32_previous_4 rfl (lv_at hl 0 rfl) ?_
  refine g_ci (g_runV S hK I (As := []) (rest := []) (met_J32_hasPrevious l Γ ph j i q n na mc ju iu u (k + 1) lr (lkK (k + 1) n na) hu (by omega)) (cwV 0 hts (lw_V q1191 q1010 q1011 q167 q1012) rfl rfl rfl (by decide +kernel) ⟨Nat.le_of_ble_eq_true rfl, Nat.le_of_ble_eq_true rfl⟩) (g_recv hK I (g_at.of hu) (ci := 26) rfl) rfl hl.1 rfl (Nat.le_of_ble_eq_true rfl) dJ32_previous_5 ⟨Nat.le_of_ble_eq_true rfl, Nat.le_of_ble_eq_true rfl⟩) I (fun r_5 ph1 H locs hp I => ?_)
  obtain ⟨hp, hph⟩ := hp
  rw [hph] at I
  rw [hp, decide_eq_true (Nat.succ_pos k)]
  refine lv_if_ne (tgt := 19) hx hb dJ32_previous_8 (by decide) (fun _ => ?_) (fun q => absurd q (by decide))
  refine lv_aload_n hx hb dJ32_previous_19 rfl (lv_at hl 0 rfl) ?_
  refine lv_aload_n hx hb dJ32_previous_20 rfl (lv_at hl 0 rfl) ?_
  refine lv_aload_n hx hb dJ32_previous_21 rfl (lv_at hl 0 rfl) ?_
  refine g_get S hK I k_J32 (v := .ref (na (k + 1))) (g_at.of hu9) 1 (by decide) q965 rfl rfl dJ32_previous_22 ?_
  refine lv_ifnonnull (tgt := 38) hx hb dJ32_previous_25 (by decide) ?_
  refine lv_aload_n hx hb dJ32_previous_38 rfl (lv_at hl 0 rfl) ?_
  refine g_get S hK I k_J32 (v := .ref (na (k + 1))) (g_at.of hu9) 1 (by decide) q965 rfl rfl dJ32_previous_39 ?_
  refine g_get S hK I k_J34 (v := .ref (na k)) (g_at.of hx1) 2 (by decide) q1616 rfl rfl dJ32_previous_42 ?_
  refine lv_dup_x1 hx hb dJ32_previous_45 rfl rfl ?_
  refine g_put S hK I k_J32 (v := .ref (na k)) hu9 1 (by decide) q965 rfl rfl rfl rfl (Nat.le_of_ble_eq_true rfl) dJ32_previous_46 (fun H locs I => ?_)
  have I : g_I Γ (gput ph ju iu u (.inr (26, [lr, .ref (na k), .int (nI (k + 1)), .int mc, .ref q]))) s _ _ := I
  refine g_put S hK I k_J32 (v := .ref (na k)) (gput_self _ _ _ _ _) 0 (by decide) q964 rfl rfl rfl rfl (Nat.le_of_ble_eq_true rfl) dJ32_previous_49 (fun H locs I => ?_)
  have I : g_I Γ (gput (gput ph ju iu u (.inr (26, [lr, .ref (na k), .int (nI (k + 1)), .int mc, .ref q]))) ju iu u (.inr (26, [.ref (na k), .ref (na k), .int (nI (k + 1)), .int mc, .ref q]))) s _ _ := I
  refine lv_aload_n hx hb dJ32_previous_52 rfl (lv_at hl 0 rfl) ?_
  refine lv_dup hx hb dJ32_previous_53 rfl ?_
  refine g_get S hK I k_J32 (v := .int (nI (k + 1))) (g_at.of (gput_self _ _ _ _ _)) 2 (by decide) q966 rfl rfl dJ32_previous_54 ?_
  refine lv_iconst (v := 1) hx hb dJ32_previous_57 (by decide) ?_
  refine lv_isub hx hb dJ32_previous_58 ?_
  refine g_put S hK I k_J32 (v := .int ((nI (k + 1)) - 1)) (gput_self _ _ _ _ _) 2 (by decide) q966 rfl rfl rfl rfl (Nat.le_of_ble_eq_true rfl) dJ32_previous_59 (fun H locs I => ?_)
  have I : g_I Γ (gput (gput (gput ph ju iu u (.inr (26, [lr, .ref (na k), .int (nI (k + 1)), .int mc, .ref q]))) ju iu u (.inr (26, [.ref (na k), .ref (na k), .int (nI (k + 1)), .int mc, .ref q]))) ju iu u (.inr (26, [.ref (na k), .ref (na k), .int ((nI (k + 1)) - 1), .int mc, .ref q]))) s _ _ := I
  refine lv_aload_n hx hb dJ32_previous_62 rfl (lv_at hl 0 rfl) ?_
  refine g_get S hK I k_J32 (v := .ref (na k)) (g_at.of (gput_self _ _ _ _ _)) 0 (by decide) q964 rfl rfl dJ32_previous_63 ?_
  refine g_get S hK I k_J34 (v := .ref (it k)) (g_at.of ((g_oj (Ne.symm hj2)).trans ((g_oj (Ne.symm hj2)).trans ((g_oj (Ne.symm hj2)).trans hxk)))) 0 (by decide) q1610 rfl rfl dJ32_previous_66 ?_
  exact g_aret S hr (Or.inl ⟨_, rfl⟩) hlk I dJ32_previous_69 (Nat.le_of_ble_eq_true rfl) (Nat.le_of_ble_eq_true rfl) hQ ⟨_, rfl, ⟨rfl, by rw [← nI_pred k]; exact (gput_self _ _ _ _ _), (g_fr.put (g_fr.put (g_fr.put (g_fr.refl _ _) (by simp)) (by simp)) (by simp))⟩⟩

theorem met_J32_previous (l : Launch) (Γ : g_C) (ph : g_H) (j i q jn n : Nat) (na it : Nat → Nat) (mc : Int32) (ju iu u k : Nat) (lr : Value) (hL : g_LL ph j i q jn n na it mc) (hu : ph ju iu u = some (.inr (26, [lr, lkK (k + 1) n na, .int (nI (k + 1)), .int mc, .ref q]))) (hn : n < 2 ^ 31) (hkn : k < n) (hj1 : ju ≠ j) (hj2 : ju ≠ jn) : g_Met l yJ32_previous (ws_ yJ32_previous cJ32_previous 1 (some (.object "java/lang/Object"))) (g_rm 2 0 0) Γ [.ref u] ph (g_or (fun rv_ ph' => rv_ = it k ∧ ph' ju iu u = some (.inr (26, [.ref (na k), .ref (na k), .int (nI k), .int mc, .ref q])) ∧ g_fr [(ju, iu)] ph ph')) g_no := by
  by_cases e : n = k + 1
  · exact met_J32_previous_0 l Γ ph j i q jn n na it mc ju iu u k lr hL hu hn hkn hj1 hj2 e
  · exact met_J32_previous_1 l Γ ph j i q jn n na it mc ju iu u k lr hL hu hn hkn hj1 hj2 (by omega)
set_option maxHeartbeats 4000000 in
set_option maxRecDepth 100000 in
theorem met_J40_hasNext (l : Launch) (Γ : g_C) (ph : g_H) (j i q n : Nat) (na : Nat → Nat) (mc : Int32) (ju iu u k jv iv v : Nat) (lr nx : Value)   (hu : ph ju iu u = some (.inr (26, [lr, nx, .int (nI k), .int mc, .ref q]))) (hv : ph jv iv v = some (.inr (29, [.ref u, .ref q]))) (hk : k < 2 ^ 31) : g_Met l yJ40_hasNext (ws_ yJ40_hasNext cJ40_hasNext 1 (some .boolean)) (g_rm 2 0 0) Γ [.ref v] (ph) (g_oi (fun rv_ ph' => rv_ = b2i (decide (0 < k)) ∧ ph' = ph)) g_no := by
  refine g_start (y := yJ40_hasNext) (cc := cJ40_hasNext) (maxL := 1) (ret := (some .boolean)) (rm := g_rm 2 0 0) (by decide) (Nat.le_of_ble_eq_true rfl) ?_
  intro p e s m A below meth c ls Q hQ S hr hlk hex hnm hK I hl
  have hx := S.1
  have hb := S.2.1
  have hown := S.2.2.2.1
  have hts := S.2.2.2.2
  have S : CallFix p m c cJ40_hasNext 1 s A lw_all "java/util/LinkedList$DescendingIterator" := S
  have hl : lv_has ls 1 [(0, .ref v)] := hl
  refine lv_aload_n hx hb dJ40_hasNext_0 rfl (lv_at hl 0 rfl) ?_
  refine g_get S hK I k_J40 (v := .ref u) (g_at.of hv) 0 (by decide) q1315 rfl rfl dJ40_hasNext_1 ?_
  refine g_ci (g_runV S hK I (As := []) (rest := []) (met_J32_hasPrevious l Γ ph j i q n na mc ju iu u k lr nx hu hk) (cwV 0 hts (lw_V q1009 q1010 q1011 q167 q1012) rfl rfl rfl (by decide +kernel) ⟨Nat.le_of_ble_eq_true rfl, Nat.le_of_ble_eq_true rfl⟩) (g_recv hK I (g_at.of hu) (ci := 26) rfl) rfl hl.1 rfl (Nat.le_of_ble_eq_true rfl) dJ40_hasNext_4 ⟨Nat.le_of_ble_eq_true rfl, Nat.le_of_ble_eq_true rfl⟩) I (fun r_4 ph1 H locs hp I => ?_)
  obtain ⟨hp, hph⟩ := hp
  rw [hph] at I
  rw [hp]
  exact g_zret S hr hlk I (b2i_nar _) dJ40_hasNext_7 (Nat.le_of_ble_eq_true rfl) (Nat.le_of_ble_eq_true rfl) hQ ⟨_, rfl, rfl, rfl⟩

set_option maxHeartbeats 4000000 in
set_option maxRecDepth 100000 in
theorem met_J40_next (l : Launch) (Γ : g_C) (ph : g_H) (j i q jn n : Nat) (na it : Nat → Nat) (mc : Int32) (ju iu u k jv iv v : Nat) (lr : Value)   (hL : g_LL ph j i q jn n na it mc) (hu : ph ju iu u = some (.inr (26, [lr, lkK (k + 1) n na, .int (nI (k + 1)), .int mc, .ref q]))) (hn : n < 2 ^ 31) (hkn : k < n) (hj1 : ju ≠ j) (hj2 : ju ≠ jn) (hv : ph jv iv v = some (.inr (29, [.ref u, .ref q]))) : g_Met l yJ40_next (ws_ yJ40_next cJ40_next 1 (some (.object "java/lang/Object"))) (g_rm 3 0 0) Γ [.ref v] (ph) (g_or (fun rv_ ph' => rv_ = it k ∧ ph' ju iu u = some (.inr (26, [.ref (na k), .ref (na k), .int (nI k), .int mc, .ref q])) ∧ g_fr [(ju, iu)] ph ph')) g_no := by
  refine g_start (y := yJ40_next) (cc := cJ40_next) (maxL := 1) (ret := (some (.object "java/lang/Object"))) (rm := g_rm 3 0 0) (by decide) (Nat.le_of_ble_eq_true rfl) ?_
  intro p e s m A below meth c ls Q hQ S hr hlk hex hnm hK I hl
  have hx := S.1
  have hb := S.2.1
  have hown := S.2.2.2.1
  have hts := S.2.2.2.2
  have S : CallFix p m c cJ40_next 1 s A lw_all "java/util/LinkedList$DescendingIterator" := S
  have hl : lv_has ls 1 [(0, .ref v)] := hl
  refine lv_aload_n hx hb dJ40_next_0 rfl (lv_at hl 0 rfl) ?_
  refine g_get S hK I k_J40 (v := .ref u) (g_at.of hv) 0 (by decide) q1315 rfl rfl dJ40_next_1 ?_
  refine g_cr (g_runV S hK I (As := []) (rest := []) (met_J32_previous l Γ ph j i q jn n na it mc ju iu u k lr hL hu hn hkn hj1 hj2) (cwV 0 hts (lw_V q1183 q1184 q1185 q167 q1186) rfl rfl rfl (by decide +kernel) ⟨Nat.le_of_ble_eq_true rfl, Nat.le_of_ble_eq_true rfl⟩) (g_recv hK I (g_at.of hu) (ci := 26) rfl) rfl hl.1 rfl (Nat.le_of_ble_eq_true rfl) dJ40_next_4 ⟨Nat.le_of_ble_eq_true rfl, Nat.le_of_ble_eq_true rfl⟩) I (fun r_4 ph1 H locs hp I => ?_)
  exact g_aret S hr (Or.inl ⟨_, rfl⟩) hlk I dJ40_next_7 (Nat.le_of_ble_eq_true rfl) (Nat.le_of_ble_eq_true rfl) hQ ⟨_, rfl, hp⟩

set_option maxHeartbeats 4000000 in
set_option maxRecDepth 100000 in
theorem met_J1_isEmpty (l : Launch) (Γ : g_C) (ph : g_H) (j i q n : Nat) (mc : Int32) (fv lv : Value)   (hq : ph j i q = some (.inr (24, [.int mc, .int (nI n), fv, lv]))) (hn : n < 2 ^ 31) : g_Met l yJ1_isEmpty (ws_ yJ1_isEmpty cJ1_isEmpty 1 (some .boolean)) (g_rm 2 0 0) Γ [.ref q] (ph) (g_oi (fun rv_ ph' => rv_ = b2i (decide (n = 0)) ∧ ph' = ph)) g_no := by
  refine g_start (y := yJ1_isEmpty) (cc := cJ1_isEmpty) (maxL := 1) (ret := (some .boolean)) (rm := g_rm 2 0 0) (by decide) (Nat.le_of_ble_eq_true rfl) ?_
  intro p e s m A below meth c ls Q hQ S hr hlk hex hnm hK I hl
  have hx := S.1
  have hb := S.2.1
  have hown := S.2.2.2.1
  have hts := S.2.2.2.2
  have S : CallFix p m c cJ1_isEmpty 1 s A lw_all "java/util/AbstractCollection" := S
  have hl : lv_has ls 1 [(0, .ref q)] := hl
  refine lv_aload_n hx hb dJ1_isEmpty_0 rfl (lv_at hl 0 rfl) ?_
  refine g_ci (g_runU S hK I (As := []) (rest := []) (met_J24_size l Γ ph j i q mc (nI n) fv lv hq) (g_cwD hts q769 q148 (by decide) (by decide +kernel) q2120 q3538 (g_declN (hK.N q837 rfl)) q3542 q767 ⟨Nat.le_of_ble_eq_true rfl, Nat.le_of_ble_eq_true rfl⟩) (g_recv hK I (g_at.of hq) (ci := 24) rfl) rfl hl.1 rfl (Nat.le_of_ble_eq_true rfl) dJ1_isEmpty_1 ⟨Nat.le_of_ble_eq_true rfl, Nat.le_of_ble_eq_true rfl⟩) I (fun r_1 ph1 H locs hp I => ?_)
  obtain ⟨hp, hph⟩ := hp
  rw [hph] at I
  rw [hp]
  refine lv_if_ne (tgt := 11) hx hb dJ1_isEmpty_4 (by decide) (fun c_4 => ?_) (fun c_4 => ?_)
  · refine lv_iconst (v := 0) hx hb dJ1_isEmpty_11 (by decide) ?_
    exact g_zret S hr hlk I rfl dJ1_isEmpty_12 (Nat.le_of_ble_eq_true rfl) (Nat.le_of_ble_eq_true rfl) hQ ⟨_, rfl, (by rw [decide_eq_false (show ¬ n = 0 from by intro z; exact c_4 (by rw [z]; rfl))]; rfl), rfl⟩
  · refine lv_iconst (v := 1) hx hb dJ1_isEmpty_7 (by decide) ?_
    refine lv_goto (tgt := 12) hx hb dJ1_isEmpty_8 (by decide) ?_
    exact g_zret S hr hlk I rfl dJ1_isEmpty_12 (Nat.le_of_ble_eq_true rfl) (Nat.le_of_ble_eq_true rfl) hQ ⟨_, rfl, (by rw [decide_eq_true (show n = 0 from by exact nI_inj hn (by decide) c_4)]; rfl), rfl⟩


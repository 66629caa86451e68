/-! HOLDS, places, climbers, lamps: rows and contracts -/
set_option maxRecDepth 100000
theorem TX_8 : TX8 = TX9 := funext fun k => match k with
  | 0 => rfl
  | 1 => rfl
  | 2 => rfl
  | 3 => rfl
  | _ + 4 => rfl
theorem TX_10 : TX10 = TX9 := funext fun k => match k with
  | 0 => rfl
  | 1 => rfl
  | 2 => rfl
  | 3 => rfl
  | _ + 4 => rfl
theorem TX_11 : TX11 = TX9 := funext fun k => match k with
  | 0 => rfl
  | 1 => rfl
  | 2 => rfl
  | 3 => rfl
  | _ + 4 => rfl
theorem hCl_or (kd : Int32) : hCl kd = 7 ∨ hCl kd = 9 ∨ hCl kd = 8 ∨ hCl kd = 6 := by
  unfold hCl
  split
  · exact Or.inl rfl
  · split
    · exact Or.inr (Or.inl rfl)
    · split
      · exact Or.inr (Or.inr (Or.inl rfl))
      · exact Or.inr (Or.inr (Or.inr rfl))
theorem hca_Hold : ∀ C ∈ g_hcs, Cond.castable C "CrumblingWall$Hold" ∈ lw_tbl := List.forall_mem_cons.mpr ⟨q3551, List.forall_mem_cons.mpr ⟨q3552, List.forall_mem_cons.mpr ⟨q3553, List.forall_mem_cons.mpr ⟨q3554, fun _ h => absurd h List.not_mem_nil⟩⟩⟩⟩
theorem hca_Place : ∀ C ∈ g_hcs, Cond.castable C "CrumblingWall$Place" ∈ lw_tbl := List.forall_mem_cons.mpr ⟨q1209, List.forall_mem_cons.mpr ⟨q1224, List.forall_mem_cons.mpr ⟨q1227, List.forall_mem_cons.mpr ⟨q1236, fun _ h => absurd h List.not_mem_nil⟩⟩⟩⟩
theorem hca_Object : ∀ C ∈ g_hcs, Cond.castable C "java/lang/Object" ∈ lw_tbl := List.forall_mem_cons.mpr ⟨q3563, List.forall_mem_cons.mpr ⟨q3560, List.forall_mem_cons.mpr ⟨q3562, List.forall_mem_cons.mpr ⟨q3561, fun _ h => absurd h List.not_mem_nil⟩⟩⟩⟩
section HR
variable {p : Program} {l : Launch} {e : Env} {R : Room} {s : State} {m : MethodId} {args : Array Value} {below : List Frame} {meth : Method} {c : Code} {H : Heap} {locs : List Loc} {cells slots : Nat} {Q : State → Prop}
variable {cc : ByteArray} {pc : Nat} {ls : Array Slot} {rest : List Value} {Γ : g_C} {ph : g_H} {a nL : Nat} {own : String}
theorem h_get (S : CallFix p m c cc nL s args lw_all own) (hK : g_K Γ s) (I : g_I Γ ph s H locs) {kd : Int32} {fs : List Value} (ha : g_at Γ ph a (.inr (hCl kd, fs))) (k : Nat) (hk : k < 5) {ref : String} {index : Nat} (hl : Cond.fieldLink own index ref (TX9 k).2.1 (TX9 k).2.2.1 ∈ lw_all) (hr : (TX9 k).1 = ref) {v : Value} (hv : fs[k]? = some v) (hdg : decode cc pc = .ok (.getfield index, 3))
    (kk : W p l e R s m args below meth c H locs cells slots Q (F0 m (pc + 3) ls (v :: rest))) : W p l e R s m args below meth c H locs cells slots Q (F0 m pc ls (.ref a :: rest)) := by
  rcases hCl_or kd with e | e | e | e <;> rw [e] at ha
  · exact g_get S hK I k_X9 ha k hk hl hr hv hdg kk
  · exact g_get S hK I k_X11 ha k hk (by rw [TX_11]; exact hl) (by rw [TX_11]; exact hr) hv hdg kk
  · exact g_get S hK I k_X10 ha k hk (by rw [TX_10]; exact hl) (by rw [TX_10]; exact hr) hv hdg kk
  · exact g_get S hK I k_X8 ha k hk (by rw [TX_8]; exact hl) (by rw [TX_8]; exact hr) hv hdg kk
theorem h_put (S : CallFix p m c cc nL s args lw_all own) (hK : g_K Γ s) (I : g_I Γ ph s H locs) {kd : Int32} {j i : Nat} {v0 v1 v2 v3 v4 v : Value} {x : Int32} (hvx : v = .int x) (ha : ph j i a = some (.inr (hCl kd, [v0, v1, v2, v3, v4]))) {ref : String} {index : Nat} (hl : Cond.fieldLink own index ref "wear" "I" ∈ lw_all) (hr : "CrumblingWall$Hold" = ref) (hdg : decode cc pc = .ok (.putfield index, 3))
    (kk : ∀ (H1 : Heap) (locs1 : List Loc), g_I Γ (gput ph j i a (.inr (hCl kd, [v0, v1, v2, v3, v]))) s H1 locs1 → W p l e R s m args below meth c H1 locs1 cells slots Q (F0 m (pc + 3) ls rest)) : W p l e R s m args below meth c H locs cells slots Q (F0 m pc ls (v :: .ref a :: rest)) := by
  subst hvx
  rcases hCl_or kd with e | e | e | e <;> rw [e] at ha kk
  · exact g_put S hK I k_X9 (v := .int x) ha 4 (by decide) hl hr rfl rfl rfl (Nat.le_of_ble_eq_true rfl) hdg kk
  · exact g_put S hK I k_X11 (v := .int x) ha 4 (by decide) hl hr rfl rfl rfl (Nat.le_of_ble_eq_true rfl) hdg kk
  · exact g_put S hK I k_X10 (v := .int x) ha 4 (by decide) hl hr rfl rfl rfl (Nat.le_of_ble_eq_true rfl) hdg kk
  · exact g_put S hK I k_X8 (v := .int x) ha 4 (by decide) hl hr rfl rfl rfl (Nat.le_of_ble_eq_true rfl) hdg kk
/-- a hold of the wall, by its kind -/
def hoO (ph : g_H) (J i a : Nat) (kd : Int32) : Prop := ∃ fs, (kd = 0 ∧ ph J i a = some (.inr (7, fs))) ∨ (kd = 1 ∧ ph J i a = some (.inr (9, fs))) ∨ (kd = 2 ∧ ph J i a = some (.inr (8, fs))) ∨ (kd = 3 ∧ ph J i a = some (.inr (6, fs)))
theorem ho_or {i : Nat} {ad na : Nat → Nat} {mc : Nat → Int32} {w : m_w} (hW : g_Wl Γ ph i ad na mc w) (hw : WF w) {k : Nat} (hk : k < nN w) : hoO ph (130 + k) i (ad (30 + k)) (w (1 + 5 * k + 2)) := by
  obtain ⟨-, -, q, hq, e⟩ := hw.2.2.2.2.1 k hk
  have h := hW.ho hk
  unfold hoE at h
  rw [e] at h ⊢
  refine ⟨[.int (nI k), .int (w (1 + 5 * k)), .int (w (1 + 5 * k + 1)), .int (w (1 + 5 * k + 3)), .int (w (1 + 5 * k + 4))], ?_⟩
  rcases (show q = 0 ∨ q = 1 ∨ q = 2 ∨ q = 3 by omega) with rfl | rfl | rfl | rfl
  · exact Or.inl ⟨rfl, h⟩
  · exact Or.inr (Or.inl ⟨rfl, h⟩)
  · exact Or.inr (Or.inr (Or.inl ⟨rfl, h⟩))
  · exact Or.inr (Or.inr (Or.inr ⟨rfl, h⟩))
theorem ho_st {J i a : Nat} {kd : Int32} (h : hoO ph J i a kd) : g_st Γ ph a := by
  obtain ⟨fs, ⟨-, h⟩ | ⟨-, h⟩ | ⟨-, h⟩ | ⟨-, h⟩⟩ := h
  · exact g_st.of (ci := 7) rfl (hca_Object _ (by decide)) h
  · exact g_st.of (ci := 9) rfl (hca_Object _ (by decide)) h
  · exact g_st.of (ci := 8) rfl (hca_Object _ (by decide)) h
  · exact g_st.of (ci := 6) rfl (hca_Object _ (by decide)) h
theorem h_cast (S : CallFix p m c cc nL s args lw_all own) (hK : g_K Γ s) (I : g_I Γ ph s H locs) {J i : Nat} {kd : Int32} (h : hoO ph J i a kd) {nm : String} {index : Nat} (hl : Cond.classLink own index nm ∈ lw_all) (hca : ∀ C ∈ g_hcs, Cond.castable C nm ∈ lw_tbl) (hdg : decode cc pc = .ok (.checkcast index, 3))
    (kk : W p l e R s m args below meth c H locs cells slots Q (F0 m (pc + 3) ls (.ref a :: rest))) : W p l e R s m args below meth c H locs cells slots Q (F0 m pc ls (.ref a :: rest)) := by
  obtain ⟨fs, ⟨-, h⟩ | ⟨-, h⟩ | ⟨-, h⟩ | ⟨-, h⟩⟩ := h
  · exact g_cast_ S hK hl (hca _ (by decide)) (g_recv hK I (g_at.of h) (ci := 7) rfl) hdg kk
  · exact g_cast_ S hK hl (hca _ (by decide)) (g_recv hK I (g_at.of h) (ci := 9) rfl) hdg kk
  · exact g_cast_ S hK hl (hca _ (by decide)) (g_recv hK I (g_at.of h) (ci := 8) rfl) hdg kk
  · exact g_cast_ S hK hl (hca _ (by decide)) (g_recv hK I (g_at.of h) (ci := 6) rfl) hdg kk
theorem h_inst (S : CallFix p m c cc nL s args lw_all own) (hK : g_K Γ s) (I : g_I Γ ph s H locs) {J i : Nat} {kd : Int32} (h : hoO ph J i a kd) {nm : String} {index : Nat} (hl : Cond.classLink own index nm ∈ lw_all) (hca : ∀ C ∈ g_hcs, Cond.castable C nm ∈ lw_tbl) (hdg : decode cc pc = .ok (.instanceof index, 3))
    (kk : W p l e R s m args below meth c H locs cells slots Q (F0 m (pc + 3) ls (.int 1 :: rest))) : W p l e R s m args below meth c H locs cells slots Q (F0 m pc ls (.ref a :: rest)) := by
  obtain ⟨fs, ⟨-, h⟩ | ⟨-, h⟩ | ⟨-, h⟩ | ⟨-, h⟩⟩ := h
  · exact g_inst S hK hl (hca _ (by decide)) (g_recv hK I (g_at.of h) (ci := 7) rfl) hdg kk
  · exact g_inst S hK hl (hca _ (by decide)) (g_recv hK I (g_at.of h) (ci := 9) rfl) hdg kk
  · exact g_inst S hK hl (hca _ (by decide)) (g_recv hK I (g_at.of h) (ci := 8) rfl) hdg kk
  · exact g_inst S hK hl (hca _ (by decide)) (g_recv hK I (g_at.of h) (ci := 6) rfl) hdg kk
theorem g_instN (S : CallFix p m c cc nL s args lw_all own) (hK : g_K Γ s) {C nm : String} {index : Nat} (hl : Cond.classLink own index nm ∈ lw_all) (hnc : va_Nc C nm s) (hr : ∃ cell : Cell, H[a]? = some cell ∧ cell.vm.isStatics = false ∧ s.vm.findClass C = some cell.cls) (hdg : decode cc pc = .ok (.instanceof index, 3))
    (kk : W p l e R s m args below meth c H locs cells slots Q (F0 m (pc + 3) ls (.int 0 :: rest))) : W p l e R s m args below meth c H locs cells slots Q (F0 m pc ls (.ref a :: rest)) :=
  va_instNo S.1 S.2.1 S.2.2.2.1 (S.2.2.2.2 _ hl) hnc hr hdg kk
/-- a cached Integer is one -/
theorem g_castI (S : CallFix p m c cc nL s args lw_all own) (hK : g_K Γ s) {index : Nat} (hl : Cond.classLink own index "java/lang/Integer" ∈ lw_all) (hr : ∃ cell : Cell, H[a]? = some cell ∧ cell.vm.isStatics = false ∧ s.vm.findClass "java/lang/Integer" = some cell.cls) (hdg : decode cc pc = .ok (.checkcast index, 3))
    (kk : W p l e R s m args below meth c H locs cells slots Q (F0 m (pc + 3) ls (.ref a :: rest))) : W p l e R s m args below meth c H locs cells slots Q (F0 m pc ls (.ref a :: rest)) :=
  g_castS S hK (ci := 23) rfl hl hr hdg kk
end HR
/-- a place's object by what it is -/
def plO (ph : g_H) (i : Nat) (ad : Nat → Nat) (w : m_w) (p : Int32) : Prop := (p = -1 ∧ ∃ fs, ph 107 i (plA ad p) = some (.inr (3, fs))) ∨ (¬ p = -1 ∧ p.toNatClampNeg < nN w ∧ nI p.toNatClampNeg = p ∧ plA ad p = ad (30 + p.toNatClampNeg) ∧ hoO ph (130 + p.toNatClampNeg) i (plA ad p) (hX w p 2))
theorem pl_or {Γ : g_C} {ph : g_H} {i : Nat} {ad na : Nat → Nat} {mc : Nat → Int32} {w : m_w} (hW : g_Wl Γ ph i ad na mc w) (hw : WF w) {p : Int32} (hp : okP w p) : plO ph i ad w p := by
  by_cases e : p = -1
  · refine Or.inl ⟨e, [], ?_⟩
    unfold plA
    rw [if_pos e]
    exact hW.o7
  · obtain ⟨q, h1, h2, h3⟩ := vp_j (hp.resolve_left e) (Nat.lt_of_le_of_lt hw.1.2 (by decide))
    refine Or.inr ⟨e, by rw [h3]; exact h1, by rw [h3]; exact h2.symm, if_neg e, ?_⟩
    unfold plA hX
    rw [if_neg e, h3]
    exact ho_or hW hw h1
theorem plA_h {ad : Nat → Nat} {k : Nat} (h : k < 2 ^ 31) : plA ad (nI k) = ad (30 + k) := by
  unfold plA
  rw [if_neg (fun e => by have := congrArg Int32.toInt e; rw [nI_int h] at this; have e1 : (-1 : Int32).toInt = -1 := rfl; omega), nI_clamp h]
theorem okP_h {w : m_w} {k : Nat} (h : k < nN w) (hw : WF w) : okP w (nI k) := Or.inr (vp_in_nI h (Nat.lt_of_le_of_lt hw.1.2 (by decide)))
def rowP (w : m_w) (p : Int32) : Int32 := if p = -1 then 0 else hX w p 1
def asd (w : m_w) (x y : Int32) : Int32 := if x = -1 ∨ y = -1 then 0 else sz (hX w x 0 - hX w y 0)
def uod (w : m_w) (x y : Int32) : Int32 := sz (rowP w x - rowP w y)
theorem nI_m1 {k : Nat} (h : k < 2 ^ 31) : ¬ nI k = -1 := fun e => by
  have := congrArg Int32.toInt e
  rw [nI_int h] at this
  have e1 : (-1 : Int32).toInt = -1 := rfl
  omega
theorem dst_eq {w : m_w} {x y : Int32} (hx : ¬ x = -1) (hy : ¬ y = -1) : dst w x y = asd w x y + uod w x y := by
  unfold dst asd uod rowP
  rw [if_neg (fun q => hx q.1), if_neg hx, if_neg hy, if_neg (fun q => q.elim hx hy), if_neg hx, if_neg hy]
def wrn (k : Int32) : Int32 := if k = 0 then 1 else if k = 2 then 2 else 0
def wnW (k : Int32) : Int32 := if k = 3 then 0 else 1
set_option maxHeartbeats 4000000 in
set_option maxRecDepth 100000 in
theorem met_X9_kind (l : Launch) (Γ : g_C) (ph : g_H) (q : Nat)    : g_Met l yX9_kind (ws_ yX9_kind cX9_kind 1 (some .int)) (g_rm 1 0 0) Γ [.ref q] (ph) (g_oi (fun rv_ ph' => rv_ = 0 ∧ ph' = ph)) g_no := by
  refine g_start (y := yX9_kind) (cc := cX9_kind) (maxL := 1) (ret := (some .int)) (rm := g_rm 1 0 0) (by decide) (Nat.le_of_ble_eq_true rfl) ?_
  intro p e s m A below meth c ls Q hQ S hr hlk hex hnm hK I hl
  have hx := S.1
  have hb := S.2.1
  have hown := S.2.2.2.1
  have hts := S.2.2.2.2
  have S : CallFix p m c cX9_kind 1 s A lw_all "CrumblingWall$Edge" := S
  have hl : lv_has ls 1 [(0, .ref q)] := hl
  refine lv_iconst (v := 0) hx hb dX9_kind_0 (by decide) ?_
  exact g_iret S hr hlk I dX9_kind_1 (Nat.le_of_ble_eq_true rfl) (Nat.le_of_ble_eq_true rfl) hQ ⟨_, rfl, rfl, rfl⟩

theorem met_X9_kind_k (l : Launch) (Γ : g_C) (ph : g_H) (q : Nat) {kd : Int32} (e9 : kd = 0) : g_Met l yX9_kind (ws_ yX9_kind cX9_kind 1 (some .int)) (g_rm 1 0 0) Γ [.ref q] ph (g_oi (fun rv_ ph' => rv_ = kd ∧ ph' = ph)) g_no := by
  subst e9
  exact met_X9_kind l Γ ph q
set_option maxHeartbeats 4000000 in
set_option maxRecDepth 100000 in
theorem met_X9_worn (l : Launch) (Γ : g_C) (ph : g_H) (q : Nat)    : g_Met l yX9_worn (ws_ yX9_worn cX9_worn 1 (some .int)) (g_rm 1 0 0) Γ [.ref q] (ph) (g_oi (fun rv_ ph' => rv_ = 1 ∧ ph' = ph)) g_no := by
  refine g_start (y := yX9_worn) (cc := cX9_worn) (maxL := 1) (ret := (some .int)) (rm := g_rm 1 0 0) (by decide) (Nat.le_of_ble_eq_true rfl) ?_
  intro p e s m A below meth c ls Q hQ S hr hlk hex hnm hK I hl
  have hx := S.1
  have hb := S.2.1
  have hown := S.2.2.2.1
  have hts := S.2.2.2.2
  have S : CallFix p m c cX9_worn 1 s A lw_all "CrumblingWall$Edge" := S
  have hl : lv_has ls 1 [(0, .ref q)] := hl
  refine lv_iconst (v := 1) hx hb dX9_worn_0 (by decide) ?_
  exact g_iret S hr hlk I dX9_worn_1 (Nat.le_of_ble_eq_true rfl) (Nat.le_of_ble_eq_true rfl) hQ ⟨_, rfl, rfl, rfl⟩

theorem met_X9_worn_k (l : Launch) (Γ : g_C) (ph : g_H) (q : Nat) {kd : Int32} (e9 : kd = 0) : g_Met l yX9_worn (ws_ yX9_worn cX9_worn 1 (some .int)) (g_rm 1 0 0) Γ [.ref q] ph (g_oi (fun rv_ ph' => rv_ = (wrn kd) ∧ ph' = ph)) g_no := by
  subst e9
  exact met_X9_worn l Γ ph q
set_option maxHeartbeats 4000000 in
set_option maxRecDepth 100000 in
theorem met_X9_rest (l : Launch) (Γ : g_C) (ph : g_H) (q : Nat)    : g_Met l yX9_rest (ws_ yX9_rest cX9_rest 1 (some .int)) (g_rm 1 0 0) Γ [.ref q] (ph) (g_oi (fun rv_ ph' => rv_ = 2 ∧ ph' = ph)) g_no := by
  refine g_start (y := yX9_rest) (cc := cX9_rest) (maxL := 1) (ret := (some .int)) (rm := g_rm 1 0 0) (by decide) (Nat.le_of_ble_eq_true rfl) ?_
  intro p e s m A below meth c ls Q hQ S hr hlk hex hnm hK I hl
  have hx := S.1
  have hb := S.2.1
  have hown := S.2.2.2.1
  have hts := S.2.2.2.2
  have S : CallFix p m c cX9_rest 1 s A lw_all "CrumblingWall$Edge" := S
  have hl : lv_has ls 1 [(0, .ref q)] := hl
  refine lv_iconst (v := 2) hx hb dX9_rest_0 (by decide) ?_
  exact g_iret S hr hlk I dX9_rest_1 (Nat.le_of_ble_eq_true rfl) (Nat.le_of_ble_eq_true rfl) hQ ⟨_, rfl, rfl, rfl⟩

theorem met_X9_rest_k (l : Launch) (Γ : g_C) (ph : g_H) (q : Nat) {kd : Int32} (e9 : kd = 0) : g_Met l yX9_rest (ws_ yX9_rest cX9_rest 1 (some .int)) (g_rm 1 0 0) Γ [.ref q] ph (g_oi (fun rv_ ph' => rv_ = (gain kd) ∧ ph' = ph)) g_no := by
  subst e9
  exact met_X9_rest l Γ ph q
set_option maxHeartbeats 4000000 in
set_option maxRecDepth 100000 in
theorem met_X11_kind (l : Launch) (Γ : g_C) (ph : g_H) (q : Nat)    : g_Met l yX11_kind (ws_ yX11_kind cX11_kind 1 (some .int)) (g_rm 1 0 0) Γ [.ref q] (ph) (g_oi (fun rv_ ph' => rv_ = 1 ∧ ph' = ph)) g_no := by
  refine g_start (y := yX11_kind) (cc := cX11_kind) (maxL := 1) (ret := (some .int)) (rm := g_rm 1 0 0) (by decide) (Nat.le_of_ble_eq_true rfl) ?_
  intro p e s m A below meth c ls Q hQ S hr hlk hex hnm hK I hl
  have hx := S.1
  have hb := S.2.1
  have hown := S.2.2.2.1
  have hts := S.2.2.2.2
  have S : CallFix p m c cX11_kind 1 s A lw_all "CrumblingWall$Pocket" := S
  have hl : lv_has ls 1 [(0, .ref q)] := hl
  refine lv_iconst (v := 1) hx hb dX11_kind_0 (by decide) ?_
  exact g_iret S hr hlk I dX11_kind_1 (Nat.le_of_ble_eq_true rfl) (Nat.le_of_ble_eq_true rfl) hQ ⟨_, rfl, rfl, rfl⟩

theorem met_X11_kind_k (l : Launch) (Γ : g_C) (ph : g_H) (q : Nat) {kd : Int32} (e9 : kd = 1) : g_Met l yX11_kind (ws_ yX11_kind cX11_kind 1 (some .int)) (g_rm 1 0 0) Γ [.ref q] ph (g_oi (fun rv_ ph' => rv_ = kd ∧ ph' = ph)) g_no := by
  subst e9
  exact met_X11_kind l Γ ph q
set_option maxHeartbeats 4000000 in
set_option maxRecDepth 100000 in
theorem met_X11_worn (l : Launch) (Γ : g_C) (ph : g_H) (q : Nat)    : g_Met l yX11_worn (ws_ yX11_worn cX11_worn 1 (some .int)) (g_rm 1 0 0) Γ [.ref q] (ph) (g_oi (fun rv_ ph' => rv_ = 0 ∧ ph' = ph)) g_no := by
  refine g_start (y := yX11_worn) (cc := cX11_worn) (maxL := 1) (ret := (some .int)) (rm := g_rm 1 0 0) (by decide) (Nat.le_of_ble_eq_true rfl) ?_
  intro p e s m A below meth c ls Q hQ S hr hlk hex hnm hK I hl
  have hx := S.1
  have hb := S.2.1
  have hown := S.2.2.2.1
  have hts := S.2.2.2.2
  have S : CallFix p m c cX11_worn 1 s A lw_all "CrumblingWall$Pocket" := S
  have hl : lv_has ls 1 [(0, .ref q)] := hl
  refine lv_iconst (v := 0) hx hb dX11_worn_0 (by decide) ?_
  exact g_iret S hr hlk I dX11_worn_1 (Nat.le_of_ble_eq_true rfl) (Nat.le_of_ble_eq_true rfl) hQ ⟨_, rfl, rfl, rfl⟩

theorem met_X11_worn_k (l : Launch) (Γ : g_C) (ph : g_H) (q : Nat) {kd : Int32} (e9 : kd = 1) : g_Met l yX11_worn (ws_ yX11_worn cX11_worn 1 (some .int)) (g_rm 1 0 0) Γ [.ref q] ph (g_oi (fun rv_ ph' => rv_ = (wrn kd) ∧ ph' = ph)) g_no := by
  subst e9
  exact met_X11_worn l Γ ph q
set_option maxHeartbeats 4000000 in
set_option maxRecDepth 100000 in
theorem met_X11_rest (l : Launch) (Γ : g_C) (ph : g_H) (q : Nat)    : g_Met l yX11_rest (ws_ yX11_rest cX11_rest 1 (some .int)) (g_rm 1 0 0) Γ [.ref q] (ph) (g_oi (fun rv_ ph' => rv_ = 4 ∧ ph' = ph)) g_no := by
  refine g_start (y := yX11_rest) (cc := cX11_rest) (maxL := 1) (ret := (some .int)) (rm := g_rm 1 0 0) (by decide) (Nat.le_of_ble_eq_true rfl) ?_
  intro p e s m A below meth c ls Q hQ S hr hlk hex hnm hK I hl
  have hx := S.1
  have hb := S.2.1
  have hown := S.2.2.2.1
  have hts := S.2.2.2.2
  have S : CallFix p m c cX11_rest 1 s A lw_all "CrumblingWall$Pocket" := S
  have hl : lv_has ls 1 [(0, .ref q)] := hl
  refine lv_iconst (v := 4) hx hb dX11_rest_0 (by decide) ?_
  exact g_iret S hr hlk I dX11_rest_1 (Nat.le_of_ble_eq_true rfl) (Nat.le_of_ble_eq_true rfl) hQ ⟨_, rfl, rfl, rfl⟩

theorem met_X11_rest_k (l : Launch) (Γ : g_C) (ph : g_H) (q : Nat) {kd : Int32} (e9 : kd = 1) : g_Met l yX11_rest (ws_ yX11_rest cX11_rest 1 (some .int)) (g_rm 1 0 0) Γ [.ref q] ph (g_oi (fun rv_ ph' => rv_ = (gain kd) ∧ ph' = ph)) g_no := by
  subst e9
  exact met_X11_rest l Γ ph q
set_option maxHeartbeats 4000000 in
set_option maxRecDepth 100000 in
theorem met_X10_kind (l : Launch) (Γ : g_C) (ph : g_H) (q : Nat)    : g_Met l yX10_kind (ws_ yX10_kind cX10_kind 1 (some .int)) (g_rm 1 0 0) Γ [.ref q] (ph) (g_oi (fun rv_ ph' => rv_ = 2 ∧ ph' = ph)) g_no := by
  refine g_start (y := yX10_kind) (cc := cX10_kind) (maxL := 1) (ret := (some .int)) (rm := g_rm 1 0 0) (by decide) (Nat.le_of_ble_eq_true rfl) ?_
  intro p e s m A below meth c ls Q hQ S hr hlk hex hnm hK I hl
  have hx := S.1
  have hb := S.2.1
  have hown := S.2.2.2.1
  have hts := S.2.2.2.2
  have S : CallFix p m c cX10_kind 1 s A lw_all "CrumblingWall$Flake" := S
  have hl : lv_has ls 1 [(0, .ref q)] := hl
  refine lv_iconst (v := 2) hx hb dX10_kind_0 (by decide) ?_
  exact g_iret S hr hlk I dX10_kind_1 (Nat.le_of_ble_eq_true rfl) (Nat.le_of_ble_eq_true rfl) hQ ⟨_, rfl, rfl, rfl⟩

theorem met_X10_kind_k (l : Launch) (Γ : g_C) (ph : g_H) (q : Nat) {kd : Int32} (e9 : kd = 2) : g_Met l yX10_kind (ws_ yX10_kind cX10_kind 1 (some .int)) (g_rm 1 0 0) Γ [.ref q] ph (g_oi (fun rv_ ph' => rv_ = kd ∧ ph' = ph)) g_no := by
  subst e9
  exact met_X10_kind l Γ ph q
set_option maxHeartbeats 4000000 in
set_option maxRecDepth 100000 in
theorem met_X10_worn (l : Launch) (Γ : g_C) (ph : g_H) (q : Nat)    : g_Met l yX10_worn (ws_ yX10_worn cX10_worn 1 (some .int)) (g_rm 1 0 0) Γ [.ref q] (ph) (g_oi (fun rv_ ph' => rv_ = 2 ∧ ph' = ph)) g_no := by
  refine g_start (y := yX10_worn) (cc := cX10_worn) (maxL := 1) (ret := (some .int)) (rm := g_rm 1 0 0) (by decide) (Nat.le_of_ble_eq_true rfl) ?_
  intro p e s m A below meth c ls Q hQ S hr hlk hex hnm hK I hl
  have hx := S.1
  have hb := S.2.1
  have hown := S.2.2.2.1
  have hts := S.2.2.2.2
  have S : CallFix p m c cX10_worn 1 s A lw_all "CrumblingWall$Flake" := S
  have hl : lv_has ls 1 [(0, .ref q)] := hl
  refine lv_iconst (v := 2) hx hb dX10_worn_0 (by decide) ?_
  exact g_iret S hr hlk I dX10_worn_1 (Nat.le_of_ble_eq_true rfl) (Nat.le_of_ble_eq_true rfl) hQ ⟨_, rfl, rfl, rfl⟩

theorem met_X10_worn_k (l : Launch) (Γ : g_C) (ph : g_H) (q : Nat) {kd : Int32} (e9 : kd = 2) : g_Met l yX10_worn (ws_ yX10_worn cX10_worn 1 (some .int)) (g_rm 1 0 0) Γ [.ref q] ph (g_oi (fun rv_ ph' => rv_ = (wrn kd) ∧ ph' = ph)) g_no := by
  subst e9
  exact met_X10_worn l Γ ph q
set_option maxHeartbeats 4000000 in
set_option maxRecDepth 100000 in
theorem met_X10_rest (l : Launch) (Γ : g_C) (ph : g_H) (q : Nat)    : g_Met l yX10_rest (ws_ yX10_rest cX10_rest 1 (some .int)) (g_rm 1 0 0) Γ [.ref q] (ph) (g_oi (fun rv_ ph' => rv_ = 1 ∧ ph' = ph)) g_no := by
  refine g_start (y := yX10_rest) (cc := cX10_rest) (maxL := 1) (ret := (some .int)) (rm := g_rm 1 0 0) (by decide) (Nat.le_of_ble_eq_true rfl) ?_
  intro p e s m A below meth c ls Q hQ S hr hlk hex hnm hK I hl
  have hx := S.1
  have hb := S.2.1
  have hown := S.2.2.2.1
  have hts := S.2.2.2.2
  have S : CallFix p m c cX10_rest 1 s A lw_all "CrumblingWall$Flake" := S
  have hl : lv_has ls 1 [(0, .ref q)] := hl
  refine lv_iconst (v := 1) hx hb dX10_rest_0 (by decide) ?_
  exact g_iret S hr hlk I dX10_rest_1 (Nat.le_of_ble_eq_true rfl) (Nat.le_of_ble_eq_true rfl) hQ ⟨_, rfl, rfl, rfl⟩

theorem met_X10_rest_k (l : Launch) (Γ : g_C) (ph : g_H) (q : Nat) {kd : Int32} (e9 : kd = 2) : g_Met l yX10_rest (ws_ yX10_rest cX10_rest 1 (some .int)) (g_rm 1 0 0) Γ [.ref q] ph (g_oi (fun rv_ ph' => rv_ = (gain kd) ∧ ph' = ph)) g_no := by
  subst e9
  exact met_X10_rest l Γ ph q
set_option maxHeartbeats 4000000 in
set_option maxRecDepth 100000 in
theorem met_X8_kind (l : Launch) (Γ : g_C) (ph : g_H) (q : Nat)    : g_Met l yX8_kind (ws_ yX8_kind cX8_kind 1 (some .int)) (g_rm 1 0 0) Γ [.ref q] (ph) (g_oi (fun rv_ ph' => rv_ = 3 ∧ ph' = ph)) g_no := by
  refine g_start (y := yX8_kind) (cc := cX8_kind) (maxL := 1) (ret := (some .int)) (rm := g_rm 1 0 0) (by decide) (Nat.le_of_ble_eq_true rfl) ?_
  intro p e s m A below meth c ls Q hQ S hr hlk hex hnm hK I hl
  have hx := S.1
  have hb := S.2.1
  have hown := S.2.2.2.1
  have hts := S.2.2.2.2
  have S : CallFix p m c cX8_kind 1 s A lw_all "CrumblingWall$Bolt" := S
  have hl : lv_has ls 1 [(0, .ref q)] := hl
  refine lv_iconst (v := 3) hx hb dX8_kind_0 (by decide) ?_
  exact g_iret S hr hlk I dX8_kind_1 (Nat.le_of_ble_eq_true rfl) (Nat.le_of_ble_eq_true rfl) hQ ⟨_, rfl, rfl, rfl⟩

theorem met_X8_kind_k (l : Launch) (Γ : g_C) (ph : g_H) (q : Nat) {kd : Int32} (e9 : kd = 3) : g_Met l yX8_kind (ws_ yX8_kind cX8_kind 1 (some .int)) (g_rm 1 0 0) Γ [.ref q] ph (g_oi (fun rv_ ph' => rv_ = kd ∧ ph' = ph)) g_no := by
  subst e9
  exact met_X8_kind l Γ ph q
set_option maxHeartbeats 4000000 in
set_option maxRecDepth 100000 in
theorem met_X8_worn (l : Launch) (Γ : g_C) (ph : g_H) (q : Nat)    : g_Met l yX8_worn (ws_ yX8_worn cX8_worn 1 (some .int)) (g_rm 1 0 0) Γ [.ref q] (ph) (g_oi (fun rv_ ph' => rv_ = 0 ∧ ph' = ph)) g_no := by
  refine g_start (y := yX8_worn) (cc := cX8_worn) (maxL := 1) (ret := (some .int)) (rm := g_rm 1 0 0) (by decide) (Nat.le_of_ble_eq_true rfl) ?_
  intro p e s m A below meth c ls Q hQ S hr hlk hex hnm hK I hl
  have hx := S.1
  have hb := S.2.1
  have hown := S.2.2.2.1
  have hts := S.2.2.2.2
  have S : CallFix p m c cX8_worn 1 s A lw_all "CrumblingWall$Bolt" := S
  have hl : lv_has ls 1 [(0, .ref q)] := hl
  refine lv_iconst (v := 0) hx hb dX8_worn_0 (by decide) ?_
  exact g_iret S hr hlk I dX8_worn_1 (Nat.le_of_ble_eq_true rfl) (Nat.le_of_ble_eq_true rfl) hQ ⟨_, rfl, rfl, rfl⟩

theorem met_X8_worn_k (l : Launch) (Γ : g_C) (ph : g_H) (q : Nat) {kd : Int32} (e9 : kd = 3) : g_Met l yX8_worn (ws_ yX8_worn cX8_worn 1 (some .int)) (g_rm 1 0 0) Γ [.ref q] ph (g_oi (fun rv_ ph' => rv_ = (wrn kd) ∧ ph' = ph)) g_no := by
  subst e9
  exact met_X8_worn l Γ ph q
set_option maxHeartbeats 4000000 in
set_option maxRecDepth 100000 in
theorem met_X8_rest (l : Launch) (Γ : g_C) (ph : g_H) (q : Nat)    : g_Met l yX8_rest (ws_ yX8_rest cX8_rest 1 (some .int)) (g_rm 1 0 0) Γ [.ref q] (ph) (g_oi (fun rv_ ph' => rv_ = 3 ∧ ph' = ph)) g_no := by
  refine g_start (y := yX8_rest) (cc := cX8_rest) (maxL := 1) (ret := (some .int)) (rm := g_rm 1 0 0) (by decide) (Nat.le_of_ble_eq_true rfl) ?_
  intro p e s m A below meth c ls Q hQ S hr hlk hex hnm hK I hl
  have hx := S.1
  have hb := S.2.1
  have hown := S.2.2.2.1
  have hts := S.2.2.2.2
  have S : CallFix p m c cX8_rest 1 s A lw_all "CrumblingWall$Bolt" := S
  have hl : lv_has ls 1 [(0, .ref q)] := hl
  refine lv_iconst (v := 3) hx hb dX8_rest_0 (by decide) ?_
  exact g_iret S hr hlk I dX8_rest_1 (Nat.le_of_ble_eq_true rfl) (Nat.le_of_ble_eq_true rfl) hQ ⟨_, rfl, rfl, rfl⟩

theorem met_X8_rest_k (l : Launch) (Γ : g_C) (ph : g_H) (q : Nat) {kd : Int32} (e9 : kd = 3) : g_Met l yX8_rest (ws_ yX8_rest cX8_rest 1 (some .int)) (g_rm 1 0 0) Γ [.ref q] ph (g_oi (fun rv_ ph' => rv_ = (gain kd) ∧ ph' = ph)) g_no := by
  subst e9
  exact met_X8_rest l Γ ph q
set_option maxHeartbeats 4000000 in
set_option maxRecDepth 100000 in
theorem met_X8_isWorn (l : Launch) (Γ : g_C) (ph : g_H) (q : Nat)    : g_Met l yX8_isWorn (ws_ yX8_isWorn cX8_isWorn 1 (some .boolean)) (g_rm 1 0 0) Γ [.ref q] (ph) (g_oi (fun rv_ ph' => rv_ = 0 ∧ ph' = ph)) g_no := by
  refine g_start (y := yX8_isWorn) (cc := cX8_isWorn) (maxL := 1) (ret := (some .boolean)) (rm := g_rm 1 0 0) (by decide) (Nat.le_of_ble_eq_true rfl) ?_
  intro p e s m A below meth c ls Q hQ S hr hlk hex hnm hK I hl
  have hx := S.1
  have hb := S.2.1
  have hown := S.2.2.2.1
  have hts := S.2.2.2.2
  have S : CallFix p m c cX8_isWorn 1 s A lw_all "CrumblingWall$Bolt" := S
  have hl : lv_has ls 1 [(0, .ref q)] := hl
  refine lv_iconst (v := 0) hx hb dX8_isWorn_0 (by decide) ?_
  exact g_zret S hr hlk I rfl dX8_isWorn_1 (Nat.le_of_ble_eq_true rfl) (Nat.le_of_ble_eq_true rfl) hQ ⟨_, rfl, rfl, rfl⟩

set_option maxHeartbeats 4000000 in
set_option maxRecDepth 100000 in
theorem met_X7_isWorn (l : Launch) (Γ : g_C) (ph : g_H) (q : Nat)    : g_Met l yX7_isWorn (ws_ yX7_isWorn cX7_isWorn 1 (some .boolean)) (g_rm 1 0 0) Γ [.ref q] (ph) (g_oi (fun rv_ ph' => rv_ = 1 ∧ ph' = ph)) g_no := by
  refine g_start (y := yX7_isWorn) (cc := cX7_isWorn) (maxL := 1) (ret := (some .boolean)) (rm := g_rm 1 0 0) (by decide) (Nat.le_of_ble_eq_true rfl) ?_
  intro p e s m A below meth c ls Q hQ S hr hlk hex hnm hK I hl
  have hx := S.1
  have hb := S.2.1
  have hown := S.2.2.2.1
  have hts := S.2.2.2.2
  have S : CallFix p m c cX7_isWorn 1 s A lw_all "CrumblingWall$Hold" := S
  have hl : lv_has ls 1 [(0, .ref q)] := hl
  refine lv_iconst (v := 1) hx hb dX7_isWorn_0 (by decide) ?_
  exact g_zret S hr hlk I rfl dX7_isWorn_1 (Nat.le_of_ble_eq_true rfl) (Nat.le_of_ble_eq_true rfl) hQ ⟨_, rfl, rfl, rfl⟩

theorem met_X8_isWorn_k (l : Launch) (Γ : g_C) (ph : g_H) (q : Nat) {kd : Int32} (e9 : kd = 3) : g_Met l yX8_isWorn (ws_ yX8_isWorn cX8_isWorn 1 (some .boolean)) (g_rm 1 0 0) Γ [.ref q] ph (g_oi (fun rv_ ph' => rv_ = wnW kd ∧ ph' = ph)) g_no := by
  subst e9
  exact met_X8_isWorn l Γ ph q
theorem met_X7_isWorn_k (l : Launch) (Γ : g_C) (ph : g_H) (q : Nat) {kd : Int32} (e9 : ¬ kd = 3) : g_Met l yX7_isWorn (ws_ yX7_isWorn cX7_isWorn 1 (some .boolean)) (g_rm 1 0 0) Γ [.ref q] ph (g_oi (fun rv_ ph' => rv_ = wnW kd ∧ ph' = ph)) g_no := by
  rw [show wnW kd = 1 from if_neg e9]
  exact met_X7_isWorn l Γ ph q
set_option maxHeartbeats 4000000 in
set_option maxRecDepth 100000 in
theorem met_X13_amount (l : Launch) (Γ : g_C) (ph : g_H) (x : Int32)    : g_Met l yX13_amount (ws_ yX13_amount cX13_amount 1 (some .int)) (g_rm 1 0 0) Γ [.int x] (ph) (g_oi (fun rv_ ph' => rv_ = (sz x) ∧ ph' = ph)) g_no := by
  refine g_start (y := yX13_amount) (cc := cX13_amount) (maxL := 1) (ret := (some .int)) (rm := g_rm 1 0 0) (by decide) (Nat.le_of_ble_eq_true rfl) ?_
  intro p e s m A below meth c ls Q hQ S hr hlk hex hnm hK I hl
  have hx := S.1
  have hb := S.2.1
  have hown := S.2.2.2.1
  have hts := S.2.2.2.2
  have S : CallFix p m c cX13_amount 1 s A lw_all "CrumblingWall$Place" := S
  have hl : lv_has ls 1 [(0, .int x)] := hl
  refine lv_iload_n hx hb dX13_amount_0 rfl (lv_at hl 0 rfl) ?_
  refine lv_if_ge (tgt := 9) hx hb dX13_amount_1 (by decide) (fun c_1 => ?_) (fun c_1 => ?_)
  · have n_1 := Int32.not_lt.mpr c_1
    refine lv_iload_n hx hb dX13_amount_9 rfl (lv_at hl 0 rfl) ?_
    exact g_iret S hr hlk I dX13_amount_10 (Nat.le_of_ble_eq_true rfl) (Nat.le_of_ble_eq_true rfl) hQ ⟨_, rfl, (by unfold sz; first | exact (if_pos (Int32.not_le.mp c_1)).symm | exact (if_neg (Int32.not_lt.mpr c_1)).symm), rfl⟩
  · have n_1 := Int32.not_le.mp c_1
    refine lv_iload_n hx hb dX13_amount_4 rfl (lv_at hl 0 rfl) ?_
    refine lv_ineg hx hb dX13_amount_5 ?_
    refine lv_goto (tgt := 10) hx hb dX13_amount_6 (by decide) ?_
    exact g_iret S hr hlk I dX13_amount_10 (Nat.le_of_ble_eq_true rfl) (Nat.le_of_ble_eq_true rfl) hQ ⟨_, rfl, (by unfold sz; first | exact (if_pos (Int32.not_le.mp c_1)).symm | exact (if_neg (Int32.not_lt.mpr c_1)).symm), rfl⟩

set_option maxHeartbeats 4000000 in
set_option maxRecDepth 100000 in
theorem met_X7_number (l : Launch) (Γ : g_C) (htr : l.stackTraces = false) (ph : g_H) (i : Nat) (ad na : Nat → Nat) (mc : Nat → Int32) (w : m_w) (k : Nat)  (hW : g_Wl Γ ph i ad na mc w) (hw : WF w) (hk : k < nN w) : g_Met l yX7_number (ws_ yX7_number cX7_number 1 (some .int)) (g_rm 1 0 0) Γ [.ref (ad (30 + k))] ph (g_oi (fun rv_ ph' => rv_ = (nI k) ∧ ph' = ph)) g_no := by
  refine g_start (y := yX7_number) (cc := cX7_number) (maxL := 1) (ret := (some .int)) (rm := g_rm 1 0 0) (by decide) (Nat.le_of_ble_eq_true rfl) ?_
  intro pg e s m A below meth cd ls Q hQ S hr hlk hex hnm hK I hl
  have hx := S.1
  have hb := S.2.1
  have hown := S.2.2.2.1
  have hts := S.2.2.2.2
  have S : CallFix pg m cd cX7_number 1 s A lw_all "CrumblingWall$Hold" := S
  have hl : lv_has ls 1 [(0, .ref (ad (30 + k)))] := hl
  have hwc := hw.1; have hwl := hw.2.1; have hwa := hw.2.2.1
  refine lv_aload_n hx hb dX7_number_0 rfl (lv_at hl 0 rfl) ?_
  refine h_get S hK I (kd := (w (1 + 5 * k + 2))) (v := .int (nI k)) (g_at.of (hW.ho (k := k) (by omega))) 0 (by decide) q1433 rfl rfl dX7_number_1 ?_
  exact g_iret S hr hlk I dX7_number_4 (Nat.le_of_ble_eq_true rfl) (Nat.le_of_ble_eq_true rfl) hQ ⟨_, rfl, rfl, rfl⟩

set_option maxHeartbeats 4000000 in
set_option maxRecDepth 100000 in
theorem met_X7_column (l : Launch) (Γ : g_C) (htr : l.stackTraces = false) (ph : g_H) (i : Nat) (ad na : Nat → Nat) (mc : Nat → Int32) (w : m_w) (k : Nat)  (hW : g_Wl Γ ph i ad na mc w) (hw : WF w) (hk : k < nN w) : g_Met l yX7_column (ws_ yX7_column cX7_column 1 (some .int)) (g_rm 1 0 0) Γ [.ref (ad (30 + k))] ph (g_oi (fun rv_ ph' => rv_ = (w (1 + 5 * k)) ∧ ph' = ph)) g_no := by
  refine g_start (y := yX7_column) (cc := cX7_column) (maxL := 1) (ret := (some .int)) (rm := g_rm 1 0 0) (by decide) (Nat.le_of_ble_eq_true rfl) ?_
  intro pg e s m A below meth cd ls Q hQ S hr hlk hex hnm hK I hl
  have hx := S.1
  have hb := S.2.1
  have hown := S.2.2.2.1
  have hts := S.2.2.2.2
  have S : CallFix pg m cd cX7_column 1 s A lw_all "CrumblingWall$Hold" := S
  have hl : lv_has ls 1 [(0, .ref (ad (30 + k)))] := hl
  have hwc := hw.1; have hwl := hw.2.1; have hwa := hw.2.2.1
  refine lv_aload_n hx hb dX7_column_0 rfl (lv_at hl 0 rfl) ?_
  refine h_get S hK I (kd := (w (1 + 5 * k + 2))) (v := .int (w (1 + 5 * k))) (g_at.of (hW.ho (k := k) (by omega))) 1 (by decide) q1434 rfl rfl dX7_column_1 ?_
  exact g_iret S hr hlk I dX7_column_4 (Nat.le_of_ble_eq_true rfl) (Nat.le_of_ble_eq_true rfl) hQ ⟨_, rfl, rfl, rfl⟩

set_option maxHeartbeats 4000000 in
set_option maxRecDepth 100000 in
theorem met_X7_row (l : Launch) (Γ : g_C) (htr : l.stackTraces = false) (ph : g_H) (i : Nat) (ad na : Nat → Nat) (mc : Nat → Int32) (w : m_w) (k : Nat)  (hW : g_Wl Γ ph i ad na mc w) (hw : WF w) (hk : k < nN w) : g_Met l yX7_row (ws_ yX7_row cX7_row 1 (some .int)) (g_rm 1 0 0) Γ [.ref (ad (30 + k))] ph (g_oi (fun rv_ ph' => rv_ = (w (1 + 5 * k + 1)) ∧ ph' = ph)) g_no := by
  refine g_start (y := yX7_row) (cc := cX7_row) (maxL := 1) (ret := (some .int)) (rm := g_rm 1 0 0) (by decide) (Nat.le_of_ble_eq_true rfl) ?_
  intro pg e s m A below meth cd ls Q hQ S hr hlk hex hnm hK I hl
  have hx := S.1
  have hb := S.2.1
  have hown := S.2.2.2.1
  have hts := S.2.2.2.2
  have S : CallFix pg m cd cX7_row 1 s A lw_all "CrumblingWall$Hold" := S
  have hl : lv_has ls 1 [(0, .ref (ad (30 + k)))] := hl
  have hwc := hw.1; have hwl := hw.2.1; have hwa := hw.2.2.1
  refine lv_aload_n hx hb dX7_row_0 rfl (lv_at hl 0 rfl) ?_
  refine h_get S hK I (kd := (w (1 + 5 * k + 2))) (v := .int (w (1 + 5 * k + 1))) (g_at.of (hW.ho (k := k) (by omega))) 2 (by decide) q1435 rfl rfl dX7_row_1 ?_
  exact g_iret S hr hlk I dX7_row_4 (Nat.le_of_ble_eq_true rfl) (Nat.le_of_ble_eq_true rfl) hQ ⟨_, rfl, rfl, rfl⟩

set_option maxHeartbeats 4000000 in
set_option maxRecDepth 100000 in
theorem met_X7_strength (l : Launch) (Γ : g_C) (htr : l.stackTraces = false) (ph : g_H) (i : Nat) (ad na : Nat → Nat) (mc : Nat → Int32) (w : m_w) (k : Nat)  (hW : g_Wl Γ ph i ad na mc w) (hw : WF w) (hk : k < nN w) : g_Met l yX7_strength (ws_ yX7_strength cX7_strength 1 (some .int)) (g_rm 1 0 0) Γ [.ref (ad (30 + k))] ph (g_oi (fun rv_ ph' => rv_ = (w (1 + 5 * k + 3)) ∧ ph' = ph)) g_no := by
  refine g_start (y := yX7_strength) (cc := cX7_strength) (maxL := 1) (ret := (some .int)) (rm := g_rm 1 0 0) (by decide) (Nat.le_of_ble_eq_true rfl) ?_
  intro pg e s m A below meth cd ls Q hQ S hr hlk hex hnm hK I hl
  have hx := S.1
  have hb := S.2.1
  have hown := S.2.2.2.1
  have hts := S.2.2.2.2
  have S : CallFix pg m cd cX7_strength 1 s A lw_all "CrumblingWall$Hold" := S
  have hl : lv_has ls 1 [(0, .ref (ad (30 + k)))] := hl
  have hwc := hw.1; have hwl := hw.2.1; have hwa := hw.2.2.1
  refine lv_aload_n hx hb dX7_strength_0 rfl (lv_at hl 0 rfl) ?_
  refine h_get S hK I (kd := (w (1 + 5 * k + 2))) (v := .int (w (1 + 5 * k + 3))) (g_at.of (hW.ho (k := k) (by omega))) 3 (by decide) q1436 rfl rfl dX7_strength_1 ?_
  exact g_iret S hr hlk I dX7_strength_4 (Nat.le_of_ble_eq_true rfl) (Nat.le_of_ble_eq_true rfl) hQ ⟨_, rfl, rfl, rfl⟩

set_option maxHeartbeats 4000000 in
set_option maxRecDepth 100000 in
theorem met_X7_wear (l : Launch) (Γ : g_C) (htr : l.stackTraces = false) (ph : g_H) (i : Nat) (ad na : Nat → Nat) (mc : Nat → Int32) (w : m_w) (k : Nat)  (hW : g_Wl Γ ph i ad na mc w) (hw : WF w) (hk : k < nN w) : g_Met l yX7_wear (ws_ yX7_wear cX7_wear 1 (some .int)) (g_rm 1 0 0) Γ [.ref (ad (30 + k))] ph (g_oi (fun rv_ ph' => rv_ = (w (1 + 5 * k + 4)) ∧ ph' = ph)) g_no := by
  refine g_start (y := yX7_wear) (cc := cX7_wear) (maxL := 1) (ret := (some .int)) (rm := g_rm 1 0 0) (by decide) (Nat.le_of_ble_eq_true rfl) ?_
  intro pg e s m A below meth cd ls Q hQ S hr hlk hex hnm hK I hl
  have hx := S.1
  have hb := S.2.1
  have hown := S.2.2.2.1
  have hts := S.2.2.2.2
  have S : CallFix pg m cd cX7_wear 1 s A lw_all "CrumblingWall$Hold" := S
  have hl : lv_has ls 1 [(0, .ref (ad (30 + k)))] := hl
  have hwc := hw.1; have hwl := hw.2.1; have hwa := hw.2.2.1
  refine lv_aload_n hx hb dX7_wear_0 rfl (lv_at hl 0 rfl) ?_
  refine h_get S hK I (kd := (w (1 + 5 * k + 2))) (v := .int (w (1 + 5 * k + 4))) (g_at.of (hW.ho (k := k) (by omega))) 4 (by decide) q1437 rfl rfl dX7_wear_1 ?_
  exact g_iret S hr hlk I dX7_wear_4 (Nat.le_of_ble_eq_true rfl) (Nat.le_of_ble_eq_true rfl) hQ ⟨_, rfl, rfl, rfl⟩

set_option maxHeartbeats 4000000 in
set_option maxRecDepth 100000 in
theorem met_X7_hasCrumbled (l : Launch) (Γ : g_C) (htr : l.stackTraces = false) (ph : g_H) (i : Nat) (ad na : Nat → Nat) (mc : Nat → Int32) (w : m_w) (k : Nat)  (hW : g_Wl Γ ph i ad na mc w) (hw : WF w) (hk : k < nN w) : g_Met l yX7_hasCrumbled (ws_ yX7_hasCrumbled cX7_hasCrumbled 1 (some .boolean)) (g_rm 1 0 0) Γ [.ref (ad (30 + k))] ph (g_oi (fun rv_ ph' => rv_ = (b2i (hasCr w (nI k))) ∧ ph' = ph)) g_no := by
  refine g_start (y := yX7_hasCrumbled) (cc := cX7_hasCrumbled) (maxL := 1) (ret := (some .boolean)) (rm := g_rm 1 0 0) (by decide) (Nat.le_of_ble_eq_true rfl) ?_
  intro pg e s m A below meth cd ls Q hQ S hr hlk hex hnm hK I hl
  have hx := S.1
  have hb := S.2.1
  have hown := S.2.2.2.1
  have hts := S.2.2.2.2
  have S : CallFix pg m cd cX7_hasCrumbled 1 s A lw_all "CrumblingWall$Hold" := S
  have hl : lv_has ls 1 [(0, .ref (ad (30 + k)))] := hl
  have hwc := hw.1; have hwl := hw.2.1; have hwa := hw.2.2.1
  refine lv_aload_n hx hb dX7_hasCrumbled_0 rfl (lv_at hl 0 rfl) ?_
  refine h_get S hK I (kd := (w (1 + 5 * k + 2))) (v := .int (w (1 + 5 * k + 4))) (g_at.of (hW.ho (k := k) (by omega))) 4 (by decide) q1437 rfl rfl dX7_hasCrumbled_1 ?_
  refine lv_aload_n hx hb dX7_hasCrumbled_4 rfl (lv_at hl 0 rfl) ?_
  refine h_get S hK I (kd := (w (1 + 5 * k + 2))) (v := .int (w (1 + 5 * k + 3))) (g_at.of (hW.ho (k := k) (by omega))) 3 (by decide) q1436 rfl rfl dX7_hasCrumbled_5 ?_
  refine lv_icmp_lt (tgt := 15) hx hb dX7_hasCrumbled_8 (by decide) (fun c_8 => ?_) (fun c_8 => ?_)
  · have n_8 := Int32.not_le.mpr c_8
    refine lv_iconst (v := 0) hx hb dX7_hasCrumbled_15 (by decide) ?_
    exact g_zret S hr hlk I rfl dX7_hasCrumbled_16 (Nat.le_of_ble_eq_true rfl) (Nat.le_of_ble_eq_true rfl) hQ ⟨_, rfl, (by unfold hasCr hX; rw [nI_clamp (by omega)]; simp [b2i, n_8]), rfl⟩
  · have n_8 := Int32.not_lt.mp c_8
    refine lv_iconst (v := 1) hx hb dX7_hasCrumbled_11 (by decide) ?_
    refine lv_goto (tgt := 16) hx hb dX7_hasCrumbled_12 (by decide) ?_
    exact g_zret S hr hlk I rfl dX7_hasCrumbled_16 (Nat.le_of_ble_eq_true rfl) (Nat.le_of_ble_eq_true rfl) hQ ⟨_, rfl, (by unfold hasCr hX; rw [nI_clamp (by omega)]; simp [b2i, n_8]), rfl⟩

def hLf (w : m_w) (h : Int32) : Int32 := if hasCr w h = true then 0 else hX w h 3 - hX w h 4
set_option maxHeartbeats 4000000 in
set_option maxRecDepth 100000 in
theorem met_X7_left (l : Launch) (Γ : g_C) (htr : l.stackTraces = false) (ph : g_H) (i : Nat) (ad na : Nat → Nat) (mc : Nat → Int32) (w : m_w) (k : Nat)  (hW : g_Wl Γ ph i ad na mc w) (hw : WF w) (hk : k < nN w) : g_Met l yX7_left (ws_ yX7_left cX7_left 1 (some .int)) (g_rm 2 0 0) Γ [.ref (ad (30 + k))] ph (g_oi (fun rv_ ph' => rv_ = (hLf w (nI k)) ∧ ph' = ph)) g_no := by
  refine g_start (y := yX7_left) (cc := cX7_left) (maxL := 1) (ret := (some .int)) (rm := g_rm 2 0 0) (by decide) (Nat.le_of_ble_eq_true rfl) ?_
  intro pg e s m A below meth cd ls Q hQ S hr hlk hex hnm hK I hl
  have hx := S.1
  have hb := S.2.1
  have hown := S.2.2.2.1
  have hts := S.2.2.2.2
  have S : CallFix pg m cd cX7_left 1 s A lw_all "CrumblingWall$Hold" := S
  have hl : lv_has ls 1 [(0, .ref (ad (30 + k)))] := hl
  have hwc := hw.1; have hwl := hw.2.1; have hwa := hw.2.2.1
  refine lv_aload_n hx hb dX7_left_0 rfl (lv_at hl 0 rfl) ?_
  refine g_ci (by obtain ⟨fs9, h9⟩ := ho_or hW hw (k := k) (by omega); rcases h9 with ⟨e9, r9⟩ | ⟨e9, r9⟩ | ⟨e9, r9⟩ | ⟨e9, r9⟩; exact (g_runU S hK I (As := []) (rest := []) (met_X7_hasCrumbled l Γ htr ph i ad na mc w k hW hw  (by omega)) (g_cwD (n := 0) hts q1373 q157 (by decide) (by decide +kernel) q1366 q1368 (va_Decl.of (hts _ q1367) (hts _ q1373)) q1370 q1367 ⟨Nat.le_of_ble_eq_true rfl, Nat.le_of_ble_eq_true rfl⟩) (g_recv hK I (g_at.of r9) (ci := 7) rfl) rfl hl.1 rfl (Nat.le_of_ble_eq_true rfl) dX7_left_1 ⟨Nat.le_of_ble_eq_true rfl, Nat.le_of_ble_eq_true rfl⟩); exact (g_runU S hK I (As := []) (rest := []) (met_X7_hasCrumbled l Γ htr ph i ad na mc w k hW hw  (by omega)) (g_cwD (n := 0) hts q1373 q157 (by decide) (by decide +kernel) q1366 q1368 (va_Decl.of (hts _ q1367) (hts _ q1373)) q1372 q1367 ⟨Nat.le_of_ble_eq_true rfl, Nat.le_of_ble_eq_true rfl⟩) (g_recv hK I (g_at.of r9) (ci := 9) rfl) rfl hl.1 rfl (Nat.le_of_ble_eq_true rfl) dX7_left_1 ⟨Nat.le_of_ble_eq_true rfl, Nat.le_of_ble_eq_true rfl⟩); exact (g_runU S hK I (As := []) (rest := []) (met_X7_hasCrumbled l Γ htr ph i ad na mc w k hW hw  (by omega)) (g_cwD (n := 0) hts q1373 q157 (by decide) (by decide +kernel) q1366 q1368 (va_Decl.of (hts _ q1367) (hts _ q1373)) q1371 q1367 ⟨Nat.le_of_ble_eq_true rfl, Nat.le_of_ble_eq_true rfl⟩) (g_recv hK I (g_at.of r9) (ci := 8) rfl) rfl hl.1 rfl (Nat.le_of_ble_eq_true rfl) dX7_left_1 ⟨Nat.le_of_ble_eq_true rfl, Nat.le_of_ble_eq_true rfl⟩); exact (g_runU S hK I (As := []) (rest := []) (met_X7_hasCrumbled l Γ htr ph i ad na mc w k hW hw  (by omega)) (g_cwD (n := 0) hts q1373 q157 (by decide) (by decide +kernel) q1366 q1368 (va_Decl.of (hts _ q1367) (hts _ q1373)) q1369 q1367 ⟨Nat.le_of_ble_eq_true rfl, Nat.le_of_ble_eq_true rfl⟩) (g_recv hK I (g_at.of r9) (ci := 6) rfl) rfl hl.1 rfl (Nat.le_of_ble_eq_true rfl) dX7_left_1 ⟨Nat.le_of_ble_eq_true rfl, Nat.le_of_ble_eq_true rfl⟩)) I (fun r_1 ph1 H locs hp I => ?_)
  obtain ⟨hp, hph⟩ := hp
  rw [hph] at I
  have hp : r_1 = (b2i (hasCr w (nI k))) := hp
  rw [hp]
  refine lv_if_eq (tgt := 11) hx hb dX7_left_4 (by decide) (fun c_4 => ?_) (fun c_4 => ?_)
  · have p_4 := (b2i_eq0 _).mp c_4
    refine lv_aload_n hx hb dX7_left_11 rfl (lv_at hl 0 rfl) ?_
    refine h_get S hK I (kd := (w (1 + 5 * k + 2))) (v := .int (w (1 + 5 * k + 3))) (g_at.of (hW.ho (k := k) (by omega))) 3 (by decide) q1436 rfl rfl dX7_left_12 ?_
    refine lv_aload_n hx hb dX7_left_15 rfl (lv_at hl 0 rfl) ?_
    refine h_get S hK I (kd := (w (1 + 5 * k + 2))) (v := .int (w (1 + 5 * k + 4))) (g_at.of (hW.ho (k := k) (by omega))) 4 (by decide) q1437 rfl rfl dX7_left_16 ?_
    refine lv_isub hx hb dX7_left_19 ?_
    exact g_iret S hr hlk I dX7_left_20 (Nat.le_of_ble_eq_true rfl) (Nat.le_of_ble_eq_true rfl) hQ ⟨_, rfl, (by unfold hLf hX; rw [nI_clamp (by omega)]; simp [p_4]), rfl⟩
  · have p_4 := (b2i_ne0 _).mp c_4
    refine lv_iconst (v := 0) hx hb dX7_left_7 (by decide) ?_
    refine lv_goto (tgt := 20) hx hb dX7_left_8 (by decide) ?_
    exact g_iret S hr hlk I dX7_left_20 (Nat.le_of_ble_eq_true rfl) (Nat.le_of_ble_eq_true rfl) hQ ⟨_, rfl, (by unfold hLf hX; rw [nI_clamp (by omega)]; simp [p_4]), rfl⟩

set_option maxHeartbeats 4000000 in
set_option maxRecDepth 100000 in
theorem met_X4_number (l : Launch) (Γ : g_C) (htr : l.stackTraces = false) (ph : g_H) (i : Nat) (ad na : Nat → Nat) (mc : Nat → Int32) (w : m_w)  (hW : g_Wl Γ ph i ad na mc w) (hw : WF w) : g_Met l yX4_number (ws_ yX4_number cX4_number 1 (some .int)) (g_rm 1 0 0) Γ [.ref (ad 7)] ph (g_oi (fun rv_ ph' => rv_ = (-1) ∧ ph' = ph)) g_no := by
  refine g_start (y := yX4_number) (cc := cX4_number) (maxL := 1) (ret := (some .int)) (rm := g_rm 1 0 0) (by decide) (Nat.le_of_ble_eq_true rfl) ?_
  intro pg e s m A below meth cd ls Q hQ S hr hlk hex hnm hK I hl
  have hx := S.1
  have hb := S.2.1
  have hown := S.2.2.2.1
  have hts := S.2.2.2.2
  have S : CallFix pg m cd cX4_number 1 s A lw_all "CrumblingWall$Ground" := S
  have hl : lv_has ls 1 [(0, .ref (ad 7))] := hl
  have hwc := hw.1; have hwl := hw.2.1; have hwa := hw.2.2.1
  refine lv_iconst (v := (-1)) hx hb dX4_number_0 (by decide) ?_
  exact g_iret S hr hlk I dX4_number_1 (Nat.le_of_ble_eq_true rfl) (Nat.le_of_ble_eq_true rfl) hQ ⟨_, rfl, rfl, rfl⟩

set_option maxHeartbeats 4000000 in
set_option maxRecDepth 100000 in
theorem met_X4_row (l : Launch) (Γ : g_C) (htr : l.stackTraces = false) (ph : g_H) (i : Nat) (ad na : Nat → Nat) (mc : Nat → Int32) (w : m_w)  (hW : g_Wl Γ ph i ad na mc w) (hw : WF w) : g_Met l yX4_row (ws_ yX4_row cX4_row 1 (some .int)) (g_rm 1 0 0) Γ [.ref (ad 7)] ph (g_oi (fun rv_ ph' => rv_ = 0 ∧ ph' = ph)) g_no := by
  refine g_start (y := yX4_row) (cc := cX4_row) (maxL := 1) (ret := (some .int)) (rm := g_rm 1 0 0) (by decide) (Nat.le_of_ble_eq_true rfl) ?_
  intro pg e s m A below meth cd ls Q hQ S hr hlk hex hnm hK I hl
  have hx := S.1
  have hb := S.2.1
  have hown := S.2.2.2.1
  have hts := S.2.2.2.2
  have S : CallFix pg m cd cX4_row 1 s A lw_all "CrumblingWall$Ground" := S
  have hl : lv_has ls 1 [(0, .ref (ad 7))] := hl
  have hwc := hw.1; have hwl := hw.2.1; have hwa := hw.2.2.1
  refine lv_iconst (v := 0) hx hb dX4_row_0 (by decide) ?_
  exact g_iret S hr hlk I dX4_row_1 (Nat.le_of_ble_eq_true rfl) (Nat.le_of_ble_eq_true rfl) hQ ⟨_, rfl, rfl, rfl⟩

set_option maxHeartbeats 4000000 in
set_option maxRecDepth 100000 in
theorem met_X4_aside (l : Launch) (Γ : g_C) (htr : l.stackTraces = false) (ph : g_H) (i : Nat) (ad na : Nat → Nat) (mc : Nat → Int32) (w : m_w) (p : Int32)  (hW : g_Wl Γ ph i ad na mc w) (hw : WF w) (hp : okP w p) : g_Met l yX4_aside (ws_ yX4_aside cX4_aside 2 (some .int)) (g_rm 2 0 0) Γ [.ref (ad 7), .ref (plA ad p)] ph (g_oi (fun rv_ ph' => rv_ = 0 ∧ ph' = ph)) g_no := by
  refine g_start (y := yX4_aside) (cc := cX4_aside) (maxL := 2) (ret := (some .int)) (rm := g_rm 2 0 0) (by decide) (Nat.le_of_ble_eq_true rfl) ?_
  intro pg e s m A below meth cd ls Q hQ S hr hlk hex hnm hK I hl
  have hx := S.1
  have hb := S.2.1
  have hown := S.2.2.2.1
  have hts := S.2.2.2.2
  have S : CallFix pg m cd cX4_aside 2 s A lw_all "CrumblingWall$Ground" := S
  have hl : lv_has ls 2 [(0, .ref (ad 7)), (1, .ref (plA ad p))] := hl
  have hwc := hw.1; have hwl := hw.2.1; have hwa := hw.2.2.1
  refine lv_iconst (v := 0) hx hb dX4_aside_0 (by decide) ?_
  exact g_iret S hr hlk I dX4_aside_1 (Nat.le_of_ble_eq_true rfl) (Nat.le_of_ble_eq_true rfl) hQ ⟨_, rfl, rfl, rfl⟩

theorem met_p_number_H (l : Launch) (Γ : g_C) (htr : l.stackTraces = false) (ph : g_H) (i : Nat) (ad na : Nat → Nat) (mc : Nat → Int32) (w : m_w) (x : Int32) (hW : g_Wl Γ ph i ad na mc w) (hw : WF w) (hx : okP w x) (e8 : ¬ x = -1) : g_Met l yX7_number (ws_ yX7_number cX7_number 1 (some .int)) (g_rm 1 0 0) Γ [.ref (plA ad x)] ph (g_oi (fun rv_ ph' => rv_ = x ∧ ph' = ph)) g_no := by
  obtain ⟨q, h1, h2, h3⟩ := vp_j (hx.resolve_left e8) (Nat.lt_of_le_of_lt hw.1.2 (by decide))
  have h := met_X7_number l Γ htr ph i ad na mc w q hW hw h1
  have hq : q < 2 ^ 31 := by have := hw.1.2; omega
  rw [← h2] at h
  rw [show plA ad x = ad (30 + q) from by rw [h2]; exact plA_h hq]
  exact h
theorem met_p_number_G (l : Launch) (Γ : g_C) (htr : l.stackTraces = false) (ph : g_H) (i : Nat) (ad na : Nat → Nat) (mc : Nat → Int32) (w : m_w) (x : Int32) (hW : g_Wl Γ ph i ad na mc w) (hw : WF w) (hx : okP w x) (e8 : x = -1) : g_Met l yX4_number (ws_ yX4_number cX4_number 1 (some .int)) (g_rm 1 0 0) Γ [.ref (plA ad x)] ph (g_oi (fun rv_ ph' => rv_ = x ∧ ph' = ph)) g_no := by
  subst e8
  have h := met_X4_number l Γ htr ph i ad na mc w hW hw
  exact h
theorem met_p_row_H (l : Launch) (Γ : g_C) (htr : l.stackTraces = false) (ph : g_H) (i : Nat) (ad na : Nat → Nat) (mc : Nat → Int32) (w : m_w) (x : Int32) (hW : g_Wl Γ ph i ad na mc w) (hw : WF w) (hx : okP w x) (e8 : ¬ x = -1) : g_Met l yX7_row (ws_ yX7_row cX7_row 1 (some .int)) (g_rm 1 0 0) Γ [.ref (plA ad x)] ph (g_oi (fun rv_ ph' => rv_ = (rowP w x) ∧ ph' = ph)) g_no := by
  obtain ⟨q, h1, h2, h3⟩ := vp_j (hx.resolve_left e8) (Nat.lt_of_le_of_lt hw.1.2 (by decide))
  have h := met_X7_row l Γ htr ph i ad na mc w q hW hw h1
  have hq : q < 2 ^ 31 := by have := hw.1.2; omega
  rw [show rowP w x = w (1 + 5 * q + 1) from by unfold rowP hX; rw [if_neg e8, h3]]
  rw [show plA ad x = ad (30 + q) from by rw [h2]; exact plA_h hq]
  exact h
theorem met_p_row_G (l : Launch) (Γ : g_C) (htr : l.stackTraces = false) (ph : g_H) (i : Nat) (ad na : Nat → Nat) (mc : Nat → Int32) (w : m_w) (x : Int32) (hW : g_Wl Γ ph i ad na mc w) (hw : WF w) (hx : okP w x) (e8 : x = -1) : g_Met l yX4_row (ws_ yX4_row cX4_row 1 (some .int)) (g_rm 1 0 0) Γ [.ref (plA ad x)] ph (g_oi (fun rv_ ph' => rv_ = (rowP w x) ∧ ph' = ph)) g_no := by
  subst e8
  have h := met_X4_row l Γ htr ph i ad na mc w hW hw
  exact h
set_option maxHeartbeats 4000000 in
set_option maxRecDepth 100000 in
theorem met_X7_aside (l : Launch) (Γ : g_C) (htr : l.stackTraces = false) (ph : g_H) (i : Nat) (ad na : Nat → Nat) (mc : Nat → Int32) (w : m_w) (k : Nat) (p : Int32)  (hW : g_Wl Γ ph i ad na mc w) (hw : WF w) (hk : k < nN w) (hp : okP w p) : g_Met l yX7_aside (ws_ yX7_aside cX7_aside 3 (some .int)) (g_rm 2 0 0) Γ [.ref (ad (30 + k)), .ref (plA ad p)] ph (g_oi (fun rv_ ph' => rv_ = (asd w (nI k) p) ∧ ph' = ph)) g_no := by
  refine g_start (y := yX7_aside) (cc := cX7_aside) (maxL := 3) (ret := (some .int)) (rm := g_rm 2 0 0) (by decide) (Nat.le_of_ble_eq_true rfl) ?_
  intro pg e s m A below meth cd ls Q hQ S hr hlk hex hnm hK I hl
  have hx := S.1
  have hb := S.2.1
  have hown := S.2.2.2.1
  have hts := S.2.2.2.2
  have S : CallFix pg m cd cX7_aside 3 s A lw_all "CrumblingWall$Hold" := S
  have hl : lv_has ls 3 [(0, .ref (ad (30 + k))), (1, .ref (plA ad p))] := hl
  have hwc := hw.1; have hwl := hw.2.1; have hwa := hw.2.2.1
  refine lv_aload_n hx hb dX7_aside_0 rfl (lv_at hl 1 rfl) ?_
  rcases pl_or hW hw hp with ⟨e8, fs9, r9⟩ | ⟨e8, b8, n8, a8, h9⟩
  · refine g_instN S hK q1247 (hK.Nc 10 rfl) (g_recv hK I (g_at.of r9) (ci := 3) rfl) dX7_aside_1 ?_
    refine lv_if_eq (tgt := 27) hx hb dX7_aside_4 (by decide) (fun _ => ?_) (fun c_4 => absurd c_4 (by decide))
    refine lv_iconst (v := 0) hx hb dX7_aside_27 (by decide) ?_
    exact g_iret S hr hlk I dX7_aside_28 (Nat.le_of_ble_eq_true rfl) (Nat.le_of_ble_eq_true rfl) hQ ⟨_, rfl, (if_pos (Or.inr e8)).symm, rfl⟩
  · refine h_inst S hK I h9 q1247 hca_Hold dX7_aside_1 ?_
    refine lv_if_eq (tgt := 27) hx hb dX7_aside_4 (by decide) (fun c_4 => absurd c_4 (by decide)) (fun _ => ?_)
    refine lv_aload_n hx hb dX7_aside_7 rfl (lv_at hl 1 rfl) ?_
    refine h_cast S hK I h9 q1247 hca_Hold dX7_aside_8 ?_
    rw [a8]
    refine lv_astore_n (lv' := [(2, .ref (ad (30 + p.toNatClampNeg))), (0, .ref (ad (30 + k))), (1, .ref (plA ad p))]) hx hb dX7_aside_11 rfl hl (by decide) rfl (fun ls hl => ?_)
    refine lv_aload_n hx hb dX7_aside_12 rfl (lv_at hl 1 rfl) ?_
    refine h_get S hK I (kd := (w (1 + 5 * k + 2))) (v := .int (w (1 + 5 * k))) (g_at.of (hW.ho (k := k) (by omega))) 1 (by decide) q1434 rfl rfl dX7_aside_13 ?_
    refine lv_aload_n hx hb dX7_aside_16 rfl (lv_at hl 0 rfl) ?_
    refine h_get S hK I (kd := (w (1 + 5 * p.toNatClampNeg + 2))) (v := .int (w (1 + 5 * p.toNatClampNeg))) (g_at.of (hW.ho (k := p.toNatClampNeg) (by omega))) 1 (by decide) q1434 rfl rfl dX7_aside_17 ?_
    refine lv_isub hx hb dX7_aside_20 ?_
    refine g_ci (g_runS S hK I (As := [.int ((w (1 + 5 * k)) - (w (1 + 5 * p.toNatClampNeg)))]) (rest := []) (met_X13_amount l Γ ph ((w (1 + 5 * k)) - (w (1 + 5 * p.toNatClampNeg)))) (va_cwS 1 hts (lw_S q1248 q1249 q170 q1250) rfl rfl rfl (by decide +kernel) ⟨Nat.le_of_ble_eq_true rfl, Nat.le_of_ble_eq_true rfl⟩) rfl hl.1 rfl (Nat.le_of_ble_eq_true rfl) dX7_aside_21 ⟨Nat.le_of_ble_eq_true rfl, Nat.le_of_ble_eq_true rfl⟩) I (fun r_21 ph1 H locs hp I => ?_)
    obtain ⟨hp, hph⟩ := hp
    rw [hph] at I
    have hp : r_21 = sz ((w (1 + 5 * k)) - (w (1 + 5 * p.toNatClampNeg))) := hp
    rw [hp]
    refine lv_goto (tgt := 28) hx hb dX7_aside_24 (by decide) ?_
    exact g_iret S hr hlk I dX7_aside_28 (Nat.le_of_ble_eq_true rfl) (Nat.le_of_ble_eq_true rfl) hQ ⟨_, rfl, (by unfold asd hX; rw [if_neg (fun z => z.elim (nI_m1 (by omega)) e8), nI_clamp (by omega)]; simp only [Nat.add_zero]), rfl⟩

theorem met_p_aside_H (l : Launch) (Γ : g_C) (htr : l.stackTraces = false) (ph : g_H) (i : Nat) (ad na : Nat → Nat) (mc : Nat → Int32) (w : m_w) (x y : Int32) (hW : g_Wl Γ ph i ad na mc w) (hw : WF w) (hx : okP w x) (hy : okP w y) (e8 : ¬ x = -1) : g_Met l yX7_aside (ws_ yX7_aside cX7_aside 3 (some .int)) (g_rm 2 0 0) Γ [.ref (plA ad x), .ref (plA ad y)] ph (g_oi (fun rv_ ph' => rv_ = (asd w x y) ∧ ph' = ph)) g_no := by
  obtain ⟨q, h1, h2, h3⟩ := vp_j (hx.resolve_left e8) (Nat.lt_of_le_of_lt hw.1.2 (by decide))
  have h := met_X7_aside l Γ htr ph i ad na mc w q y hW hw h1 hy
  have hq : q < 2 ^ 31 := by have := hw.1.2; omega
  rw [← h2] at h
  rw [show plA ad x = ad (30 + q) from by rw [h2]; exact plA_h hq]
  exact h
theorem met_p_aside_G (l : Launch) (Γ : g_C) (htr : l.stackTraces = false) (ph : g_H) (i : Nat) (ad na : Nat → Nat) (mc : Nat → Int32) (w : m_w) (x y : Int32) (hW : g_Wl Γ ph i ad na mc w) (hw : WF w) (hx : okP w x) (hy : okP w y) (e8 : x = -1) : g_Met l yX4_aside (ws_ yX4_aside cX4_aside 2 (some .int)) (g_rm 2 0 0) Γ [.ref (plA ad x), .ref (plA ad y)] ph (g_oi (fun rv_ ph' => rv_ = (asd w x y) ∧ ph' = ph)) g_no := by
  subst e8
  have h := met_X4_aside l Γ htr ph i ad na mc w y hW hw hy
  rw [show asd w (-1) y = 0 from if_pos (Or.inl rfl)]
  exact h
set_option maxHeartbeats 4000000 in
set_option maxRecDepth 100000 in
theorem met_X13_upOrDown (l : Launch) (Γ : g_C) (htr : l.stackTraces = false) (ph : g_H) (i : Nat) (ad na : Nat → Nat) (mc : Nat → Int32) (w : m_w) (x y : Int32)  (hW : g_Wl Γ ph i ad na mc w) (hw : WF w) (hpx : okP w x) (hpy : okP w y) : g_Met l yX13_upOrDown (ws_ yX13_upOrDown cX13_upOrDown 2 (some .int)) (g_rm 2 0 0) Γ [.ref (plA ad x), .ref (plA ad y)] ph (g_oi (fun rv_ ph' => rv_ = (uod w x y) ∧ ph' = ph)) g_no := by
  refine g_start (y := yX13_upOrDown) (cc := cX13_upOrDown) (maxL := 2) (ret := (some .int)) (rm := g_rm 2 0 0) (by decide) (Nat.le_of_ble_eq_true rfl) ?_
  intro pg e s m A below meth cd ls Q hQ S hr hlk hex hnm hK I hl
  have hx := S.1
  have hb := S.2.1
  have hown := S.2.2.2.1
  have hts := S.2.2.2.2
  have S : CallFix pg m cd cX13_upOrDown 2 s A lw_all "CrumblingWall$Place" := S
  have hl : lv_has ls 2 [(0, .ref (plA ad x)), (1, .ref (plA ad y))] := hl
  have hwc := hw.1; have hwl := hw.2.1; have hwa := hw.2.2.1
  refine lv_aload_n hx hb dX13_upOrDown_0 rfl (lv_at hl 0 rfl) ?_
  refine g_cFi (by rcases pl_or hW hw (p := x) hpx with ⟨e8, fs9, r9⟩ | ⟨e8, b8, n8, a8, fs9, h9⟩; rotate_left; rcases h9 with ⟨e9, r9⟩ | ⟨e9, r9⟩ | ⟨e9, r9⟩ | ⟨e9, r9⟩; exact (g_runF S hK I (As := []) (rest := []) (met_p_row_H l Γ htr ph i ad na mc w x hW hw hpx e8) (ci := 7) rfl (va_cwF 0 hts (lw_F q1261 q1269 q1266 q157 q1268) rfl rfl rfl (hK.F 13 rfl) (by decide +kernel) ⟨Nat.le_of_ble_eq_true rfl, Nat.le_of_ble_eq_true rfl⟩) (g_recv hK I (g_at.of r9) (ci := 7) rfl) rfl hl.1 rfl (Nat.le_of_ble_eq_true rfl) dX13_upOrDown_1 ⟨Nat.le_of_ble_eq_true rfl, Nat.le_of_ble_eq_true rfl⟩); exact (g_runF S hK I (As := []) (rest := []) (met_p_row_H l Γ htr ph i ad na mc w x hW hw hpx e8) (ci := 9) rfl (va_cwF 0 hts (lw_F q1261 q1278 q1266 q157 q1268) rfl rfl rfl (hK.F 21 rfl) (by decide +kernel) ⟨Nat.le_of_ble_eq_true rfl, Nat.le_of_ble_eq_true rfl⟩) (g_recv hK I (g_at.of r9) (ci := 9) rfl) rfl hl.1 rfl (Nat.le_of_ble_eq_true rfl) dX13_upOrDown_1 ⟨Nat.le_of_ble_eq_true rfl, Nat.le_of_ble_eq_true rfl⟩); exact (g_runF S hK I (As := []) (rest := []) (met_p_row_H l Γ htr ph i ad na mc w x hW hw hpx e8) (ci := 8) rfl (va_cwF 0 hts (lw_F q1261 q1271 q1266 q157 q1268) rfl rfl rfl (hK.F 17 rfl) (by decide +kernel) ⟨Nat.le_of_ble_eq_true rfl, Nat.le_of_ble_eq_true rfl⟩) (g_recv hK I (g_at.of r9) (ci := 8) rfl) rfl hl.1 rfl (Nat.le_of_ble_eq_true rfl) dX13_upOrDown_1 ⟨Nat.le_of_ble_eq_true rfl, Nat.le_of_ble_eq_true rfl⟩); exact (g_runF S hK I (As := []) (rest := []) (met_p_row_H l Γ htr ph i ad na mc w x hW hw hpx e8) (ci := 6) rfl (va_cwF 0 hts (lw_F q1261 q1264 q1266 q157 q1268) rfl rfl rfl (hK.F 9 rfl) (by decide +kernel) ⟨Nat.le_of_ble_eq_true rfl, Nat.le_of_ble_eq_true rfl⟩) (g_recv hK I (g_at.of r9) (ci := 6) rfl) rfl hl.1 rfl (Nat.le_of_ble_eq_true rfl) dX13_upOrDown_1 ⟨Nat.le_of_ble_eq_true rfl, Nat.le_of_ble_eq_true rfl⟩); exact (g_runF S hK I (As := []) (rest := []) (met_p_row_G l Γ htr ph i ad na mc w x hW hw hpx e8) (ci := 3) rfl (va_cwF 0 hts (lw_F q1261 q1273 q1275 q149 q1277) rfl rfl rfl (hK.F 25 rfl) (by decide +kernel) ⟨Nat.le_of_ble_eq_true rfl, Nat.le_of_ble_eq_true rfl⟩) (g_recv hK I (g_at.of r9) (ci := 3) rfl) rfl hl.1 rfl (Nat.le_of_ble_eq_true rfl) dX13_upOrDown_1 ⟨Nat.le_of_ble_eq_true rfl, Nat.le_of_ble_eq_true rfl⟩)) I (fun r_1 ph1 H locs hp I => ?_)
  obtain ⟨hp, hph⟩ := hp
  rw [hph] at I
  have hp : r_1 = (rowP w x) := hp
  rw [hp]
  refine lv_aload_n hx hb dX13_upOrDown_6 rfl (lv_at hl 1 rfl) ?_
  refine g_cFi (by rcases pl_or hW hw (p := y) hpy with ⟨e8, fs9, r9⟩ | ⟨e8, b8, n8, a8, fs9, h9⟩; rotate_left; rcases h9 with ⟨e9, r9⟩ | ⟨e9, r9⟩ | ⟨e9, r9⟩ | ⟨e9, r9⟩; exact (g_runF S hK I (As := []) (rest := [.int (rowP w x)]) (met_p_row_H l Γ htr ph i ad na mc w y hW hw hpy e8) (ci := 7) rfl (va_cwF 0 hts (lw_F q1261 q1269 q1266 q157 q1268) rfl rfl rfl (hK.F 13 rfl) (by decide +kernel) ⟨Nat.le_of_ble_eq_true rfl, Nat.le_of_ble_eq_true rfl⟩) (g_recv hK I (g_at.of r9) (ci := 7) rfl) rfl hl.1 rfl (Nat.le_of_ble_eq_true rfl) dX13_upOrDown_7 ⟨Nat.le_of_ble_eq_true rfl, Nat.le_of_ble_eq_true rfl⟩); exact (g_runF S hK I (As := []) (rest := [.int (rowP w x)]) (met_p_row_H l Γ htr ph i ad na mc w y hW hw hpy e8) (ci := 9) rfl (va_cwF 0 hts (lw_F q1261 q1278 q1266 q157 q1268) rfl rfl rfl (hK.F 21 rfl) (by decide +kernel) ⟨Nat.le_of_ble_eq_true rfl, Nat.le_of_ble_eq_true rfl⟩) (g_recv hK I (g_at.of r9) (ci := 9) rfl) rfl hl.1 rfl (Nat.le_of_ble_eq_true rfl) dX13_upOrDown_7 ⟨Nat.le_of_ble_eq_true rfl, Nat.le_of_ble_eq_true rfl⟩); exact (g_runF S hK I (As := []) (rest := [.int (rowP w x)]) (met_p_row_H l Γ htr ph i ad na mc w y hW hw hpy e8) (ci := 8) rfl (va_cwF 0 hts (lw_F q1261 q1271 q1266 q157 q1268) rfl rfl rfl (hK.F 17 rfl) (by decide +kernel) ⟨Nat.le_of_ble_eq_true rfl, Nat.le_of_ble_eq_true rfl⟩) (g_recv hK I (g_at.of r9) (ci := 8) rfl) rfl hl.1 rfl (Nat.le_of_ble_eq_true rfl) dX13_upOrDown_7 ⟨Nat.le_of_ble_eq_true rfl, Nat.le_of_ble_eq_true rfl⟩); exact (g_runF S hK I (As := []) (rest := [.int (rowP w x)]) (met_p_row_H l Γ htr ph i ad na mc w y hW hw hpy e8) (ci := 6) rfl (va_cwF 0 hts (lw_F q1261 q1264 q1266 q157 q1268) rfl rfl rfl (hK.F 9 rfl) (by decide +kernel) ⟨Nat.le_of_ble_eq_true rfl, Nat.le_of_ble_eq_true rfl⟩) (g_recv hK I (g_at.of r9) (ci := 6) rfl) rfl hl.1 rfl (Nat.le_of_ble_eq_true rfl) dX13_upOrDown_7 ⟨Nat.le_of_ble_eq_true rfl, Nat.le_of_ble_eq_true rfl⟩); exact (g_runF S hK I (As := []) (rest := [.int (rowP w x)]) (met_p_row_G l Γ htr ph i ad na mc w y hW hw hpy e8) (ci := 3) rfl (va_cwF 0 hts (lw_F q1261 q1273 q1275 q149 q1277) rfl rfl rfl (hK.F 25 rfl) (by decide +kernel) ⟨Nat.le_of_ble_eq_true rfl, Nat.le_of_ble_eq_true rfl⟩) (g_recv hK I (g_at.of r9) (ci := 3) rfl) rfl hl.1 rfl (Nat.le_of_ble_eq_true rfl) dX13_upOrDown_7 ⟨Nat.le_of_ble_eq_true rfl, Nat.le_of_ble_eq_true rfl⟩)) I (fun r_7 ph1 H locs hp I => ?_)
  obtain ⟨hp, hph⟩ := hp
  rw [hph] at I
  have hp : r_7 = (rowP w y) := hp
  rw [hp]
  refine lv_isub hx hb dX13_upOrDown_12 ?_
  refine g_ci (g_runS S hK I (As := [.int ((rowP w x) - (rowP w y))]) (rest := []) (met_X13_amount l Γ ph ((rowP w x) - (rowP w y))) (va_cwS 1 hts (lw_S q1280 q1249 q170 q1250) rfl rfl rfl (by decide +kernel) ⟨Nat.le_of_ble_eq_true rfl, Nat.le_of_ble_eq_true rfl⟩) rfl hl.1 rfl (Nat.le_of_ble_eq_true rfl) dX13_upOrDown_13 ⟨Nat.le_of_ble_eq_true rfl, Nat.le_of_ble_eq_true rfl⟩) I (fun r_13 ph1 H locs hp I => ?_)
  obtain ⟨hp, hph⟩ := hp
  rw [hph] at I
  have hp : r_13 = sz ((rowP w x) - (rowP w y)) := hp
  rw [hp]
  exact g_iret S hr hlk I dX13_upOrDown_16 (Nat.le_of_ble_eq_true rfl) (Nat.le_of_ble_eq_true rfl) hQ ⟨_, rfl, rfl, rfl⟩

theorem dst_g {w : m_w} {k : Nat} (hk : k < 2 ^ 31) {p : Int32} (hp : p = -1) : w (1 + 5 * k + 1) = dst w (nI k) p := by
  unfold dst hX
  rw [if_neg (fun q => nI_m1 hk q.1), if_neg (nI_m1 hk), if_pos hp, nI_clamp hk]
set_option maxHeartbeats 4000000 in
set_option maxRecDepth 100000 in
theorem met_X7_distance (l : Launch) (Γ : g_C) (htr : l.stackTraces = false) (ph : g_H) (i : Nat) (ad na : Nat → Nat) (mc : Nat → Int32) (w : m_w) (k : Nat) (p : Int32)  (hW : g_Wl Γ ph i ad na mc w) (hw : WF w) (hk : k < nN w) (hp9 : okP w p) : g_Met l yX7_distance (ws_ yX7_distance cX7_distance 2 (some .int)) (g_rm 4 0 0) Γ [.ref (ad (30 + k)), .ref (plA ad p)] ph (g_oi (fun rv_ ph' => rv_ = (dst w (nI k) p) ∧ ph' = ph)) g_no := by
  refine g_start (y := yX7_distance) (cc := cX7_distance) (maxL := 2) (ret := (some .int)) (rm := g_rm 4 0 0) (by decide) (Nat.le_of_ble_eq_true rfl) ?_
  intro pg e s m A below meth cd ls Q hQ S hr hlk hex hnm hK I hl
  have hx := S.1
  have hb := S.2.1
  have hown := S.2.2.2.1
  have hts := S.2.2.2.2
  have S : CallFix pg m cd cX7_distance 2 s A lw_all "CrumblingWall$Hold" := S
  have hl : lv_has ls 2 [(0, .ref (ad (30 + k))), (1, .ref (plA ad p))] := hl
  have hwc := hw.1; have hwl := hw.2.1; have hwa := hw.2.2.1
  refine lv_aload_n hx hb dX7_distance_0 rfl (lv_at hl 1 rfl) ?_
  refine g_cFi (by rcases pl_or hW hw (p := p) hp9 with ⟨e8, fs9, r9⟩ | ⟨e8, b8, n8, a8, fs9, h9⟩; rotate_left; rcases h9 with ⟨e9, r9⟩ | ⟨e9, r9⟩ | ⟨e9, r9⟩ | ⟨e9, r9⟩; exact (g_runF S hK I (As := []) (rest := []) (met_p_number_H l Γ htr ph i ad na mc w p hW hw hp9 e8) (ci := 7) rfl (va_cwF 0 hts (lw_F q1216 q1225 q1221 q157 q1223) rfl rfl rfl (hK.F 12 rfl) (by decide +kernel) ⟨Nat.le_of_ble_eq_true rfl, Nat.le_of_ble_eq_true rfl⟩) (g_recv hK I (g_at.of r9) (ci := 7) rfl) rfl hl.1 rfl (Nat.le_of_ble_eq_true rfl) dX7_distance_1 ⟨Nat.le_of_ble_eq_true rfl, Nat.le_of_ble_eq_true rfl⟩); exact (g_runF S hK I (As := []) (rest := []) (met_p_number_H l Γ htr ph i ad na mc w p hW hw hp9 e8) (ci := 9) rfl (va_cwF 0 hts (lw_F q1216 q1237 q1221 q157 q1223) rfl rfl rfl (hK.F 20 rfl) (by decide +kernel) ⟨Nat.le_of_ble_eq_true rfl, Nat.le_of_ble_eq_true rfl⟩) (g_recv hK I (g_at.of r9) (ci := 9) rfl) rfl hl.1 rfl (Nat.le_of_ble_eq_true rfl) dX7_distance_1 ⟨Nat.le_of_ble_eq_true rfl, Nat.le_of_ble_eq_true rfl⟩); exact (g_runF S hK I (As := []) (rest := []) (met_p_number_H l Γ htr ph i ad na mc w p hW hw hp9 e8) (ci := 8) rfl (va_cwF 0 hts (lw_F q1216 q1228 q1221 q157 q1223) rfl rfl rfl (hK.F 16 rfl) (by decide +kernel) ⟨Nat.le_of_ble_eq_true rfl, Nat.le_of_ble_eq_true rfl⟩) (g_recv hK I (g_at.of r9) (ci := 8) rfl) rfl hl.1 rfl (Nat.le_of_ble_eq_true rfl) dX7_distance_1 ⟨Nat.le_of_ble_eq_true rfl, Nat.le_of_ble_eq_true rfl⟩); exact (g_runF S hK I (As := []) (rest := []) (met_p_number_H l Γ htr ph i ad na mc w p hW hw hp9 e8) (ci := 6) rfl (va_cwF 0 hts (lw_F q1216 q1219 q1221 q157 q1223) rfl rfl rfl (hK.F 8 rfl) (by decide +kernel) ⟨Nat.le_of_ble_eq_true rfl, Nat.le_of_ble_eq_true rfl⟩) (g_recv hK I (g_at.of r9) (ci := 6) rfl) rfl hl.1 rfl (Nat.le_of_ble_eq_true rfl) dX7_distance_1 ⟨Nat.le_of_ble_eq_true rfl, Nat.le_of_ble_eq_true rfl⟩); exact (g_runF S hK I (As := []) (rest := []) (met_p_number_G l Γ htr ph i ad na mc w p hW hw hp9 e8) (ci := 3) rfl (va_cwF 0 hts (lw_F q1216 q1231 q1233 q149 q1235) rfl rfl rfl (hK.F 24 rfl) (by decide +kernel) ⟨Nat.le_of_ble_eq_true rfl, Nat.le_of_ble_eq_true rfl⟩) (g_recv hK I (g_at.of r9) (ci := 3) rfl) rfl hl.1 rfl (Nat.le_of_ble_eq_true rfl) dX7_distance_1 ⟨Nat.le_of_ble_eq_true rfl, Nat.le_of_ble_eq_true rfl⟩)) I (fun r_1 ph1 H locs hp I => ?_)
  obtain ⟨hp, hph⟩ := hp
  rw [hph] at I
  have hp : r_1 = p := hp
  rw [hp]
  refine lv_iconst (v := (-1)) hx hb dX7_distance_6 (by decide) ?_
  refine lv_icmp_ne (tgt := 17) hx hb dX7_distance_7 (by decide) (fun c_7 => ?_) (fun c_7 => ?_)
  · refine lv_aload_n hx hb dX7_distance_17 rfl (lv_at hl 0 rfl) ?_
    refine lv_aload_n hx hb dX7_distance_18 rfl (lv_at hl 1 rfl) ?_
    refine g_ci (by obtain ⟨fs9, h9⟩ := ho_or hW hw (k := k) (by omega); rcases h9 with ⟨e9, r9⟩ | ⟨e9, r9⟩ | ⟨e9, r9⟩ | ⟨e9, r9⟩; exact (g_runU S hK I (As := [.ref (plA ad p)]) (rest := []) (met_X7_aside l Γ htr ph i ad na mc w k p hW hw  (by omega) hp9) (g_cwD (n := 1) hts q1246 q157 (by decide) (by decide +kernel) q1239 q1241 (va_Decl.of (hts _ q1240) (hts _ q1246)) q1243 q1240 ⟨Nat.le_of_ble_eq_true rfl, Nat.le_of_ble_eq_true rfl⟩) (g_recv hK I (g_at.of r9) (ci := 7) rfl) rfl hl.1 rfl (Nat.le_of_ble_eq_true rfl) dX7_distance_19 ⟨Nat.le_of_ble_eq_true rfl, Nat.le_of_ble_eq_true rfl⟩); exact (g_runU S hK I (As := [.ref (plA ad p)]) (rest := []) (met_X7_aside l Γ htr ph i ad na mc w k p hW hw  (by omega) hp9) (g_cwD (n := 1) hts q1246 q157 (by decide) (by decide +kernel) q1239 q1241 (va_Decl.of (hts _ q1240) (hts _ q1246)) q1245 q1240 ⟨Nat.le_of_ble_eq_true rfl, Nat.le_of_ble_eq_true rfl⟩) (g_recv hK I (g_at.of r9) (ci := 9) rfl) rfl hl.1 rfl (Nat.le_of_ble_eq_true rfl) dX7_distance_19 ⟨Nat.le_of_ble_eq_true rfl, Nat.le_of_ble_eq_true rfl⟩); exact (g_runU S hK I (As := [.ref (plA ad p)]) (rest := []) (met_X7_aside l Γ htr ph i ad na mc w k p hW hw  (by omega) hp9) (g_cwD (n := 1) hts q1246 q157 (by decide) (by decide +kernel) q1239 q1241 (va_Decl.of (hts _ q1240) (hts _ q1246)) q1244 q1240 ⟨Nat.le_of_ble_eq_true rfl, Nat.le_of_ble_eq_true rfl⟩) (g_recv hK I (g_at.of r9) (ci := 8) rfl) rfl hl.1 rfl (Nat.le_of_ble_eq_true rfl) dX7_distance_19 ⟨Nat.le_of_ble_eq_true rfl, Nat.le_of_ble_eq_true rfl⟩); exact (g_runU S hK I (As := [.ref (plA ad p)]) (rest := []) (met_X7_aside l Γ htr ph i ad na mc w k p hW hw  (by omega) hp9) (g_cwD (n := 1) hts q1246 q157 (by decide) (by decide +kernel) q1239 q1241 (va_Decl.of (hts _ q1240) (hts _ q1246)) q1242 q1240 ⟨Nat.le_of_ble_eq_true rfl, Nat.le_of_ble_eq_true rfl⟩) (g_recv hK I (g_at.of r9) (ci := 6) rfl) rfl hl.1 rfl (Nat.le_of_ble_eq_true rfl) dX7_distance_19 ⟨Nat.le_of_ble_eq_true rfl, Nat.le_of_ble_eq_true rfl⟩)) I (fun r_19 ph1 H locs hp I => ?_)
    obtain ⟨hp, hph⟩ := hp
    rw [hph] at I
    have hp : r_19 = (asd w (nI k) p) := hp
    rw [hp]
    refine lv_aload_n hx hb dX7_distance_22 rfl (lv_at hl 0 rfl) ?_
    refine lv_aload_n hx hb dX7_distance_23 rfl (lv_at hl 1 rfl) ?_
    rw [← plA_h (ad := ad) (show k < 2 ^ 31 by omega)]
    refine g_ci (by obtain ⟨fs9, h9⟩ := ho_or hW hw (k := k) hk; rw [← plA_h (ad := ad) (show k < 2 ^ 31 by omega)] at h9; rcases h9 with ⟨e9, r9⟩ | ⟨e9, r9⟩ | ⟨e9, r9⟩ | ⟨e9, r9⟩; exact (g_runUD (n := 0) S hK I (As := [.ref (plA ad p)]) (rest := [.int (asd w (nI k) p)]) (met_X13_upOrDown l Γ htr ph i ad na mc w (nI k) p hW hw (okP_h hk hw) hp9) (C := "CrumblingWall$Edge") (by decide) (g_recv hK I (g_at.of r9) (ci := 7) rfl) ⟨Nat.le_of_ble_eq_true rfl, Nat.le_of_ble_eq_true rfl⟩ rfl hl.1 rfl (Nat.le_of_ble_eq_true rfl) dX7_distance_24 ⟨Nat.le_of_ble_eq_true rfl, Nat.le_of_ble_eq_true rfl⟩); exact (g_runUD (n := 0) S hK I (As := [.ref (plA ad p)]) (rest := [.int (asd w (nI k) p)]) (met_X13_upOrDown l Γ htr ph i ad na mc w (nI k) p hW hw (okP_h hk hw) hp9) (C := "CrumblingWall$Pocket") (by decide) (g_recv hK I (g_at.of r9) (ci := 9) rfl) ⟨Nat.le_of_ble_eq_true rfl, Nat.le_of_ble_eq_true rfl⟩ rfl hl.1 rfl (Nat.le_of_ble_eq_true rfl) dX7_distance_24 ⟨Nat.le_of_ble_eq_true rfl, Nat.le_of_ble_eq_true rfl⟩); exact (g_runUD (n := 0) S hK I (As := [.ref (plA ad p)]) (rest := [.int (asd w (nI k) p)]) (met_X13_upOrDown l Γ htr ph i ad na mc w (nI k) p hW hw (okP_h hk hw) hp9) (C := "CrumblingWall$Flake") (by decide) (g_recv hK I (g_at.of r9) (ci := 8) rfl) ⟨Nat.le_of_ble_eq_true rfl, Nat.le_of_ble_eq_true rfl⟩ rfl hl.1 rfl (Nat.le_of_ble_eq_true rfl) dX7_distance_24 ⟨Nat.le_of_ble_eq_true rfl, Nat.le_of_ble_eq_true rfl⟩); exact (g_runUD (n := 0) S hK I (As := [.ref (plA ad p)]) (rest := [.int (asd w (nI k) p)]) (met_X13_upOrDown l Γ htr ph i ad na mc w (nI k) p hW hw (okP_h hk hw) hp9) (C := "CrumblingWall$Bolt") (by decide) (g_recv hK I (g_at.of r9) (ci := 6) rfl) ⟨Nat.le_of_ble_eq_true rfl, Nat.le_of_ble_eq_true rfl⟩ rfl hl.1 rfl (Nat.le_of_ble_eq_true rfl) dX7_distance_24 ⟨Nat.le_of_ble_eq_true rfl, Nat.le_of_ble_eq_true rfl⟩)) I (fun r_24 ph1 H locs hp I => ?_)
    obtain ⟨hp5, hph⟩ := hp
    rw [hph] at I
    have hp5 : r_24 = uod w (nI k) p := hp5
    rw [hp5]
    refine lv_iadd hx hb dX7_distance_27 ?_
    exact g_iret S hr hlk I dX7_distance_28 (Nat.le_of_ble_eq_true rfl) (Nat.le_of_ble_eq_true rfl) hQ ⟨_, rfl, (dst_eq (nI_m1 (by omega)) c_7).symm, rfl⟩
  · refine lv_aload_n hx hb dX7_distance_10 rfl (lv_at hl 0 rfl) ?_
    refine h_get S hK I (kd := (w (1 + 5 * k + 2))) (v := .int (w (1 + 5 * k + 1))) (g_at.of (hW.ho (k := k) (by omega))) 2 (by decide) q1435 rfl rfl dX7_distance_11 ?_
    refine lv_goto (tgt := 28) hx hb dX7_distance_14 (by decide) ?_
    exact g_iret S hr hlk I dX7_distance_28 (Nat.le_of_ble_eq_true rfl) (Nat.le_of_ble_eq_true rfl) hQ ⟨_, rfl, (dst_g (by omega) c_7), rfl⟩

theorem dst_G {w : m_w} {p : Int32} : rowP w p = dst w (-1) p := by
  unfold dst rowP
  by_cases e : p = -1
  · rw [if_pos e, if_pos ⟨rfl, e⟩]
  · rw [if_neg e, if_neg (fun q => e q.2), if_pos rfl]
set_option maxHeartbeats 4000000 in
set_option maxRecDepth 100000 in
theorem met_X4_distance (l : Launch) (Γ : g_C) (htr : l.stackTraces = false) (ph : g_H) (i : Nat) (ad na : Nat → Nat) (mc : Nat → Int32) (w : m_w) (p : Int32)  (hW : g_Wl Γ ph i ad na mc w) (hw : WF w) (hp9 : okP w p) : g_Met l yX4_distance (ws_ yX4_distance cX4_distance 2 (some .int)) (g_rm 4 0 0) Γ [.ref (ad 7), .ref (plA ad p)] ph (g_oi (fun rv_ ph' => rv_ = (dst w (-1) p) ∧ ph' = ph)) g_no := by
  refine g_start (y := yX4_distance) (cc := cX4_distance) (maxL := 2) (ret := (some .int)) (rm := g_rm 4 0 0) (by decide) (Nat.le_of_ble_eq_true rfl) ?_
  intro pg e s m A below meth cd ls Q hQ S hr hlk hex hnm hK I hl
  have hx := S.1
  have hb := S.2.1
  have hown := S.2.2.2.1
  have hts := S.2.2.2.2
  have S : CallFix pg m cd cX4_distance 2 s A lw_all "CrumblingWall$Ground" := S
  have hl : lv_has ls 2 [(0, .ref (ad 7)), (1, .ref (plA ad p))] := hl
  have hwc := hw.1; have hwl := hw.2.1; have hwa := hw.2.2.1
  refine lv_aload_n hx hb dX4_distance_0 rfl (lv_at hl 1 rfl) ?_
  refine g_cFi (by rcases pl_or hW hw (p := p) hp9 with ⟨e8, fs9, r9⟩ | ⟨e8, b8, n8, a8, fs9, h9⟩; rotate_left; rcases h9 with ⟨e9, r9⟩ | ⟨e9, r9⟩ | ⟨e9, r9⟩ | ⟨e9, r9⟩; exact (g_runF S hK I (As := []) (rest := []) (met_p_row_H l Γ htr ph i ad na mc w p hW hw hp9 e8) (ci := 7) rfl (va_cwF 0 hts (lw_F q1291 q1269 q1266 q157 q1268) rfl rfl rfl (hK.F 13 rfl) (by decide +kernel) ⟨Nat.le_of_ble_eq_true rfl, Nat.le_of_ble_eq_true rfl⟩) (g_recv hK I (g_at.of r9) (ci := 7) rfl) rfl hl.1 rfl (Nat.le_of_ble_eq_true rfl) dX4_distance_1 ⟨Nat.le_of_ble_eq_true rfl, Nat.le_of_ble_eq_true rfl⟩); exact (g_runF S hK I (As := []) (rest := []) (met_p_row_H l Γ htr ph i ad na mc w p hW hw hp9 e8) (ci := 9) rfl (va_cwF 0 hts (lw_F q1291 q1278 q1266 q157 q1268) rfl rfl rfl (hK.F 21 rfl) (by decide +kernel) ⟨Nat.le_of_ble_eq_true rfl, Nat.le_of_ble_eq_true rfl⟩) (g_recv hK I (g_at.of r9) (ci := 9) rfl) rfl hl.1 rfl (Nat.le_of_ble_eq_true rfl) dX4_distance_1 ⟨Nat.le_of_ble_eq_true rfl, Nat.le_of_ble_eq_true rfl⟩); exact (g_runF S hK I (As := []) (rest := []) (met_p_row_H l Γ htr ph i ad na mc w p hW hw hp9 e8) (ci := 8) rfl (va_cwF 0 hts (lw_F q1291 q1271 q1266 q157 q1268) rfl rfl rfl (hK.F 17 rfl) (by decide +kernel) ⟨Nat.le_of_ble_eq_true rfl, Nat.le_of_ble_eq_true rfl⟩) (g_recv hK I (g_at.of r9) (ci := 8) rfl) rfl hl.1 rfl (Nat.le_of_ble_eq_true rfl) dX4_distance_1 ⟨Nat.le_of_ble_eq_true rfl, Nat.le_of_ble_eq_true rfl⟩); exact (g_runF S hK I (As := []) (rest := []) (met_p_row_H l Γ htr ph i ad na mc w p hW hw hp9 e8) (ci := 6) rfl (va_cwF 0 hts (lw_F q1291 q1264 q1266 q157 q1268) rfl rfl rfl (hK.F 9 rfl) (by decide +kernel) ⟨Nat.le_of_ble_eq_true rfl, Nat.le_of_ble_eq_true rfl⟩) (g_recv hK I (g_at.of r9) (ci := 6) rfl) rfl hl.1 rfl (Nat.le_of_ble_eq_true rfl) dX4_distance_1 ⟨Nat.le_of_ble_eq_true rfl, Nat.le_of_ble_eq_true rfl⟩); exact (g_runF S hK I (As := []) (rest := []) (met_p_row_G l Γ htr ph i ad na mc w p hW hw hp9 e8) (ci := 3) rfl (va_cwF 0 hts (lw_F q1291 q1273 q1275 q149 q1277) rfl rfl rfl (hK.F 25 rfl) (by decide +kernel) ⟨Nat.le_of_ble_eq_true rfl, Nat.le_of_ble_eq_true rfl⟩) (g_recv hK I (g_at.of r9) (ci := 3) rfl) rfl hl.1 rfl (Nat.le_of_ble_eq_true rfl) dX4_distance_1 ⟨Nat.le_of_ble_eq_true rfl, Nat.le_of_ble_eq_true rfl⟩)) I (fun r_1 ph1 H locs hp I => ?_)
  obtain ⟨hp, hph⟩ := hp
  rw [hph] at I
  have hp : r_1 = (rowP w p) := hp
  rw [hp]
  exact g_iret S hr hlk I dX4_distance_6 (Nat.le_of_ble_eq_true rfl) (Nat.le_of_ble_eq_true rfl) hQ ⟨_, rfl, dst_G, rfl⟩

theorem met_p_distance_H (l : Launch) (Γ : g_C) (htr : l.stackTraces = false) (ph : g_H) (i : Nat) (ad na : Nat → Nat) (mc : Nat → Int32) (w : m_w) (x y : Int32) (hW : g_Wl Γ ph i ad na mc w) (hw : WF w) (hx : okP w x) (hy : okP w y) (e8 : ¬ x = -1) : g_Met l yX7_distance (ws_ yX7_distance cX7_distance 2 (some .int)) (g_rm 4 0 0) Γ [.ref (plA ad x), .ref (plA ad y)] ph (g_oi (fun rv_ ph' => rv_ = (dst w x y) ∧ ph' = ph)) g_no := by
  obtain ⟨q, h1, h2, h3⟩ := vp_j (hx.resolve_left e8) (Nat.lt_of_le_of_lt hw.1.2 (by decide))
  have h := met_X7_distance l Γ htr ph i ad na mc w q y hW hw h1 hy
  have hq : q < 2 ^ 31 := by have := hw.1.2; omega
  rw [← h2] at h
  rw [show plA ad x = ad (30 + q) from by rw [h2]; exact plA_h hq]
  exact h
theorem met_p_distance_G (l : Launch) (Γ : g_C) (htr : l.stackTraces = false) (ph : g_H) (i : Nat) (ad na : Nat → Nat) (mc : Nat → Int32) (w : m_w) (x y : Int32) (hW : g_Wl Γ ph i ad na mc w) (hw : WF w) (hx : okP w x) (hy : okP w y) (e8 : x = -1) : g_Met l yX4_distance (ws_ yX4_distance cX4_distance 2 (some .int)) (g_rm 4 0 0) Γ [.ref (plA ad x), .ref (plA ad y)] ph (g_oi (fun rv_ ph' => rv_ = (dst w x y) ∧ ph' = ph)) g_no := by
  subst e8
  have h := met_X4_distance l Γ htr ph i ad na mc w y hW hw hy
  exact h

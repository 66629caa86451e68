/-! THE WALL'S PICTURE: the component's cells of a wall that stands for the row w, in region i of the ghost heap.
addresses: 0 the wall, 1 its list of holds, 2 that list's array, 3 its list of lamps, 4 that list's array, 5 its list of anchors, 6 its two climbers' list, 7 its ground, 8 its forces, 10+c a climber, 20+k a lamp, 30+h a hold; na: the nodes of the anchors; mc: the lists' counts of changes.
the address n lies in part 100+n, the nodes in part 200. -/
set_option maxRecDepth 100000
/-- a hold's class by its kind -/
def hCl (k : Int32) : Nat := if k = 0 then 7 else if k = 1 then 9 else if k = 2 then 8 else 6
def hoE (k : Nat) (kd c r st we : Int32) : va_E := .inr (hCl kd, [.int (nI k), .int c, .int r, .int st, .int we])
def hoW (w : m_w) (k : Nat) : va_E := hoE k (w (1 + 5 * k + 2)) (w (1 + 5 * k)) (w (1 + 5 * k + 1)) (w (1 + 5 * k + 3)) (w (1 + 5 * k + 4))
def laE (at_ ca ra oi li : Int32) : va_E := .inr (10, [.int ra, .int at_, .int ca, .int oi, .int li])
def laW (w : m_w) (k : Nat) : va_E := laE (w (105 + 5 * k)) (w (105 + 5 * k + 1)) (w (105 + 5 * k + 2)) (w (105 + 5 * k + 3)) (w (105 + 5 * k + 4))
def clE (c : Nat) (at_ st gr : Int32) : va_E := .inr (2, [.int (nI c), .int at_, .int st, .int gr])
def clW (w : m_w) (c : Nat) : va_E := clE c (w (125 + 3 * c)) (w (125 + 3 * c + 1)) (w (125 + 3 * c + 2))
def wlE (ad : Nat → Nat) (w : m_w) : va_E := .inr (1, [.ref (ad 1), .ref (ad 3), .ref (ad 5), .ref (ad 6), .ref (ad 7), .ref (ad 8), .int (w 145), .int (w 101), .int (w 102), .int (w 103), .int (w 140), .int (w 141), .int (w 142), .int (w 143), .int (w 144)])
def rfs (n : Nat) (f : Nat → Nat) : Nat → Option Nat := fun k => if k < n then some (f k) else none
def anI (Γ : g_C) (w : m_w) : Nat → Nat := fun k => g_bx Γ (w (132 + k)).toNatClampNeg
def foF (w : m_w) : Nat → UInt32 := fun k => if k < 16 then (w (146 + k)).toUInt32 else 0
def alE (q : Nat) (m n : Int32) : va_E := .inr (21, [.int m, .ref q, .int n])
/-- the cells but the anchors' -/
def g_Wc (Γ : g_C) (ph : g_H) (i : Nat) (ad : Nat → Nat) (mc : Nat → Int32) (w : m_w) : Prop :=
  ph 100 i (ad 0) = some (wlE ad w) ∧ (ph 101 i (ad 1) = some (alE (ad 2) (mc 1) (w 0)) ∧ ph 102 i (ad 2) = some (.inl (g_t Γ 7, 20, .inr (.inr (.inr (.inr (rfs (nN w) (fun k => ad (30 + k))))))))) ∧
  (ph 103 i (ad 3) = some (alE (ad 4) (mc 2) (w 104)) ∧ ph 104 i (ad 4) = some (.inl (g_t Γ 7, 4, .inr (.inr (.inr (.inr (rfs (nLa w) (fun k => ad (20 + k))))))))) ∧
  (ph 106 i (ad 6) = some (.inr (20, [.ref (ad 10), .ref (ad 11)])) ∧ ph 107 i (ad 7) = some (.inr (3, [])) ∧ ph 108 i (ad 8) = some (.inl (g_t Γ 5, 16, .inr (.inr (.inl (foF w)))))) ∧
  (∀ c, c < 2 → ph (110 + c) i (ad (10 + c)) = some (clW w c)) ∧ (∀ k, k < nLa w → ph (120 + k) i (ad (20 + k)) = some (laW w k)) ∧ (∀ k, k < nN w → ph (130 + k) i (ad (30 + k)) = some (hoW w k))
def g_Wl (Γ : g_C) (ph : g_H) (i : Nat) (ad na : Nat → Nat) (mc : Nat → Int32) (w : m_w) : Prop :=
  i ≠ 0 ∧ g_Wc Γ ph i ad mc w ∧ g_LL ph 105 i (ad 5) 200 (nAn w) na (anI Γ w) (mc 0)
/-- all other regions are as before -/
def g_frR (i : Nat) (ph ph' : g_H) : Prop := ∀ j i', i' ≠ i → ph' j i' = ph j i'
theorem g_frR.refl (i : Nat) (ph : g_H) : g_frR i ph ph := fun _ _ _ => rfl
theorem g_frR.trans {i : Nat} {a b c : g_H} (h1 : g_frR i a b) (h2 : g_frR i b c) : g_frR i a c := fun j k h => (h2 j k h).trans (h1 j k h)
theorem g_frR.put {i : Nat} {a : g_H} {j q : Nat} {e : va_E} : g_frR i a (gput a j i q e) := fun j' i' h => by
  unfold gput
  exact gset_ne a _ (fun z => h z.2)
theorem g_frR.of {i : Nat} {a b : g_H} {L : List (Nat × Nat)} (h : g_fr L a b) (hL : ∀ x ∈ L, x.2 = i) : g_frR i a b := fun j i' hi => h j i' (fun hm => hi (hL _ hm))
theorem g_frR.at {i : Nat} {a b : g_H} (h : g_frR i a b) {j i' q : Nat} {e : va_E} (hi : i' ≠ i) (hq : a j i' q = some e) : b j i' q = some e := by rw [h j i' hi]; exact hq
/-- nothing lies in the parts for what is thrown away, from 30 to b -/
def g_Tr (b : Nat) (ph : g_H) : Prop := ∀ j, 30 ≤ j → j < b → ∀ a, ph j 0 a = none
theorem g_Tr.fr {i n : Nat} {a b : g_H} (h : g_Tr n a) (hf : g_frR i a b) (hi : i ≠ 0) : g_Tr n b := fun j h1 h2 q => by rw [hf j 0 (Ne.symm hi)]; exact h j h1 h2 q
theorem g_Tr.sub {n k : Nat} {a : g_H} (h : g_Tr n a) (hk : k ≤ n) : g_Tr k a := fun j h1 h2 q => h j h1 (by omega) q
theorem g_Tr.frL {n : Nat} {a b : g_H} {L : List (Nat × Nat)} (h : g_Tr n a) (hf : g_fr L a b) (hL : ∀ x ∈ L, ¬ (x.2 = 0 ∧ 30 ≤ x.1 ∧ x.1 < n)) : g_Tr n b := fun j h1 h2 q => by rw [hf j 0 (fun hm => hL _ hm ⟨rfl, h1, h2⟩)]; exact h j h1 h2 q
/-- all other regions are as before, but the trash up to n -/
def g_frT (n i : Nat) (ph ph' : g_H) : Prop := ∀ j i', i' ≠ i → ¬ (i' = 0 ∧ 30 ≤ j ∧ j < n) → ph' j i' = ph j i'
theorem g_frT.refl (n i : Nat) (ph : g_H) : g_frT n i ph ph := fun _ _ _ _ => rfl
theorem g_frT.trans {n i : Nat} {a b c : g_H} (h1 : g_frT n i a b) (h2 : g_frT n i b c) : g_frT n i a c := fun j k h h' => (h2 j k h h').trans (h1 j k h h')
theorem g_frT.ofR {n i : Nat} {a b : g_H} (h : g_frR i a b) : g_frT n i a b := fun j i' h1 _ => h j i' h1
theorem g_frT.ofL {n i : Nat} {a b : g_H} {L : List (Nat × Nat)} (h : g_fr L a b) (hL : ∀ x ∈ L, x.2 = i ∨ (x.2 = 0 ∧ 30 ≤ x.1 ∧ x.1 < n)) : g_frT n i a b := fun j i' h1 h2 => h j i' (fun hm => (hL _ hm).elim h1 h2)
theorem g_Wl.ne {Γ : g_C} {ph : g_H} {i : Nat} {ad na : Nat → Nat} {mc : Nat → Int32} {w : m_w} (h : g_Wl Γ ph i ad na mc w) : i ≠ 0 := h.1
/-- forget what lies in the trash -/
theorem g_I.forget {Γ : g_C} {ph ph' : g_H} {s : State} {H : Heap} {locs : List Loc} {L : List (Nat × Nat)} {n : Nat} (h : g_I Γ ph' s H locs) (hf : g_fr L ph ph') (hT : g_Tr n ph) (hL : ∀ x ∈ L, 30 ≤ x.1 ∧ x.1 < n ∧ x.2 = 0) : g_I Γ ph s H locs := by
  refine h.weak (fun j i a e q => ?_)
  by_cases hm : (j, i) ∈ L
  · obtain ⟨h1, h2, h3⟩ := hL _ hm
    have h3 : i = 0 := h3
    subst h3
    rw [hT j h1 h2 a] at q
    cases q
  · rw [hf j i hm]; exact q
theorem g_I.forget1 {Γ : g_C} {ph ph' : g_H} {s : State} {H : Heap} {locs : List Loc} {j q n : Nat} {e : va_E} (h : g_I Γ (gput ph j 0 q e) s H locs) (hT : g_Tr n ph) (h1 : 30 ≤ j) (h2 : j < n) : g_I Γ ph s H locs :=
  g_I.forget (L := [(j, 0)]) h ((g_fr.refl _ _).put (by simp)) hT (fun x hx => by rw [List.mem_singleton.mp hx]; exact ⟨h1, h2, rfl⟩)
section GW
variable {Γ : g_C} {ph : g_H} {i : Nat} {ad na : Nat → Nat} {mc : Nat → Int32} {w : m_w}
theorem g_Wl.o0 (h : g_Wl Γ ph i ad na mc w) : ph 100 i (ad 0) = some (.inr (1, [.ref (ad 1), .ref (ad 3), .ref (ad 5), .ref (ad 6), .ref (ad 7), .ref (ad 8), .int (w 145), .int (w 101), .int (w 102), .int (w 103), .int (w 140), .int (w 141), .int (w 142), .int (w 143), .int (w 144)])) := h.2.1.1
theorem g_Wl.o1 (h : g_Wl Γ ph i ad na mc w) : ph 101 i (ad 1) = some (.inr (21, [.int (mc 1), .ref (ad 2), .int (w 0)])) := h.2.1.2.1.1
theorem g_Wl.o2 (h : g_Wl Γ ph i ad na mc w) : ph 102 i (ad 2) = some (.inl (g_t Γ 7, 20, .inr (.inr (.inr (.inr (rfs (nN w) (fun k => ad (30 + k)))))))) := h.2.1.2.1.2
theorem g_Wl.o3 (h : g_Wl Γ ph i ad na mc w) : ph 103 i (ad 3) = some (.inr (21, [.int (mc 2), .ref (ad 4), .int (w 104)])) := h.2.1.2.2.1.1
theorem g_Wl.o4 (h : g_Wl Γ ph i ad na mc w) : ph 104 i (ad 4) = some (.inl (g_t Γ 7, 4, .inr (.inr (.inr (.inr (rfs (nLa w) (fun k => ad (20 + k)))))))) := h.2.1.2.2.1.2
theorem g_Wl.o5 (h : g_Wl Γ ph i ad na mc w) : g_LL ph 105 i (ad 5) 200 (nAn w) na (anI Γ w) (mc 0) := h.2.2
theorem g_Wl.o6 (h : g_Wl Γ ph i ad na mc w) : ph 106 i (ad 6) = some (.inr (20, [.ref (ad 10), .ref (ad 11)])) := h.2.1.2.2.2.1.1
theorem g_Wl.o7 (h : g_Wl Γ ph i ad na mc w) : ph 107 i (ad 7) = some (.inr (3, [])) := h.2.1.2.2.2.1.2.1
theorem g_Wl.o8 (h : g_Wl Γ ph i ad na mc w) : ph 108 i (ad 8) = some (.inl (g_t Γ 5, 16, .inr (.inr (.inl (foF w))))) := h.2.1.2.2.2.1.2.2
theorem g_Wl.cl (h : g_Wl Γ ph i ad na mc w) {c : Nat} (hc : c < 2) : ph (110 + c) i (ad (10 + c)) = some (.inr (2, [.int (nI c), .int (w (125 + 3 * c)), .int (w (125 + 3 * c + 1)), .int (w (125 + 3 * c + 2))])) := h.2.1.2.2.2.2.1 c hc
theorem g_Wl.la (h : g_Wl Γ ph i ad na mc w) {k : Nat} (hk : k < nLa w) : ph (120 + k) i (ad (20 + k)) = some (.inr (10, [.int (w (105 + 5 * k + 2)), .int (w (105 + 5 * k)), .int (w (105 + 5 * k + 1)), .int (w (105 + 5 * k + 3)), .int (w (105 + 5 * k + 4))])) := h.2.1.2.2.2.2.2.1 k hk
theorem g_Wl.ho (h : g_Wl Γ ph i ad na mc w) {k : Nat} (hk : k < nN w) : ph (130 + k) i (ad (30 + k)) = some (hoE k (w (1 + 5 * k + 2)) (w (1 + 5 * k)) (w (1 + 5 * k + 1)) (w (1 + 5 * k + 3)) (w (1 + 5 * k + 4))) := h.2.1.2.2.2.2.2.2 k hk
theorem g_LL.move {ph ph' : g_H} {j i q jn n : Nat} {na it it' : Nat → Nat} {m : Int32} (h : g_LL ph j i q jn n na it m) (h1 : ∀ a, ph' j i a = ph j i a) (h2 : ∀ a, ph' jn i a = ph jn i a) (h3 : ∀ k, k < n → it' k = it k) : g_LL ph' j i q jn n na it' m :=
  ⟨by rw [h1]; exact h.1, fun k hk => by rw [h2, h3 k hk]; exact h.2.1 k hk, h.2.2⟩
/-- the same cells in another ghost heap -/
theorem g_Wl.same {ph' : g_H} (h : g_Wl Γ ph i ad na mc w) (he : ∀ j, 100 ≤ j → ph' j i = ph j i) : g_Wl Γ ph' i ad na mc w := by
  obtain ⟨h0, ⟨h1, ⟨h2, h3⟩, ⟨h4, h5⟩, ⟨h6, h7, h8⟩, h9, h10, h11⟩, h12⟩ := h
  exact ⟨h0, ⟨by rw [he _ (by omega)]; exact h1, ⟨by rw [he _ (by omega)]; exact h2, by rw [he _ (by omega)]; exact h3⟩, ⟨by rw [he _ (by omega)]; exact h4, by rw [he _ (by omega)]; exact h5⟩, ⟨by rw [he _ (by omega)]; exact h6, by rw [he _ (by omega)]; exact h7, by rw [he _ (by omega)]; exact h8⟩, fun c hc => by rw [he _ (by omega)]; exact h9 c hc, fun k hk => by rw [he _ (by omega)]; exact h10 k hk, fun k hk => by rw [he _ (by omega)]; exact h11 k hk⟩, h12.move (fun a => by rw [he _ (by omega)]) (fun a => by rw [he _ (by omega)]) (fun _ _ => rfl)⟩
theorem g_Wl.fr {i' : Nat} {ph' : g_H} (h : g_Wl Γ ph i ad na mc w) (hf : g_frR i' ph ph') (hi : i ≠ i') : g_Wl Γ ph' i ad na mc w := h.same (fun j _ => hf j i hi)
theorem g_Wl.frL {L : List (Nat × Nat)} {ph' : g_H} (h : g_Wl Γ ph i ad na mc w) (hf : g_fr L ph ph') (hL : ∀ x ∈ L, x.1 < 100 ∨ x.2 ≠ i) : g_Wl Γ ph' i ad na mc w := h.same (fun j hj => hf j i (fun hm => (hL _ hm).elim (fun z => absurd z (Nat.not_lt.mpr hj)) (fun z => z rfl)))
theorem gput_p {j i a j' i' : Nat} {e : va_E} (h : j' ≠ j) : gput ph j i a e j' i' = ph j' i' := by
  unfold gput
  exact gset_ne ph _ (fun q => h q.1)
/-- the trash is emptied -/
theorem g_Wl.empty {n : Nat} {P : g_H} {s : State} {H : Heap} {locs : List Loc} (h : g_Wl Γ P i ad na mc w) (I : g_I Γ P s H locs) (hf : g_frT n i ph P) (hT : g_Tr n ph) (hn : n ≤ 100) : ∃ P', g_I Γ P' s H locs ∧ g_Wl Γ P' i ad na mc w ∧ g_frR i ph P' := by
  refine ⟨fun j i' => if i' = 0 ∧ 30 ≤ j ∧ j < n then ph j i' else P j i', I.weak (fun j i' a e q => ?_), h.same (fun j hj => if_neg (fun z => absurd z.2.2 (by omega))), fun j i' hi' => ?_⟩
  · by_cases z : i' = 0 ∧ 30 ≤ j ∧ j < n
    · obtain ⟨rfl, z1, z2⟩ := z
      have q : (if (0 : Nat) = 0 ∧ 30 ≤ j ∧ j < n then ph j 0 else P j 0) a = some e := q
      rw [if_pos ⟨rfl, z1, z2⟩, hT j z1 z2 a] at q
      cases q
    · have q : (if i' = 0 ∧ 30 ≤ j ∧ j < n then ph j i' else P j i') a = some e := q
      rw [if_neg z] at q
      exact q
  · show (if i' = 0 ∧ 30 ≤ j ∧ j < n then ph j i' else P j i') = ph j i'
    by_cases z : i' = 0 ∧ 30 ≤ j ∧ j < n
    · exact if_pos z
    · rw [if_neg z]; exact hf j i' hi' z
theorem g_Wl.frT {i' n : Nat} {ph' : g_H} (h : g_Wl Γ ph i ad na mc w) (hf : g_frT n i' ph ph') (hi : i ≠ i') : g_Wl Γ ph' i ad na mc w := h.same (fun j _ => hf j i hi (fun z => h.1 z.1))
/-- one cell is written, of part J; the rows differ there alone -/
theorem g_Wl.put (h : g_Wl Γ ph i ad na mc w) {J a : Nat} {e : va_E} {w' : m_w} (hJ : J ≠ 105 ∧ J ≠ 200 ∧ J ≠ 101 ∧ J ≠ 102 ∧ J ≠ 103 ∧ J ≠ 104 ∧ J ≠ 106 ∧ J ≠ 107)
    (e0 : w' 0 = w 0) (e104 : w' 104 = w 104) (e131 : w' 131 = w 131) (ea : ∀ k, k < nAn w → w' (132 + k) = w (132 + k))
    (c100 : (J = 100 ∧ a = ad 0 ∧ e = wlE ad w') ∨ (J ≠ 100 ∧ wlE ad w' = wlE ad w)) (c108 : (J = 108 ∧ a = ad 8 ∧ e = .inl (g_t Γ 5, 16, .inr (.inr (.inl (foF w'))))) ∨ (J ≠ 108 ∧ foF w' = foF w))
    (ccl : ∀ c, c < 2 → (J = 110 + c ∧ a = ad (10 + c) ∧ e = clW w' c) ∨ (J ≠ 110 + c ∧ clW w' c = clW w c)) (cla : ∀ k, k < nLa w → (J = 120 + k ∧ a = ad (20 + k) ∧ e = laW w' k) ∨ (J ≠ 120 + k ∧ laW w' k = laW w k)) (cho : ∀ k, k < nN w → (J = 130 + k ∧ a = ad (30 + k) ∧ e = hoW w' k) ∨ (J ≠ 130 + k ∧ hoW w' k = hoW w k)) : g_Wl Γ (gput ph J i a e) i ad na mc w' := by
  obtain ⟨j1, j2, j3, j4, j5, j6, j7, j8⟩ := hJ
  have nn : nN w' = nN w := nN_eq e0
  have nl : nLa w' = nLa w := nLa_eq e104
  have nan : nAn w' = nAn w := nAn_eq e131
  have key : ∀ {j b : Nat} {x y : va_E}, ph j i b = some y → ((J = j ∧ a = b ∧ e = x) ∨ (J ≠ j ∧ x = y)) → gput ph J i a e j i b = some x := by
    intro j b x y hy hc
    rcases hc with ⟨rfl, rfl, rfl⟩ | ⟨hn, rfl⟩
    · exact gput_self _ _ _ _ _
    · rw [gput_p (Ne.symm hn)]; exact hy
  refine ⟨h.1, ⟨key h.2.1.1 c100, ⟨?_, ?_⟩, ⟨?_, ?_⟩, ⟨?_, ?_, key h.o8 ?_⟩, fun c hc => key (h.2.1.2.2.2.2.1 c hc) (ccl c hc), fun k hk => key (h.2.1.2.2.2.2.2.1 k (nl ▸ hk)) (cla k (nl ▸ hk)), fun k hk => key (h.2.1.2.2.2.2.2.2 k (nn ▸ hk)) (cho k (nn ▸ hk))⟩, ?_⟩
  · rw [gput_p (Ne.symm j3), e0]; exact h.2.1.2.1.1
  · rw [gput_p (Ne.symm j4), nn]; exact h.2.1.2.1.2
  · rw [gput_p (Ne.symm j5), e104]; exact h.2.1.2.2.1.1
  · rw [gput_p (Ne.symm j6), nl]; exact h.2.1.2.2.1.2
  · rw [gput_p (Ne.symm j7)]; exact h.o6
  · rw [gput_p (Ne.symm j8)]; exact h.o7
  · rcases c108 with q | ⟨q1, q2⟩
    · exact Or.inl q
    · exact Or.inr ⟨q1, by rw [q2]⟩
  · rw [nan]
    exact h.2.2.move (fun a => by rw [gput_p (Ne.symm j1)]) (fun a => by rw [gput_p (Ne.symm j2)]) (fun k hk => by unfold anI; rw [ea k hk])
theorem wlE_eq {w' : m_w} (h : ∀ j, (101 ≤ j ∧ j ≤ 103) ∨ (140 ≤ j ∧ j ≤ 145) → w' j = w j) : wlE ad w' = wlE ad w := by
  unfold wlE
  rw [h 145 (by omega), h 101 (by omega), h 102 (by omega), h 103 (by omega), h 140 (by omega), h 141 (by omega), h 142 (by omega), h 143 (by omega), h 144 (by omega)]
theorem foF_eq {w' : m_w} (h : ∀ j, 146 ≤ j → j < 162 → w' j = w j) : foF w' = foF w := by
  funext k
  unfold foF
  by_cases e : k < 16
  · rw [if_pos e, if_pos e, h _ (by omega) (by omega)]
  · rw [if_neg e, if_neg e]
theorem clW_eq {w' : m_w} {c : Nat} (h : ∀ t, t < 3 → w' (125 + 3 * c + t) = w (125 + 3 * c + t)) : clW w' c = clW w c := by
  unfold clW
  rw [show w' (125 + 3 * c) = w (125 + 3 * c) from h 0 (by omega), h 1 (by omega), h 2 (by omega)]
theorem laW_eq {w' : m_w} {k : Nat} (h : ∀ t, t < 5 → w' (105 + 5 * k + t) = w (105 + 5 * k + t)) : laW w' k = laW w k := by
  unfold laW
  rw [show w' (105 + 5 * k) = w (105 + 5 * k) from h 0 (by omega), h 1 (by omega), h 2 (by omega), h 3 (by omega), h 4 (by omega)]
theorem hoW_eq {w' : m_w} {k : Nat} (h : ∀ t, t < 5 → w' (1 + 5 * k + t) = w (1 + 5 * k + t)) : hoW w' k = hoW w k := by
  unfold hoW
  rw [show w' (1 + 5 * k) = w (1 + 5 * k) from h 0 (by omega), h 1 (by omega), h 2 (by omega), h 3 (by omega), h 4 (by omega)]
theorem g_Wl.l4 (hw : WF w) {k : Nat} (hk : k < nLa w) : k < 4 := Nat.lt_of_lt_of_le hk hw.2.1.2
theorem g_Wl.h20 (hw : WF w) {k : Nat} (hk : k < nN w) : k < 20 := Nat.lt_of_lt_of_le hk hw.1.2
theorem g_Wl.a8 (hw : WF w) {k : Nat} (hk : k < nAn w) : k < 8 := Nat.lt_of_lt_of_le hk hw.2.2.1.2
/-- the same row where a wall's cells look -/
theorem g_Wl.row (h : g_Wl Γ ph i ad na mc w) (hw : WF w) {w' : m_w} (he : ∀ j, j < 170 → w' j = w j) : g_Wl Γ ph i ad na mc w' := by
  obtain ⟨h0, ⟨h1, ⟨h2, h3⟩, ⟨h4, h5⟩, ⟨h6, h7, h8⟩, h9, h10, h11⟩, h12⟩ := h
  have nn : nN w' = nN w := nN_eq (he _ (by omega))
  have nl : nLa w' = nLa w := nLa_eq (he _ (by omega))
  have nan : nAn w' = nAn w := nAn_eq (he _ (by omega))
  refine ⟨h0, ⟨by rw [wlE_eq (fun j hj => he j (by omega))]; exact h1, ⟨by rw [he 0 (by omega)]; exact h2, by rw [nn]; exact h3⟩, ⟨by rw [he 104 (by omega)]; exact h4, by rw [nl]; exact h5⟩, ⟨h6, h7, by rw [foF_eq (fun j h1 h2 => he j (by omega))]; exact h8⟩, fun c hc => by rw [clW_eq (fun t ht => he _ (by omega))]; exact h9 c hc, fun k hk => ?_, fun k hk => ?_⟩, ?_⟩
  · rw [nl] at hk
    have := g_Wl.l4 hw hk
    rw [laW_eq (fun t ht => he _ (by omega))]; exact h10 k hk
  · rw [nn] at hk
    have := g_Wl.h20 hw hk
    rw [hoW_eq (fun t ht => he _ (by omega))]; exact h11 k hk
  · rw [nan]
    exact h12.move (fun _ => rfl) (fun _ => rfl) (fun k hk => by have := g_Wl.a8 hw hk; unfold anI; rw [he _ (by omega)])
theorem g_Wl.put_145 (h : g_Wl Γ ph i ad na mc w) (hw : WF w) {v : Int32} : g_Wl Γ (gput ph 100 i (ad 0) (.inr (1, [.ref (ad 1), .ref (ad 3), .ref (ad 5), .ref (ad 6), .ref (ad 7), .ref (ad 8), .int v, .int (w 101), .int (w 102), .int (w 103), .int (w 140), .int (w 141), .int (w 142), .int (w 143), .int (w 144)]))) i ad na mc (upd w 145 v) := by
  have b1 := hw.1.2; have b2 := hw.2.1.2; have b3 := hw.2.2.1.2
  refine h.put (by decide) (upd_n (by decide)) (upd_n (by decide)) (upd_n (by decide)) (fun k hk => upd_n (by omega)) (Or.inl ⟨rfl, rfl, ?_⟩) (Or.inr ⟨by decide, foF_eq (fun j h1 h2 => upd_n (by omega))⟩) (fun c hc => Or.inr ⟨by omega, clW_eq (fun t ht => upd_n (by omega))⟩) (fun k hk => Or.inr ⟨by omega, laW_eq (fun t ht => upd_n (by omega))⟩) (fun k hk => Or.inr ⟨by omega, hoW_eq (fun t ht => upd_n (by omega))⟩)
  unfold wlE
  simp [upd]
theorem g_Wl.put_101 (h : g_Wl Γ ph i ad na mc w) (hw : WF w) {v : Int32} : g_Wl Γ (gput ph 100 i (ad 0) (.inr (1, [.ref (ad 1), .ref (ad 3), .ref (ad 5), .ref (ad 6), .ref (ad 7), .ref (ad 8), .int (w 145), .int v, .int (w 102), .int (w 103), .int (w 140), .int (w 141), .int (w 142), .int (w 143), .int (w 144)]))) i ad na mc (upd w 101 v) := by
  have b1 := hw.1.2; have b2 := hw.2.1.2; have b3 := hw.2.2.1.2
  refine h.put (by decide) (upd_n (by decide)) (upd_n (by decide)) (upd_n (by decide)) (fun k hk => upd_n (by omega)) (Or.inl ⟨rfl, rfl, ?_⟩) (Or.inr ⟨by decide, foF_eq (fun j h1 h2 => upd_n (by omega))⟩) (fun c hc => Or.inr ⟨by omega, clW_eq (fun t ht => upd_n (by omega))⟩) (fun k hk => Or.inr ⟨by omega, laW_eq (fun t ht => upd_n (by omega))⟩) (fun k hk => Or.inr ⟨by omega, hoW_eq (fun t ht => upd_n (by omega))⟩)
  unfold wlE
  simp [upd]
theorem g_Wl.put_102 (h : g_Wl Γ ph i ad na mc w) (hw : WF w) {v : Int32} : g_Wl Γ (gput ph 100 i (ad 0) (.inr (1, [.ref (ad 1), .ref (ad 3), .ref (ad 5), .ref (ad 6), .ref (ad 7), .ref (ad 8), .int (w 145), .int (w 101), .int v, .int (w 103), .int (w 140), .int (w 141), .int (w 142), .int (w 143), .int (w 144)]))) i ad na mc (upd w 102 v) := by
  have b1 := hw.1.2; have b2 := hw.2.1.2; have b3 := hw.2.2.1.2
  refine h.put (by decide) (upd_n (by decide)) (upd_n (by decide)) (upd_n (by decide)) (fun k hk => upd_n (by omega)) (Or.inl ⟨rfl, rfl, ?_⟩) (Or.inr ⟨by decide, foF_eq (fun j h1 h2 => upd_n (by omega))⟩) (fun c hc => Or.inr ⟨by omega, clW_eq (fun t ht => upd_n (by omega))⟩) (fun k hk => Or.inr ⟨by omega, laW_eq (fun t ht => upd_n (by omega))⟩) (fun k hk => Or.inr ⟨by omega, hoW_eq (fun t ht => upd_n (by omega))⟩)
  unfold wlE
  simp [upd]
theorem g_Wl.put_103 (h : g_Wl Γ ph i ad na mc w) (hw : WF w) {v : Int32} : g_Wl Γ (gput ph 100 i (ad 0) (.inr (1, [.ref (ad 1), .ref (ad 3), .ref (ad 5), .ref (ad 6), .ref (ad 7), .ref (ad 8), .int (w 145), .int (w 101), .int (w 102), .int v, .int (w 140), .int (w 141), .int (w 142), .int (w 143), .int (w 144)]))) i ad na mc (upd w 103 v) := by
  have b1 := hw.1.2; have b2 := hw.2.1.2; have b3 := hw.2.2.1.2
  refine h.put (by decide) (upd_n (by decide)) (upd_n (by decide)) (upd_n (by decide)) (fun k hk => upd_n (by omega)) (Or.inl ⟨rfl, rfl, ?_⟩) (Or.inr ⟨by decide, foF_eq (fun j h1 h2 => upd_n (by omega))⟩) (fun c hc => Or.inr ⟨by omega, clW_eq (fun t ht => upd_n (by omega))⟩) (fun k hk => Or.inr ⟨by omega, laW_eq (fun t ht => upd_n (by omega))⟩) (fun k hk => Or.inr ⟨by omega, hoW_eq (fun t ht => upd_n (by omega))⟩)
  unfold wlE
  simp [upd]
theorem g_Wl.put_140 (h : g_Wl Γ ph i ad na mc w) (hw : WF w) {v : Int32} : g_Wl Γ (gput ph 100 i (ad 0) (.inr (1, [.ref (ad 1), .ref (ad 3), .ref (ad 5), .ref (ad 6), .ref (ad 7), .ref (ad 8), .int (w 145), .int (w 101), .int (w 102), .int (w 103), .int v, .int (w 141), .int (w 142), .int (w 143), .int (w 144)]))) i ad na mc (upd w 140 v) := by
  have b1 := hw.1.2; have b2 := hw.2.1.2; have b3 := hw.2.2.1.2
  refine h.put (by decide) (upd_n (by decide)) (upd_n (by decide)) (upd_n (by decide)) (fun k hk => upd_n (by omega)) (Or.inl ⟨rfl, rfl, ?_⟩) (Or.inr ⟨by decide, foF_eq (fun j h1 h2 => upd_n (by omega))⟩) (fun c hc => Or.inr ⟨by omega, clW_eq (fun t ht => upd_n (by omega))⟩) (fun k hk => Or.inr ⟨by omega, laW_eq (fun t ht => upd_n (by omega))⟩) (fun k hk => Or.inr ⟨by omega, hoW_eq (fun t ht => upd_n (by omega))⟩)
  unfold wlE
  simp [upd]
theorem g_Wl.put_141 (h : g_Wl Γ ph i ad na mc w) (hw : WF w) {v : Int32} : g_Wl Γ (gput ph 100 i (ad 0) (.inr (1, [.ref (ad 1), .ref (ad 3), .ref (ad 5), .ref (ad 6), .ref (ad 7), .ref (ad 8), .int (w 145), .int (w 101), .int (w 102), .int (w 103), .int (w 140), .int v, .int (w 142), .int (w 143), .int (w 144)]))) i ad na mc (upd w 141 v) := by
  have b1 := hw.1.2; have b2 := hw.2.1.2; have b3 := hw.2.2.1.2
  refine h.put (by decide) (upd_n (by decide)) (upd_n (by decide)) (upd_n (by decide)) (fun k hk => upd_n (by omega)) (Or.inl ⟨rfl, rfl, ?_⟩) (Or.inr ⟨by decide, foF_eq (fun j h1 h2 => upd_n (by omega))⟩) (fun c hc => Or.inr ⟨by omega, clW_eq (fun t ht => upd_n (by omega))⟩) (fun k hk => Or.inr ⟨by omega, laW_eq (fun t ht => upd_n (by omega))⟩) (fun k hk => Or.inr ⟨by omega, hoW_eq (fun t ht => upd_n (by omega))⟩)
  unfold wlE
  simp [upd]
theorem g_Wl.put_142 (h : g_Wl Γ ph i ad na mc w) (hw : WF w) {v : Int32} : g_Wl Γ (gput ph 100 i (ad 0) (.inr (1, [.ref (ad 1), .ref (ad 3), .ref (ad 5), .ref (ad 6), .ref (ad 7), .ref (ad 8), .int (w 145), .int (w 101), .int (w 102), .int (w 103), .int (w 140), .int (w 141), .int v, .int (w 143), .int (w 144)]))) i ad na mc (upd w 142 v) := by
  have b1 := hw.1.2; have b2 := hw.2.1.2; have b3 := hw.2.2.1.2
  refine h.put (by decide) (upd_n (by decide)) (upd_n (by decide)) (upd_n (by decide)) (fun k hk => upd_n (by omega)) (Or.inl ⟨rfl, rfl, ?_⟩) (Or.inr ⟨by decide, foF_eq (fun j h1 h2 => upd_n (by omega))⟩) (fun c hc => Or.inr ⟨by omega, clW_eq (fun t ht => upd_n (by omega))⟩) (fun k hk => Or.inr ⟨by omega, laW_eq (fun t ht => upd_n (by omega))⟩) (fun k hk => Or.inr ⟨by omega, hoW_eq (fun t ht => upd_n (by omega))⟩)
  unfold wlE
  simp [upd]
theorem g_Wl.put_143 (h : g_Wl Γ ph i ad na mc w) (hw : WF w) {v : Int32} : g_Wl Γ (gput ph 100 i (ad 0) (.inr (1, [.ref (ad 1), .ref (ad 3), .ref (ad 5), .ref (ad 6), .ref (ad 7), .ref (ad 8), .int (w 145), .int (w 101), .int (w 102), .int (w 103), .int (w 140), .int (w 141), .int (w 142), .int v, .int (w 144)]))) i ad na mc (upd w 143 v) := by
  have b1 := hw.1.2; have b2 := hw.2.1.2; have b3 := hw.2.2.1.2
  refine h.put (by decide) (upd_n (by decide)) (upd_n (by decide)) (upd_n (by decide)) (fun k hk => upd_n (by omega)) (Or.inl ⟨rfl, rfl, ?_⟩) (Or.inr ⟨by decide, foF_eq (fun j h1 h2 => upd_n (by omega))⟩) (fun c hc => Or.inr ⟨by omega, clW_eq (fun t ht => upd_n (by omega))⟩) (fun k hk => Or.inr ⟨by omega, laW_eq (fun t ht => upd_n (by omega))⟩) (fun k hk => Or.inr ⟨by omega, hoW_eq (fun t ht => upd_n (by omega))⟩)
  unfold wlE
  simp [upd]
theorem g_Wl.put_144 (h : g_Wl Γ ph i ad na mc w) (hw : WF w) {v : Int32} : g_Wl Γ (gput ph 100 i (ad 0) (.inr (1, [.ref (ad 1), .ref (ad 3), .ref (ad 5), .ref (ad 6), .ref (ad 7), .ref (ad 8), .int (w 145), .int (w 101), .int (w 102), .int (w 103), .int (w 140), .int (w 141), .int (w 142), .int (w 143), .int v]))) i ad na mc (upd w 144 v) := by
  have b1 := hw.1.2; have b2 := hw.2.1.2; have b3 := hw.2.2.1.2
  refine h.put (by decide) (upd_n (by decide)) (upd_n (by decide)) (upd_n (by decide)) (fun k hk => upd_n (by omega)) (Or.inl ⟨rfl, rfl, ?_⟩) (Or.inr ⟨by decide, foF_eq (fun j h1 h2 => upd_n (by omega))⟩) (fun c hc => Or.inr ⟨by omega, clW_eq (fun t ht => upd_n (by omega))⟩) (fun k hk => Or.inr ⟨by omega, laW_eq (fun t ht => upd_n (by omega))⟩) (fun k hk => Or.inr ⟨by omega, hoW_eq (fun t ht => upd_n (by omega))⟩)
  unfold wlE
  simp [upd]
theorem g_Wl.putc_0 (h : g_Wl Γ ph i ad na mc w) (hw : WF w) {c : Nat} (hc : c < 2) {v : Int32} : g_Wl Γ (gput ph (110 + c) i (ad (10 + c)) (.inr (2, [.int (nI c), .int v, .int (w (125 + 3 * c + 1)), .int (w (125 + 3 * c + 2))]))) i ad na mc (upd w (125 + 3 * c) v) := by
  have b1 := hw.1.2; have b2 := hw.2.1.2; have b3 := hw.2.2.1.2
  refine h.put (by omega) (upd_n (by omega)) (upd_n (by omega)) (upd_n (by omega)) (fun k hk => upd_n (by omega)) (Or.inr ⟨by omega, wlE_eq (fun j hj => upd_n (by omega))⟩) (Or.inr ⟨by omega, foF_eq (fun j h1 h2 => upd_n (by omega))⟩) (fun c' hc' => ?_) (fun k hk => Or.inr ⟨by omega, laW_eq (fun t ht => upd_n (by omega))⟩) (fun k hk => Or.inr ⟨by omega, hoW_eq (fun t ht => upd_n (by omega))⟩)
  by_cases e : c' = c
  · subst e
    refine Or.inl ⟨rfl, rfl, ?_⟩
    unfold clW clE
    simp [upd]
  · exact Or.inr ⟨by omega, clW_eq (fun t ht => upd_n (by omega))⟩
theorem g_Wl.putc_1 (h : g_Wl Γ ph i ad na mc w) (hw : WF w) {c : Nat} (hc : c < 2) {v : Int32} : g_Wl Γ (gput ph (110 + c) i (ad (10 + c)) (.inr (2, [.int (nI c), .int (w (125 + 3 * c)), .int v, .int (w (125 + 3 * c + 2))]))) i ad na mc (upd w (125 + 3 * c + 1) v) := by
  have b1 := hw.1.2; have b2 := hw.2.1.2; have b3 := hw.2.2.1.2
  refine h.put (by omega) (upd_n (by omega)) (upd_n (by omega)) (upd_n (by omega)) (fun k hk => upd_n (by omega)) (Or.inr ⟨by omega, wlE_eq (fun j hj => upd_n (by omega))⟩) (Or.inr ⟨by omega, foF_eq (fun j h1 h2 => upd_n (by omega))⟩) (fun c' hc' => ?_) (fun k hk => Or.inr ⟨by omega, laW_eq (fun t ht => upd_n (by omega))⟩) (fun k hk => Or.inr ⟨by omega, hoW_eq (fun t ht => upd_n (by omega))⟩)
  by_cases e : c' = c
  · subst e
    refine Or.inl ⟨rfl, rfl, ?_⟩
    unfold clW clE
    simp [upd]
  · exact Or.inr ⟨by omega, clW_eq (fun t ht => upd_n (by omega))⟩
theorem g_Wl.putc_2 (h : g_Wl Γ ph i ad na mc w) (hw : WF w) {c : Nat} (hc : c < 2) {v : Int32} : g_Wl Γ (gput ph (110 + c) i (ad (10 + c)) (.inr (2, [.int (nI c), .int (w (125 + 3 * c)), .int (w (125 + 3 * c + 1)), .int v]))) i ad na mc (upd w (125 + 3 * c + 2) v) := by
  have b1 := hw.1.2; have b2 := hw.2.1.2; have b3 := hw.2.2.1.2
  refine h.put (by omega) (upd_n (by omega)) (upd_n (by omega)) (upd_n (by omega)) (fun k hk => upd_n (by omega)) (Or.inr ⟨by omega, wlE_eq (fun j hj => upd_n (by omega))⟩) (Or.inr ⟨by omega, foF_eq (fun j h1 h2 => upd_n (by omega))⟩) (fun c' hc' => ?_) (fun k hk => Or.inr ⟨by omega, laW_eq (fun t ht => upd_n (by omega))⟩) (fun k hk => Or.inr ⟨by omega, hoW_eq (fun t ht => upd_n (by omega))⟩)
  by_cases e : c' = c
  · subst e
    refine Or.inl ⟨rfl, rfl, ?_⟩
    unfold clW clE
    simp [upd]
  · exact Or.inr ⟨by omega, clW_eq (fun t ht => upd_n (by omega))⟩
theorem g_Wl.putl_1 (h : g_Wl Γ ph i ad na mc w) (hw : WF w) {k : Nat} (hk : k < nLa w) {v : Int32} : g_Wl Γ (gput ph (120 + k) i (ad (20 + k)) (.inr (10, [.int (w (105 + 5 * k + 2)), .int v, .int (w (105 + 5 * k + 1)), .int (w (105 + 5 * k + 3)), .int (w (105 + 5 * k + 4))]))) i ad na mc (upd w (105 + 5 * k) v) := by
  have b1 := hw.1.2; have b2 := hw.2.1.2; have b3 := hw.2.2.1.2
  have k4 := g_Wl.l4 hw hk
  refine h.put (by omega) (upd_n (by omega)) (upd_n (by omega)) (upd_n (by omega)) (fun k hk => upd_n (by omega)) (Or.inr ⟨by omega, wlE_eq (fun j hj => upd_n (by omega))⟩) (Or.inr ⟨by omega, foF_eq (fun j h1 h2 => upd_n (by omega))⟩) (fun c hc => Or.inr ⟨by omega, clW_eq (fun t ht => upd_n (by omega))⟩) (fun k' hk' => ?_) (fun k' hk => Or.inr ⟨by omega, hoW_eq (fun t ht => upd_n (by omega))⟩)
  by_cases e : k' = k
  · subst e
    refine Or.inl ⟨rfl, rfl, ?_⟩
    unfold laW laE
    simp [upd]
  · exact Or.inr ⟨by omega, laW_eq (fun t ht => upd_n (by omega))⟩
theorem g_Wl.putl_2 (h : g_Wl Γ ph i ad na mc w) (hw : WF w) {k : Nat} (hk : k < nLa w) {v : Int32} : g_Wl Γ (gput ph (120 + k) i (ad (20 + k)) (.inr (10, [.int (w (105 + 5 * k + 2)), .int (w (105 + 5 * k)), .int v, .int (w (105 + 5 * k + 3)), .int (w (105 + 5 * k + 4))]))) i ad na mc (upd w (105 + 5 * k + 1) v) := by
  have b1 := hw.1.2; have b2 := hw.2.1.2; have b3 := hw.2.2.1.2
  have k4 := g_Wl.l4 hw hk
  refine h.put (by omega) (upd_n (by omega)) (upd_n (by omega)) (upd_n (by omega)) (fun k hk => upd_n (by omega)) (Or.inr ⟨by omega, wlE_eq (fun j hj => upd_n (by omega))⟩) (Or.inr ⟨by omega, foF_eq (fun j h1 h2 => upd_n (by omega))⟩) (fun c hc => Or.inr ⟨by omega, clW_eq (fun t ht => upd_n (by omega))⟩) (fun k' hk' => ?_) (fun k' hk => Or.inr ⟨by omega, hoW_eq (fun t ht => upd_n (by omega))⟩)
  by_cases e : k' = k
  · subst e
    refine Or.inl ⟨rfl, rfl, ?_⟩
    unfold laW laE
    simp [upd]
  · exact Or.inr ⟨by omega, laW_eq (fun t ht => upd_n (by omega))⟩
theorem g_Wl.putl_3 (h : g_Wl Γ ph i ad na mc w) (hw : WF w) {k : Nat} (hk : k < nLa w) {v : Int32} : g_Wl Γ (gput ph (120 + k) i (ad (20 + k)) (.inr (10, [.int (w (105 + 5 * k + 2)), .int (w (105 + 5 * k)), .int (w (105 + 5 * k + 1)), .int v, .int (w (105 + 5 * k + 4))]))) i ad na mc (upd w (105 + 5 * k + 3) v) := by
  have b1 := hw.1.2; have b2 := hw.2.1.2; have b3 := hw.2.2.1.2
  have k4 := g_Wl.l4 hw hk
  refine h.put (by omega) (upd_n (by omega)) (upd_n (by omega)) (upd_n (by omega)) (fun k hk => upd_n (by omega)) (Or.inr ⟨by omega, wlE_eq (fun j hj => upd_n (by omega))⟩) (Or.inr ⟨by omega, foF_eq (fun j h1 h2 => upd_n (by omega))⟩) (fun c hc => Or.inr ⟨by omega, clW_eq (fun t ht => upd_n (by omega))⟩) (fun k' hk' => ?_) (fun k' hk => Or.inr ⟨by omega, hoW_eq (fun t ht => upd_n (by omega))⟩)
  by_cases e : k' = k
  · subst e
    refine Or.inl ⟨rfl, rfl, ?_⟩
    unfold laW laE
    simp [upd]
  · exact Or.inr ⟨by omega, laW_eq (fun t ht => upd_n (by omega))⟩
theorem g_Wl.putl_4 (h : g_Wl Γ ph i ad na mc w) (hw : WF w) {k : Nat} (hk : k < nLa w) {v : Int32} : g_Wl Γ (gput ph (120 + k) i (ad (20 + k)) (.inr (10, [.int (w (105 + 5 * k + 2)), .int (w (105 + 5 * k)), .int (w (105 + 5 * k + 1)), .int (w (105 + 5 * k + 3)), .int v]))) i ad na mc (upd w (105 + 5 * k + 4) v) := by
  have b1 := hw.1.2; have b2 := hw.2.1.2; have b3 := hw.2.2.1.2
  have k4 := g_Wl.l4 hw hk
  refine h.put (by omega) (upd_n (by omega)) (upd_n (by omega)) (upd_n (by omega)) (fun k hk => upd_n (by omega)) (Or.inr ⟨by omega, wlE_eq (fun j hj => upd_n (by omega))⟩) (Or.inr ⟨by omega, foF_eq (fun j h1 h2 => upd_n (by omega))⟩) (fun c hc => Or.inr ⟨by omega, clW_eq (fun t ht => upd_n (by omega))⟩) (fun k' hk' => ?_) (fun k' hk => Or.inr ⟨by omega, hoW_eq (fun t ht => upd_n (by omega))⟩)
  by_cases e : k' = k
  · subst e
    refine Or.inl ⟨rfl, rfl, ?_⟩
    unfold laW laE
    simp [upd]
  · exact Or.inr ⟨by omega, laW_eq (fun t ht => upd_n (by omega))⟩
theorem g_Wl.puth (h : g_Wl Γ ph i ad na mc w) (hw : WF w) {k : Nat} (hk : k < nN w) {v : Int32} : g_Wl Γ (gput ph (130 + k) i (ad (30 + k)) (hoE k (w (1 + 5 * k + 2)) (w (1 + 5 * k)) (w (1 + 5 * k + 1)) (w (1 + 5 * k + 3)) v)) i ad na mc (upd w (1 + 5 * k + 4) v) := by
  have b1 := hw.1.2; have b2 := hw.2.1.2; have b3 := hw.2.2.1.2
  have k4 := g_Wl.h20 hw hk
  refine h.put (by omega) (upd_n (by omega)) (upd_n (by omega)) (upd_n (by omega)) (fun k hk => upd_n (by omega)) (Or.inr ⟨by omega, wlE_eq (fun j hj => upd_n (by omega))⟩) (Or.inr ⟨by omega, foF_eq (fun j h1 h2 => upd_n (by omega))⟩) (fun c hc => Or.inr ⟨by omega, clW_eq (fun t ht => upd_n (by omega))⟩) (fun k hk => Or.inr ⟨by omega, laW_eq (fun t ht => upd_n (by omega))⟩) (fun k' hk' => ?_)
  by_cases e : k' = k
  · subst e
    refine Or.inl ⟨rfl, rfl, ?_⟩
    unfold hoW
    simp [upd]
  · exact Or.inr ⟨by omega, hoW_eq (fun t ht => upd_n (by omega))⟩
/-- the forces -/
theorem g_Wl.putf (h : g_Wl Γ ph i ad na mc w) (hw : WF w) {w' : m_w} {f : Nat → UInt32} (ho : ∀ j, j < 146 → w' j = w j) (hf : f = foF w') : g_Wl Γ (gput ph 108 i (ad 8) (.inl (g_t Γ 5, 16, .inr (.inr (.inl f))))) i ad na mc w' := by
  subst hf
  have b1 := hw.1.2; have b2 := hw.2.1.2; have b3 := hw.2.2.1.2
  exact h.put (by decide) (ho _ (by decide)) (ho _ (by decide)) (ho _ (by decide)) (fun k hk => ho _ (by omega)) (Or.inr ⟨by decide, wlE_eq (fun j hj => ho _ (by omega))⟩) (Or.inl ⟨rfl, rfl, rfl⟩) (fun c hc => Or.inr ⟨by omega, clW_eq (fun t ht => ho _ (by omega))⟩) (fun k hk => Or.inr ⟨by omega, laW_eq (fun t ht => ho _ (by omega))⟩) (fun k hk => Or.inr ⟨by omega, hoW_eq (fun t ht => ho _ (by omega))⟩)
/-- the anchors -/
theorem g_Wl.puta2 {ph' : g_H} (h : g_Wl Γ ph i ad na mc w) {w' : m_w} {na' it' : Nat → Nat} {m : Int32} {n' : Nat} (hw : WF w) (hL : g_LL ph' 105 i (ad 5) 200 n' na' it' m) (hfr : ∀ j, 100 ≤ j → j ≠ 105 → j ≠ 200 → ph' j i = ph j i) (hn : nAn w' = n') (hi : ∀ k, k < n' → it' k = anI Γ w' k) (ho : ∀ j, j < 131 ∨ 140 ≤ j → w' j = w j) : g_Wl Γ ph' i ad na' (fun k => if k = 0 then m else mc k) w' := by
  have b1 := hw.1.2; have b2 := hw.2.1.2
  have nn : nN w' = nN w := nN_eq (ho _ (by omega))
  have nl : nLa w' = nLa w := nLa_eq (ho _ (by omega))
  obtain ⟨h0, ⟨h1, ⟨h2, h3⟩, ⟨h4, h5⟩, ⟨h6, h7, h8⟩, h9, h10, h11⟩, h12⟩ := h
  refine ⟨h0, ⟨by rw [hfr _ (by omega) (by omega) (by omega), wlE_eq (fun j hj => ho j (by omega))]; exact h1, ⟨?_, by rw [hfr _ (by omega) (by omega) (by omega), nn]; exact h3⟩, ⟨?_, by rw [hfr _ (by omega) (by omega) (by omega), nl]; exact h5⟩, ⟨by rw [hfr _ (by omega) (by omega) (by omega)]; exact h6, by rw [hfr _ (by omega) (by omega) (by omega)]; exact h7, by rw [hfr _ (by omega) (by omega) (by omega), foF_eq (fun j h1 h2 => ho j (by omega))]; exact h8⟩, fun c hc => by rw [hfr _ (by omega) (by omega) (by omega), clW_eq (fun t ht => ho _ (by omega))]; exact h9 c hc, fun k hk => ?_, fun k hk => ?_⟩, ?_⟩
  · rw [hfr _ (by omega) (by omega) (by omega), ho 0 (by omega)]; exact h2
  · rw [hfr _ (by omega) (by omega) (by omega), ho 104 (by omega)]; exact h4
  · rw [nl] at hk
    have := g_Wl.l4 hw hk
    rw [hfr _ (by omega) (by omega) (by omega), laW_eq (fun t ht => ho _ (by omega))]; exact h10 k hk
  · rw [nn] at hk
    have := g_Wl.h20 hw hk
    rw [hfr _ (by omega) (by omega) (by omega), hoW_eq (fun t ht => ho _ (by omega))]; exact h11 k hk
  · rw [hn]
    exact hL.move (fun _ => rfl) (fun _ => rfl) (fun k hk => (hi k hk).symm)
theorem g_Wl.puta {ph' : g_H} (h : g_Wl Γ ph i ad na mc w) {w' : m_w} {na' it' : Nat → Nat} {m : Int32} {n' : Nat} (hw : WF w) (hL : g_LL ph' 105 i (ad 5) 200 n' na' it' m) (hfr : g_fr [(105, i), (200, i)] ph ph') (hn : nAn w' = n') (hi : ∀ k, k < n' → it' k = anI Γ w' k) (ho : ∀ j, j < 131 ∨ 140 ≤ j → w' j = w j) : g_Wl Γ ph' i ad na' (fun k => if k = 0 then m else mc k) w' := by
  have b1 := hw.1.2; have b2 := hw.2.1.2
  have he : ∀ j, j ≠ 105 → j ≠ 200 → ph' j i = ph j i := fun j h1 h2 => hfr j i (by simp [h1, h2])
  have nn : nN w' = nN w := nN_eq (ho _ (by omega))
  have nl : nLa w' = nLa w := nLa_eq (ho _ (by omega))
  obtain ⟨h0, ⟨h1, ⟨h2, h3⟩, ⟨h4, h5⟩, ⟨h6, h7, h8⟩, h9, h10, h11⟩, h12⟩ := h
  refine ⟨h0, ⟨by rw [he _ (by omega) (by omega), wlE_eq (fun j hj => ho j (by omega))]; exact h1, ⟨?_, by rw [he _ (by omega) (by omega), nn]; exact h3⟩, ⟨?_, by rw [he _ (by omega) (by omega), nl]; exact h5⟩, ⟨by rw [he _ (by omega) (by omega)]; exact h6, by rw [he _ (by omega) (by omega)]; exact h7, by rw [he _ (by omega) (by omega), foF_eq (fun j h1 h2 => ho j (by omega))]; exact h8⟩, fun c hc => by rw [he _ (by omega) (by omega), clW_eq (fun t ht => ho _ (by omega))]; exact h9 c hc, fun k hk => ?_, fun k hk => ?_⟩, ?_⟩
  · rw [he _ (by omega) (by omega), ho 0 (by omega)]; exact h2
  · rw [he _ (by omega) (by omega), ho 104 (by omega)]; exact h4
  · rw [nl] at hk
    have := g_Wl.l4 hw hk
    rw [he _ (by omega) (by omega), laW_eq (fun t ht => ho _ (by omega))]; exact h10 k hk
  · rw [nn] at hk
    have := g_Wl.h20 hw hk
    rw [he _ (by omega) (by omega), hoW_eq (fun t ht => ho _ (by omega))]; exact h11 k hk
  · rw [hn]
    exact hL.move (fun _ => rfl) (fun _ => rfl) (fun k hk => (hi k hk).symm)
end GW
/-- a place's object -/
def plA (ad : Nat → Nat) (p : Int32) : Nat := if p = -1 then ad 7 else ad (30 + p.toNatClampNeg)
/-- what is refused is thrown -/
def rfE (r : Int32 × Int32) (x4 x5 : Value) : va_E := .inr (5, [.null, .null, .null, .null, x4, x5, .int r.1, .int r.2])
def xR (o : m_why) (ph : g_H) : String → Nat → g_H → Prop := fun E q ph' => E = "CrumblingWall$Refused" ∧ ∃ r, o = some r ∧ ph' 32 0 q = some (rfE r .null (.int 0)) ∧ g_fr [(32, 0)] ph ph'

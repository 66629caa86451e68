/-! THE GHOST HEAP. part j, region i, address a: what lies there. All walks of this claim carry one ghost heap 'ph'; a contract says how it changes. -/
set_option maxRecDepth 100000
abbrev g_H : Type := Nat → Nat → Nat → Option va_E
/-- the run's constants: class numbers, field slots, array classes, the base address, the old cells that are read alone, other old addresses -/
abbrev g_C : Type := (Nat → ClassId) × (Nat → Nat → Nat) × (Nat → ClassId) × Nat × va_W × (Nat → Nat)
def g_D (Γ : g_C) : va_G := (Γ.1, Γ.2.1)
def g_t (Γ : g_C) (k : Nat) : ClassId := Γ.2.2.1 k
def g_B (Γ : g_C) : Nat := Γ.2.2.2.1
def g_R (Γ : g_C) : va_W := Γ.2.2.2.2.1
def g_c (Γ : g_C) (k : Nat) : Nat := Γ.2.2.2.2.2 k
def g_A (Γ : g_C) : Nat → Prop := fun q => g_B Γ ≤ q
def g_ty (Γ : g_C) : List (ClassId × FieldType) := [(g_t Γ 0, .int), (g_t Γ 1, .boolean), (g_t Γ 2, .char), (g_t Γ 3, .byte), (g_t Γ 4, .long), (g_t Γ 5, .float), (g_t Γ 6, .double), (g_t Γ 7, .object "java/lang/Object"), (g_t Γ 8, .object "CrumblingWall$Hold"), (g_t Γ 9, .object "CrumblingWall$Edge"), (g_t Γ 10, .object "CrumblingWall$Pocket"), (g_t Γ 11, .object "CrumblingWall$Flake"), (g_t Γ 12, .object "CrumblingWall$Bolt"), (g_t Γ 13, .array .float)]
def gT0 : u_T := fun _ => ("", "", "", false)
/-- the classes, by their numbers -/
def vwCl : List vw_C := [(RX1, TX1, 11), (RX2, TX2, 15), (RX3, TX3, 4), (RX4, gT0, 0), (RX5, TX5, 30), (RX6, TX6, 8), (RX8, TX8, 5), (RX9, TX9, 5), (RX10, TX10, 5), (RX11, TX11, 5), (RX12, TX12, 5), (RX14, TX14, 2), (RX16, TX16, 1), (RX17, TX17, 2), (RX18, TX18, 7), (RX19, TX19, 1), (RX20, TX20, 3), (RX22, gT0, 0), (RX23, gT0, 0), (RX24, gT0, 0), (RJ4, TJ4, 2), (RJ7, TJ7, 3), (RJ13, TJ13, 4), (RJ22, TJ22, 1), (RJ24, TJ24, 4), (RJ25, TJ25, 3), (RJ32, TJ32, 5), (RJ34, TJ34, 3), (RJ38, TJ38, 3), (RJ40, TJ40, 2), (RJ11, TJ11, 6), (RJ26, TJ26, 6), (RJ27, gT0, 0), (RJ28, TJ28, 6), (RJ33, TJ33, 6), (RJ41, TJ41, 6)]
/-- words that hold all through a run, but ride in no list -/
def g_isN (w : Cond) : Bool := match w with
  | .fieldLinkNest _ _ _ _ _ _ => true
  | .methodLinkNest _ _ _ _ => true
  | .castable _ _ => true
  | .declares _ => true
  | _ => false
def g_nw : List Cond := lw_tbl.filter g_isN
theorem g_nwI {w : Cond} (h : w ∈ lw_tbl) (g : g_isN w = true) : w ∈ g_nw := List.mem_filter.mpr ⟨h, g⟩
/-- interface methods: receiver's class, the method called, the method run -/
def g_pm (n d : String) : MethodName := ⟨"CrumblingWall$Place", n, d⟩
def g_im (n d : String) : MethodName := ⟨"java/util/Iterator", n, d⟩
def g_lm (n d : String) : MethodName := ⟨"java/util/LinkedList$ListItr", n, d⟩
def g_dm (n d : String) : MethodName := ⟨"java/util/LinkedList$DescendingIterator", n, d⟩
def g_hm (n d : String) : MethodName := ⟨"CrumblingWall$Hold", n, d⟩
def g_gm (n d : String) : MethodName := ⟨"CrumblingWall$Ground", n, d⟩
def g_ifs : List (String × MethodName × MethodName) :=
  [("java/lang/StringBuilder", ⟨"java/lang/CharSequence", "length", "()I"⟩, ⟨"java/lang/StringBuilder", "length", "()I"⟩),
   ("java/lang/StringBuilder", ⟨"java/lang/CharSequence", "charAt", "(I)C"⟩, ⟨"java/lang/StringBuilder", "charAt", "(I)C"⟩),
   ("java/util/ImmutableCollections$List12", ⟨"java/util/List", "get", "(I)Ljava/lang/Object;"⟩, ⟨"java/util/ImmutableCollections$List12", "get", "(I)Ljava/lang/Object;"⟩),
   ("java/util/LinkedList$ListItr", g_im "hasNext" "()Z", g_lm "hasNext" "()Z"),
   ("java/util/LinkedList$ListItr", g_im "next" "()Ljava/lang/Object;", g_lm "next" "()Ljava/lang/Object;"),
   ("java/util/LinkedList$ListItr", g_im "remove" "()V", g_lm "remove" "()V"),
   ("java/util/LinkedList$DescendingIterator", g_im "hasNext" "()Z", g_dm "hasNext" "()Z"),
   ("java/util/LinkedList$DescendingIterator", g_im "next" "()Ljava/lang/Object;", g_dm "next" "()Ljava/lang/Object;")]
  ++ ["CrumblingWall$Bolt", "CrumblingWall$Edge", "CrumblingWall$Flake", "CrumblingWall$Pocket"].flatMap (fun C => [(C, g_pm "number" "()I", g_hm "number" "()I"), (C, g_pm "row" "()I", g_hm "row" "()I"), (C, g_pm "distance" "(LCrumblingWall$Place;)I", g_hm "distance" "(LCrumblingWall$Place;)I"), (C, g_pm "aside" "(LCrumblingWall$Place;)I", g_hm "aside" "(LCrumblingWall$Place;)I")])
  ++ [("CrumblingWall$Ground", g_pm "number" "()I", g_gm "number" "()I"), ("CrumblingWall$Ground", g_pm "row" "()I", g_gm "row" "()I"), ("CrumblingWall$Ground", g_pm "distance" "(LCrumblingWall$Place;)I", g_gm "distance" "(LCrumblingWall$Place;)I"), ("CrumblingWall$Ground", g_pm "aside" "(LCrumblingWall$Place;)I", g_gm "aside" "(LCrumblingWall$Place;)I")]
/-- classes that stand over arrays of references -/
def g_aos : List String := ["java/lang/Object", "CrumblingWall$Hold", "CrumblingWall$Edge", "CrumblingWall$Pocket", "CrumblingWall$Flake", "CrumblingWall$Bolt"]
/-- pairs of classes that aren't castable -/
def g_ncs : List (String × String) := [("java/lang/IllegalStateException", "java/lang/IllegalArgumentException"), ("java/lang/UnsupportedOperationException", "java/lang/IllegalArgumentException"), ("java/lang/UnsupportedOperationException", "java/lang/IllegalStateException"), ("java/lang/IllegalArgumentException", "java/lang/IndexOutOfBoundsException"), ("java/lang/IllegalStateException", "java/lang/IndexOutOfBoundsException"), ("java/lang/UnsupportedOperationException", "java/lang/IndexOutOfBoundsException"), ("java/util/NoSuchElementException", "java/lang/IndexOutOfBoundsException"), ("java/util/NoSuchElementException", "java/lang/IllegalStateException"), ("java/lang/IndexOutOfBoundsException", "java/lang/IllegalArgumentException"), ("java/lang/IndexOutOfBoundsException", "CrumblingWall$Refused"), ("CrumblingWall$Ground", "CrumblingWall$Hold"), ("CrumblingWall$Edge", "CrumblingWall$Pocket"), ("CrumblingWall$Edge", "CrumblingWall$Flake"), ("CrumblingWall$Edge", "CrumblingWall$Bolt"), ("CrumblingWall$Pocket", "CrumblingWall$Edge"), ("CrumblingWall$Pocket", "CrumblingWall$Flake"), ("CrumblingWall$Pocket", "CrumblingWall$Bolt"), ("CrumblingWall$Flake", "CrumblingWall$Edge"), ("CrumblingWall$Flake", "CrumblingWall$Pocket"), ("CrumblingWall$Flake", "CrumblingWall$Bolt"), ("CrumblingWall$Bolt", "CrumblingWall$Edge"), ("CrumblingWall$Bolt", "CrumblingWall$Pocket"), ("CrumblingWall$Bolt", "CrumblingWall$Flake")]
def g_W (U : State) : Prop := (∀ w ∈ g_nw, va_Nw w U) ∧ (∀ q ∈ g_ifs, va_Fw q.1 q.2.1 q.2.2 U) ∧ (∀ C ∈ g_aos, va_AO C U) ∧ (∀ q ∈ g_ncs, va_Nc q.1 q.2 U) ∧ g_DF U
theorem g_ifs_ok : ∀ q ∈ g_ifs, q.2.1.cls ≠ "java/lang/invoke/MethodHandle" ∧ q.2.1.cls ≠ "java/lang/invoke/VarHandle" := by decide +kernel
theorem g_W.moved {s U : State} (hW : s.WarmedH U.vm) (h : g_W s) : g_W U := by
  refine ⟨fun w hw => ?_, fun q hq => (h.2.1 q hq).moved (g_ifs_ok q hq) hW.alike, fun C hC => (h.2.2.1 C hC).moved hW.alike, fun q hq => (h.2.2.2.1 q hq).moved hW.alike, h.2.2.2.2.moved hW⟩
  have h1 := h.1 w hw
  have h2 := (List.mem_filter.mp hw).2
  cases w <;> first | exact va_Nw.warmF hW h1 | exact va_Nw.warmM hW h1 | exact va_Nw.warmC hW h1 | exact va_Nw.warmD hW h1 | (exact absurd h2 (by simp [g_isN]))
theorem g_W.same {u U : State} (hvm : u.vm = U.vm) (h : g_W u) : g_W U := by
  have ha : u.vm.Alike U.vm := by rw [hvm]; exact Vm.Alike.refl _
  refine ⟨fun w hw => ?_, fun q hq => (h.2.1 q hq).moved (g_ifs_ok q hq) ha, fun C hC => (h.2.2.1 C hC).moved ha, fun q hq => (h.2.2.2.1 q hq).moved ha, h.2.2.2.2.same hvm⟩
  have h1 := h.1 w hw
  have h2 := (List.mem_filter.mp hw).2
  cases w <;> first | (exact absurd h2 (by simp only [g_isN]; decide)) | exact va_Nw.same rfl hvm h1
/-- statics and what they hold -/
def g_sv (Γ : g_C) : List (String × String × String × Value) :=
  [("java/lang/Integer$IntegerCache", "high", "I", .int 127), ("java/lang/Integer$IntegerCache", "cache", "[Ljava/lang/Integer;", .ref (g_c Γ 256)), ("java/lang/String", "COMPACT_STRINGS", "Z", .int 1), ("java/lang/StringUTF16", "$assertionsDisabled", "Z", .int 1), ("java/lang/StringUTF16", "HI_BYTE_SHIFT", "I", .int 0), ("java/lang/StringUTF16", "LO_BYTE_SHIFT", "I", .int 8), ("java/util/BitSet", "$assertionsDisabled", "Z", .int 1), ("java/util/ImmutableCollections", "EMPTY", "Ljava/lang/Object;", .ref (g_c Γ 257))]
def g_Z (Γ : g_C) (U : State) : Prop := (∀ z ∈ g_sv Γ, va_Z z.1 z.2.1 z.2.2.1 z.2.2.2 (g_A Γ) U U.heap) ∧ vx_Zq Bundle.tN "UNASSIGNED_STACK" Bundle.steD (g_A Γ) U U.heap ∧ vx_Zq Bundle.tN "SUPPRESSED_SENTINEL" Bundle.listD (g_A Γ) U U.heap
/-- the Integer cache: its array, its objects -/
def g_I8 (Γ : g_C) (U : State) : Prop := va_T (.object "java/lang/Integer") (g_c Γ 256) 256 (fun k => .ref (g_c Γ k)) (g_A Γ) U U.heap ∧ vb_C (g_c Γ) (g_A Γ) U U.heap ∧ ∀ k, k ≤ 257 → g_c Γ k < g_B Γ
/-- what holds of a state's tables and old cells -/
def g_K (Γ : g_C) (U : State) : Prop := va_K (g_D Γ) vwCl (g_ty Γ) U ∧ g_W U ∧ g_B Γ ≤ U.heap.size ∧ (va_P (g_D Γ) vwCl (g_R Γ) U.heap ∧ ∀ (k : Nat) (q : Nat × va_E), (g_R Γ)[k]? = some q → q.1 < g_B Γ) ∧ g_Z Γ U ∧ g_I8 Γ U
theorem g_K.to {Γ : g_C} {s U : State} {H : Heap} {locs : List Loc} (hvm : s.vm.Alike U.vm) (hw : g_W s → g_W U) (h : g_K Γ s) (hS : va_S (g_A Γ) s.heap H locs) (hU : U.heap = H) : g_K Γ U := by
  obtain ⟨h1, h2, h3, ⟨h4, h5⟩, ⟨h6, h7, h8⟩, h9, h10, h11⟩ := h
  subst hU
  have hk : ∀ a : Nat, a < s.heap.size → ¬ g_A Γ a → U.heap[a]? = s.heap[a]? := hS.2.1
  refine ⟨h1.moved hvm, hw h2, Nat.le_trans h3 hS.1, ⟨h4.kept (fun k q hq => hk _ (Nat.lt_of_lt_of_le (h5 k q hq) h3) (fun z => absurd (h5 k q hq) (Nat.not_lt.mpr z))), h5⟩, ⟨fun z hz => ((h6 z hz).moved hvm).kept hk, (h7.moved hvm).kept hk, (h8.moved hvm).kept hk⟩, (h9.moved hvm).kept hk, (h10.moved hvm).kept hk, h11⟩
theorem g_K.call {Γ : g_C} {s U : State} {H : Heap} {locs : List Loc} (hW : s.WarmedH U.vm) (h : g_K Γ s) (hS : va_S (g_A Γ) s.heap H locs) (hU : U.heap = H) : g_K Γ U := g_K.to hW.alike (g_W.moved hW) h hS hU
theorem g_K.same {Γ : g_C} {u U : State} (hvm : u.vm = U.vm) (hh : u.heap = U.heap) (h : g_K Γ u) : g_K Γ U := g_K.to (by rw [hvm]; exact Vm.Alike.refl _) (g_W.same hvm) h (H := u.heap) (locs := []) va_S.rf hh.symm
theorem g_K.N {Γ : g_C} {s : State} (h : g_K Γ s) {w : Cond} (hw : w ∈ lw_tbl) (g : g_isN w = true) : va_Nw w s := h.2.1.1 w (g_nwI hw g)
theorem g_K.F {Γ : g_C} {s : State} (h : g_K Γ s) (k : Nat) {q : String × MethodName × MethodName} (hq : g_ifs[k]? = some q) : va_Fw q.1 q.2.1 q.2.2 s := h.2.1.2.1 q (List.mem_of_getElem? hq)
theorem g_K.AO {Γ : g_C} {s : State} (h : g_K Γ s) (k : Nat) {C : String} (hq : g_aos[k]? = some C) : va_AO C s := h.2.1.2.2.1 C (List.mem_of_getElem? hq)
theorem g_K.Nc {Γ : g_C} {s : State} (h : g_K Γ s) (k : Nat) {q : String × String} (hq : g_ncs[k]? = some q) : va_Nc q.1 q.2 s := h.2.1.2.2.2.1 q (List.mem_of_getElem? hq)
theorem g_K.DF {Γ : g_C} {s : State} (h : g_K Γ s) : g_DF s := h.2.1.2.2.2.2
theorem g_K.Z {Γ : g_C} {s : State} (h : g_K Γ s) (k : Nat) {z : String × String × String × Value} (hq : (g_sv Γ)[k]? = some z) : va_Z z.1 z.2.1 z.2.2.1 z.2.2.2 (g_A Γ) s s.heap := h.2.2.2.2.1.1 z (List.mem_of_getElem? hq)
theorem g_K.hA {Γ : g_C} {s : State} (h : g_K Γ s) : ∀ q : Nat, s.heap.size ≤ q → g_A Γ q := fun _ hq => Nat.le_trans h.2.2.1 hq
/-! the ghost heap over a heap -/
def pput (g : Nat → Option va_E) (a : Nat) (e : va_E) : Nat → Option va_E := fun a' => if a' = a then some e else g a'
def gset (ph : g_H) (j i : Nat) (g : Nat → Option va_E) : g_H := fun j' i' => if j' = j then (if i' = i then g else ph j' i') else ph j' i'
def gput (ph : g_H) (j i a : Nat) (e : va_E) : g_H := gset ph j i (pput (ph j i) a e)
theorem pput_self (g : Nat → Option va_E) (a : Nat) (e : va_E) : pput g a e a = some e := if_pos rfl
theorem pput_ne (g : Nat → Option va_E) {a b : Nat} (e : va_E) (h : b ≠ a) : pput g a e b = g b := if_neg h
theorem pput_some {g : Nat → Option va_E} {a b : Nat} {e e' : va_E} (h : pput g a e b = some e') : (b = a ∧ e' = e) ∨ (b ≠ a ∧ g b = some e') := by
  unfold pput at h
  by_cases hb : b = a
  · rw [if_pos hb] at h; exact Or.inl ⟨hb, (Option.some.inj h).symm⟩
  · rw [if_neg hb] at h; exact Or.inr ⟨hb, h⟩
theorem gset_self (ph : g_H) (j i : Nat) (g : Nat → Option va_E) : gset ph j i g j i = g := by simp [gset]
theorem gset_ne (ph : g_H) {j i j' i' : Nat} (g : Nat → Option va_E) (h : ¬ (j' = j ∧ i' = i)) : gset ph j i g j' i' = ph j' i' := by
  unfold gset
  by_cases h1 : j' = j
  · by_cases h2 : i' = i
    · exact absurd ⟨h1, h2⟩ h
    · rw [if_pos h1, if_neg h2]
  · rw [if_neg h1]
theorem gset_gset (ph : g_H) (j i : Nat) (g g' : Nat → Option va_E) : gset (gset ph j i g) j i g' = gset ph j i g' := by
  funext j' i'
  unfold gset
  by_cases h1 : j' = j
  · by_cases h2 : i' = i
    · simp [h1, h2]
    · simp [h1, h2]
  · simp [h1]
theorem gset_id (ph : g_H) (j i : Nat) : gset ph j i (ph j i) = ph := by
  funext j' i'
  unfold gset
  by_cases h1 : j' = j
  · by_cases h2 : i' = i
    · simp [h1, h2]
    · simp [h2]
  · simp [h1]
theorem gput_self (ph : g_H) (j i a : Nat) (e : va_E) : gput ph j i a e j i a = some e := by
  unfold gput; rw [gset_self]; exact pput_self _ _ _
theorem gput_some {ph : g_H} {j i a j' i' a' : Nat} {e e' : va_E} (h : gput ph j i a e j' i' a' = some e') : (j' = j ∧ i' = i ∧ a' = a ∧ e' = e) ∨ (¬ (j' = j ∧ i' = i ∧ a' = a) ∧ ph j' i' a' = some e') := by
  by_cases hk : j' = j ∧ i' = i
  · obtain ⟨rfl, rfl⟩ := hk
    unfold gput at h
    rw [gset_self] at h
    rcases pput_some h with ⟨h1, h2⟩ | ⟨h1, h2⟩
    · exact Or.inl ⟨rfl, rfl, h1, h2⟩
    · exact Or.inr ⟨fun z => h1 z.2.2, h2⟩
  · unfold gput at h
    rw [gset_ne _ _ hk] at h
    exact Or.inr ⟨fun z => hk ⟨z.1, z.2.1⟩, h⟩
/-- a list of labelled cells has all that the ghost heap says -/
def g_in (L : List ((Nat × Nat) × (Nat × va_E))) (ph : g_H) : Prop := ∀ (j i a : Nat) (e : va_E), ph j i a = some e → ∃ k : Nat, L[k]? = some ((j, i), (a, e))
theorem g_in.snd {L : List ((Nat × Nat) × (Nat × va_E))} {k : Nat} {q : (Nat × Nat) × (Nat × va_E)} (h : L[k]? = some q) : (L.map Prod.snd)[k]? = some q.2 := by rw [List.getElem?_map, h]; rfl
theorem g_in.set {A : Nat → Prop} {L : List ((Nat × Nat) × (Nat × va_E))} {ph : g_H} (h : g_in L ph) (hD : va_D A (L.map Prod.snd)) {j i a k : Nat} {e0 : va_E} (hk : L[k]? = some ((j, i), (a, e0))) (e : va_E) : g_in (L.set k ((j, i), (a, e))) (gput ph j i a e) := by
  have hl := (List.getElem?_eq_some_iff.mp hk).1
  intro j' i' a' e' h'
  rcases gput_some h' with ⟨rfl, rfl, rfl, rfl⟩ | ⟨h1, h2⟩
  · exact ⟨k, by rw [List.getElem?_set_self hl]⟩
  · obtain ⟨k2, hk2⟩ := h _ _ _ _ h2
    refine ⟨k2, ?_⟩
    rw [List.getElem?_set_ne]
    · exact hk2
    · intro hkk
      subst hkk
      rw [hk] at hk2
      cases hk2
      exact h1 ⟨rfl, rfl, rfl⟩
theorem g_in.push {L : List ((Nat × Nat) × (Nat × va_E))} {ph : g_H} (h : g_in L ph) (j i a : Nat) (e : va_E) : g_in (L ++ [((j, i), (a, e))]) (gput ph j i a e) := by
  intro j' i' a' e' h'
  rcases gput_some h' with ⟨rfl, rfl, rfl, rfl⟩ | ⟨h1, h2⟩
  · exact ⟨L.length, by simp⟩
  · obtain ⟨k2, hk2⟩ := h _ _ _ _ h2
    exact ⟨k2, by rw [List.getElem?_append_left (List.getElem?_eq_some_iff.mp hk2).1]; exact hk2⟩
/-- the heap holds the ghost heap -/
def g_G (Γ : g_C) (ph : g_H) (H : Heap) : Prop := ∃ L, g_in L ph ∧ va_P (g_D Γ) vwCl (L.map Prod.snd) H ∧ va_D (g_A Γ) (L.map Prod.snd)
/-- in a walk -/
def g_I (Γ : g_C) (ph : g_H) (s : State) (H : Heap) (locs : List Loc) : Prop := g_G Γ ph H ∧ va_S (g_A Γ) s.heap H locs
theorem g_G.weak {Γ : g_C} {ph ph' : g_H} {H : Heap} (h : g_G Γ ph' H) (hs : ∀ (j i a : Nat) (e : va_E), ph j i a = some e → ph' j i a = some e) : g_G Γ ph H := by
  obtain ⟨L, h1, h2⟩ := h
  exact ⟨L, fun j i a e q => h1 j i a e (hs j i a e q), h2⟩
theorem g_I.weak {Γ : g_C} {ph ph' : g_H} {s : State} {H : Heap} {locs : List Loc} (h : g_I Γ ph' s H locs) (hs : ∀ (j i a : Nat) (e : va_E), ph j i a = some e → ph' j i a = some e) : g_I Γ ph s H locs := ⟨h.1.weak hs, h.2⟩
theorem g_G.lt {Γ : g_C} {ph : g_H} {H : Heap} (h : g_G Γ ph H) {j i a : Nat} {e : va_E} (ha : ph j i a = some e) : a < H.size := by
  obtain ⟨L, h1, h2, h3⟩ := h
  obtain ⟨k, hk⟩ := h1 _ _ _ _ ha
  exact (h2 k _ (g_in.snd hk)).lt
theorem g_G.ge {Γ : g_C} {ph : g_H} {H : Heap} (h : g_G Γ ph H) {j i a : Nat} {e : va_E} (ha : ph j i a = some e) : g_B Γ ≤ a := by
  obtain ⟨L, h1, h2, h3⟩ := h
  obtain ⟨k, hk⟩ := h1 _ _ _ _ ha
  exact h3.2 k _ (g_in.snd hk)
theorem g_G.apart {Γ : g_C} {ph : g_H} {H : Heap} (h : g_G Γ ph H) {j i j' i' a : Nat} {e e' : va_E} (h1 : ph j i a = some e) (h2 : ph j' i' a = some e') : j = j' ∧ i = i' ∧ e = e' := by
  obtain ⟨L, hL, hP, hD⟩ := h
  obtain ⟨k, hk⟩ := hL _ _ _ _ h1
  obtain ⟨k', hk'⟩ := hL _ _ _ _ h2
  have := hD.1 k k' _ _ (g_in.snd hk) (g_in.snd hk') rfl
  subst this
  rw [hk] at hk'
  cases hk'
  exact ⟨rfl, rfl, rfl⟩
theorem g_G.set {Γ : g_C} {ph : g_H} {L : List ((Nat × Nat) × (Nat × va_E))} {H1 : Heap} {j i a k : Nat} {e0 e : va_E} (h1 : g_in L ph) (h3 : va_D (g_A Γ) (L.map Prod.snd)) (hk : L[k]? = some ((j, i), (a, e0))) (hP : va_P (g_D Γ) vwCl ((L.map Prod.snd).set k (a, e)) H1) (hD : va_D (g_A Γ) ((L.map Prod.snd).set k (a, e))) : g_G Γ (gput ph j i a e) H1 := by
  refine ⟨_, h1.set h3 hk e, ?_, ?_⟩
  · rw [List.map_set]; exact hP
  · rw [List.map_set]; exact hD
theorem g_G.push {Γ : g_C} {ph : g_H} {L : List ((Nat × Nat) × (Nat × va_E))} {H1 : Heap} {a : Nat} {e : va_E} (j i : Nat) (h1 : g_in L ph) (hP : va_P (g_D Γ) vwCl (L.map Prod.snd ++ [(a, e)]) H1) (hD : va_D (g_A Γ) (L.map Prod.snd ++ [(a, e)])) : g_G Γ (gput ph j i a e) H1 := by
  refine ⟨_, h1.push j i a e, ?_, ?_⟩
  · rw [List.map_append]; exact hP
  · rw [List.map_append]; exact hD
theorem g_fresh {Γ : g_C} {ph : g_H} {L : List ((Nat × Nat) × (Nat × va_E))} {a : Nat} {e : va_E} (h1 : g_in L ph) (hD : va_D (g_A Γ) (L.map Prod.snd ++ [(a, e)])) : ∀ j i : Nat, ph j i a = none := by
  intro j i
  cases hp : ph j i a with
  | none => rfl
  | some x =>
    obtain ⟨k, hk⟩ := h1 _ _ _ _ hp
    have hl : k < (L.map Prod.snd).length := by rw [List.length_map]; exact (List.getElem?_eq_some_iff.mp hk).1
    have := hD.1 k (L.map Prod.snd).length (a, x) (a, e) (by rw [List.getElem?_append_left hl]; exact g_in.snd hk) (by simp) rfl
    omega
/-- a cell that can be read: a ghost cell, or an old one -/
def g_at (Γ : g_C) (ph : g_H) (a : Nat) (e : va_E) : Prop := (∃ j i : Nat, ph j i a = some e) ∨ ∃ k : Nat, (g_R Γ)[k]? = some (a, e)
theorem g_at.of {Γ : g_C} {ph : g_H} {j i a : Nat} {e : va_E} (h : ph j i a = some e) : g_at Γ ph a e := Or.inl ⟨j, i, h⟩
theorem g_I.read {Γ : g_C} {ph : g_H} {s : State} {H : Heap} {locs : List Loc} (I : g_I Γ ph s H locs) (hK : g_K Γ s) {a : Nat} {e : va_E} (h : g_at Γ ph a e) : ∃ (ws : va_W) (k : Nat), va_P (g_D Γ) vwCl ws H ∧ ws[k]? = some (a, e) := by
  obtain ⟨⟨L, h1, h2, h3⟩, hS⟩ := I
  rcases h with ⟨j, i, h⟩ | ⟨k, h⟩
  · obtain ⟨k, hk⟩ := h1 _ _ _ _ h
    exact ⟨_, k, h2, g_in.snd hk⟩
  · obtain ⟨-, -, hB, ⟨hR, hR2⟩, -⟩ := hK
    exact ⟨_, k, hR.kept (fun k q hq => hS.2.1 _ (Nat.lt_of_lt_of_le (hR2 k q hq) hB) (fun z => absurd (hR2 k q hq) (Nat.not_lt.mpr z))), h⟩

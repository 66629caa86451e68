/-! FLOATS: those of the run are finite and less than a bound: no NaN comes up -/
set_option maxRecDepth 100000
abbrev fD (x : UInt32) : FP.Core.Datum := FP.Core.decode FP.Core.b32 x.toNat
/-- a float of a value that is at most 2 ^ K -/
def fb (K : Nat) (x : UInt32) : Prop := ∃ s c q, fD x = .fin s c q ∧ -149 ≤ q ∧ c * 2 ^ (q + 149).toNat ≤ 2 ^ (K + 149)
theorem fb_mono {K L : Nat} {x : UInt32} (h : fb K x) (hl : K ≤ L) : fb L x := by
  obtain ⟨s, c, q, h1, h2, h3⟩ := h
  exact ⟨s, c, q, h1, h2, Nat.le_trans h3 (Nat.pow_le_pow_right (by decide) (by omega))⟩
theorem fb_0 : fb 0 0 := ⟨false, 0, -149, by decide +kernel, by decide, by decide⟩
theorem fd_asm {s : Bool} {e t : Nat} (he : e < 255) (ht : t < 2 ^ 23) : FP.Core.assemble FP.Core.b32 s e t < 2 ^ 32 ∧ FP.Core.decode FP.Core.b32 (FP.Core.assemble FP.Core.b32 s e t) = if e = 0 then .fin s t (-149) else .fin s (2 ^ 23 + t) (-149 + ((e : Int) - 1)) := by
  have ha : FP.Core.assemble FP.Core.b32 s e t = (s.toNat * 256 + e) * 2 ^ 23 + t := rfl
  have hs : s.toNat ≤ 1 := by cases s <;> decide
  have h1 : ((s.toNat * 256 + e) * 2 ^ 23 + t) / 2 ^ 23 = s.toNat * 256 + e := by omega
  have hE : FP.Core.fieldE FP.Core.b32 (FP.Core.assemble FP.Core.b32 s e t) = e := by
    show FP.Core.assemble FP.Core.b32 s e t / 2 ^ 23 % 256 = e
    rw [ha, h1]
    omega
  have hT : FP.Core.fieldT FP.Core.b32 (FP.Core.assemble FP.Core.b32 s e t) = t := by
    show FP.Core.assemble FP.Core.b32 s e t % 2 ^ 23 = t
    rw [ha]
    omega
  have hS : FP.Core.fieldS FP.Core.b32 (FP.Core.assemble FP.Core.b32 s e t) = s := by
    show (FP.Core.assemble FP.Core.b32 s e t / 2 ^ 23 / 256 % 2 == 1) = s
    rw [ha, h1, show (s.toNat * 256 + e) / 256 = s.toNat by omega]
    cases s <;> rfl
  refine ⟨by rw [ha]; omega, ?_⟩
  unfold FP.Core.decode
  rw [hE, hT, hS, if_neg (show ¬ e = FP.Core.b32.exps - 1 from by show ¬ e = 255; omega)]
  split
  · rfl
  · rfl
theorem fe_le {s : Bool} {c : Nat} {q : Int} {K : Nat} (h1 : c < 2 ^ 24) (h2 : -149 ≤ q) (h3 : q ≤ 104) (h4 : c * 2 ^ (q + 149).toNat ≤ 2 ^ (K + 149)) : fb K (UInt32.ofNat (FP.Core.encode FP.Core.b32 (.fin s c q))) := by
  unfold fb fD
  rw [show FP.Core.encode FP.Core.b32 (.fin s c q) = if c < 2 ^ 23 then FP.Core.assemble FP.Core.b32 s 0 c else FP.Core.assemble FP.Core.b32 s ((q - (-149)).toNat + 1) (c - 2 ^ 23) from rfl]
  split
  · rename_i h
    obtain ⟨g1, g2⟩ := fd_asm (s := s) (e := 0) (t := c) (by decide) h
    refine ⟨s, c, -149, ?_, by decide, ?_⟩
    · rw [UInt32.toNat_ofNat', Nat.mod_eq_of_lt g1, g2, if_pos rfl]
    · refine Nat.le_trans (Nat.mul_le_mul_left _ ?_) h4
      exact Nat.pow_le_pow_right (by decide) (by omega)
  · rename_i h
    obtain ⟨g1, g2⟩ := fd_asm (s := s) (e := (q - (-149)).toNat + 1) (t := c - 2 ^ 23) (by omega) (by omega)
    refine ⟨s, c, q, ?_, h2, h4⟩
    rw [UInt32.toNat_ofNat', Nat.mod_eq_of_lt g1, g2, if_neg (by omega), show 2 ^ 23 + (c - 2 ^ 23) = c by omega, show (-149 : Int) + ((((q - -149).toNat + 1 : Nat) : Int) - 1) = q by omega]
theorem fn_le {A B M : Nat} (hB : 0 < B) (h : A ≤ M * B) : FP.Core.nearest A B ≤ M := by
  have h1 := Nat.div_add_mod A B
  have h2 := Nat.mod_lt A hB
  have hd : A / B ≤ M := Nat.div_le_of_le_mul (by rw [Nat.mul_comm]; exact h)
  unfold FP.Core.nearest
  rcases Nat.lt_or_ge (A / B) M with q | q
  · split
    · omega
    · split
      · omega
      · omega
  · have e : A / B = M := Nat.le_antisymm hd q
    rw [e, Nat.mul_comm] at h1
    have e0 : A % B = 0 := by omega
    rw [e0, if_pos (by omega)]
    exact hd
/-- the first digit's exponent, as far as it is wanted -/
theorem fl_le {A B x y : Nat} (hA : 0 < A) (hB : 0 < B) (h : A * 2 ^ x ≤ B * 2 ^ y) : FP.Core.leading A B ≤ (y : Int) - x + 1 := by
  have h1 : 2 ^ A.log2 ≤ A := Nat.log2_self_le (by omega)
  have h2 : B < 2 ^ (B.log2 + 1) := Nat.lt_log2_self
  have h3 : 2 ^ (A.log2 + x) < 2 ^ (B.log2 + 1 + y) := by
    rw [Nat.pow_add, Nat.pow_add 2 (B.log2 + 1)]
    exact Nat.lt_of_le_of_lt (Nat.le_trans (Nat.mul_le_mul_right _ h1) h) (Nat.mul_lt_mul_of_pos_right h2 (Nat.two_pow_pos _))
  have h4 := (Nat.pow_lt_pow_iff_right (a := 2) (by decide)).mp h3
  unfold FP.Core.leading
  simp only
  split <;> omega
theorem fl_lt {A B : Nat} (hA : 0 < A) (hB : 0 < B) {u v : Nat} (h : (FP.Core.leading A B + 1 : Int) ≤ (v : Int) - u) : A * 2 ^ u ≤ B * 2 ^ v := by
  have h1 : A < 2 ^ (A.log2 + 1) := Nat.lt_log2_self
  have h2 : 2 ^ B.log2 ≤ B := Nat.log2_self_le (by omega)
  unfold FP.Core.leading at h
  simp only at h
  split at h
  · refine Nat.le_trans (Nat.mul_le_mul_right _ (Nat.le_of_lt h1)) (Nat.le_trans ?_ (Nat.mul_le_mul_right _ h2))
    rw [← Nat.pow_add, ← Nat.pow_add]
    exact Nat.pow_le_pow_right (by decide) (by omega)
  · rename_i hn
    have hn := Nat.le_of_lt (Nat.not_le.mp hn)
    generalize hk : ((A.log2 : Int) - (B.log2 : Int)) = k at hn h
    have h5 : A * 2 ^ u * 2 ^ (-k).toNat ≤ B * 2 ^ v * 2 ^ (-k).toNat := by
      calc A * 2 ^ u * 2 ^ (-k).toNat = A * 2 ^ (-k).toNat * 2 ^ u := by ac_rfl
        _ ≤ B * 2 ^ k.toNat * 2 ^ u := Nat.mul_le_mul_right _ hn
        _ = B * 2 ^ (k.toNat + u) := by rw [Nat.mul_assoc, Nat.pow_add]
        _ ≤ B * 2 ^ (v + (-k).toNat) := Nat.mul_le_mul_left _ (Nat.pow_le_pow_right (by decide) (by omega))
        _ = _ := by rw [Nat.pow_add, Nat.mul_assoc]
    exact Nat.le_of_mul_le_mul_right h5 (Nat.two_pow_pos _)
theorem fu_le {A B K x y : Nat} {e q0 : Int} (he : (x : Int) - y = e - K) (h : A * 2 ^ x ≤ B * 2 ^ y) (hle : q0 ≤ K) : FP.Core.unitsNum A e q0 ≤ 2 ^ ((K : Int) - q0).toNat * FP.Core.unitsDen B e q0 := by
  unfold FP.Core.unitsNum FP.Core.unitsDen
  have e1 : (q0 - e).toNat + ((K : Int) - q0).toNat + x = y + (e - q0).toNat := by omega
  have h3 : A * 2 ^ (e - q0).toNat * 2 ^ x ≤ 2 ^ ((K : Int) - q0).toNat * (B * 2 ^ (q0 - e).toNat) * 2 ^ x := by
    have h4 : A * 2 ^ x * 2 ^ (e - q0).toNat ≤ B * 2 ^ y * 2 ^ (e - q0).toNat := Nat.mul_le_mul_right _ h
    have h5 : B * 2 ^ y * 2 ^ (e - q0).toNat = 2 ^ ((K : Int) - q0).toNat * (B * 2 ^ (q0 - e).toNat) * 2 ^ x := by
      rw [Nat.mul_assoc, ← Nat.pow_add, ← e1, Nat.pow_add, Nat.pow_add]
      ac_rfl
    rw [← h5]
    calc A * 2 ^ (e - q0).toNat * 2 ^ x = A * 2 ^ x * 2 ^ (e - q0).toNat := by ac_rfl
      _ ≤ _ := h4
  exact Nat.le_of_mul_le_mul_right h3 (Nat.two_pow_pos x)
theorem fr_le {s : Bool} {A B : Nat} {e : Int} {K x y : Nat} (hK : K ≤ 103) (hB : 0 < B) (he : (x : Int) - y = e - K) (h : A * 2 ^ x ≤ B * 2 ^ y) : fb K (UInt32.ofNat (FP.Core.encode FP.Core.b32 (FP.Core.roundRatio FP.Core.b32 s A B e))) := by
  unfold FP.Core.roundRatio
  have hqm : FP.Core.b32.qmin = -149 := by decide
  have hqx : FP.Core.b32.qmax = 104 := by decide
  have hp : FP.Core.b32.p = 24 := rfl
  split
  · rw [hqm]
    exact fe_le (by decide) (by decide) (by decide) (by rw [Nat.zero_mul]; exact Nat.zero_le _)
  rename_i hA
  have hA : 0 < A := Nat.pos_of_ne_zero hA
  have hl := fl_le hA hB h
  have hq : FP.Core.quantum FP.Core.b32 A B e = max (-149) (FP.Core.leading A B + e - 23) := by
    unfold FP.Core.quantum
    rw [hqm, hp]
    rfl
  have hge : -149 ≤ FP.Core.quantum FP.Core.b32 A B e := by rw [hq]; omega
  have hle : FP.Core.quantum FP.Core.b32 A B e ≤ K := by rw [hq]; omega
  have hdp : ∀ q : Int, 0 < FP.Core.unitsDen B e q := fun q => Nat.mul_pos hB (Nat.two_pow_pos _)
  have hn : FP.Core.nearest (FP.Core.unitsNum A e (FP.Core.quantum FP.Core.b32 A B e)) (FP.Core.unitsDen B e (FP.Core.quantum FP.Core.b32 A B e)) ≤ 2 ^ 24 := by
    refine fn_le (hdp _) ?_
    have hk : FP.Core.leading A B + 1 ≤ FP.Core.quantum FP.Core.b32 A B e - e + 24 := by rw [hq]; omega
    generalize FP.Core.quantum FP.Core.b32 A B e = q0 at hk
    have h6 := fl_lt hA hB (u := (e - q0).toNat) (v := 24 + (q0 - e).toNat) (by omega)
    unfold FP.Core.unitsNum FP.Core.unitsDen
    rw [Nat.pow_add] at h6
    calc _ ≤ _ := h6
      _ = _ := by ac_rfl
  have hc : FP.Core.nearest (FP.Core.unitsNum A e (FP.Core.quantum FP.Core.b32 A B e)) (FP.Core.unitsDen B e (FP.Core.quantum FP.Core.b32 A B e)) ≤ 2 ^ ((K : Int) - FP.Core.quantum FP.Core.b32 A B e).toNat := fn_le (hdp _) (fu_le he h hle)
  unfold FP.Core.roundAt
  generalize FP.Core.quantum FP.Core.b32 A B e = q0 at hge hle hn hc ⊢
  generalize FP.Core.nearest (FP.Core.unitsNum A e q0) (FP.Core.unitsDen B e q0) = c0 at hn hc ⊢
  have hv : c0 * 2 ^ (q0 + 149).toNat ≤ 2 ^ (K + 149) := by
    refine Nat.le_trans (Nat.mul_le_mul_right _ hc) ?_
    rw [← Nat.pow_add]
    exact Nat.pow_le_pow_right (by decide) (by omega)
  unfold FP.Core.settle FP.Core.bound
  rw [hqx, hp]
  split
  · rename_i hlt
    rw [if_pos (by omega)]
    exact fe_le hlt hge (by omega) hv
  · rename_i hlt
    rw [if_pos (by omega), show FP.Core.b32.tails = 2 ^ 23 from rfl]
    refine fe_le (by decide) (by omega) (by omega) ?_
    have e2 : c0 = 2 ^ 24 := by omega
    rw [e2] at hv
    have e3 : (q0 + 1 + 149).toNat = (q0 + 149).toNat + 1 := by omega
    rw [e3, @Nat.pow_succ 2 (q0 + 149).toNat]
    generalize 2 ^ (q0 + 149).toNat = z at hv ⊢
    clear hq
    omega
theorem fb_fin {K : Nat} {x : UInt32} (h : fb K x) : fD x ≠ .nan := by
  obtain ⟨s, c, q, h1, -⟩ := h
  rw [h1]
  intro h
  cases h
theorem fb_mul {K L : Nat} {x y : UInt32} (hx : fb K x) (hy : fb L y) (h : K + L ≤ 103) : fb (K + L) (FP.fmul x y) := by
  obtain ⟨s, c, q, h1, h2, h3⟩ := hx
  obtain ⟨t, d, r, g1, g2, g3⟩ := hy
  rw [show FP.fmul x y = UInt32.ofNat (FP.Core.encode FP.Core.b32 (FP.Core.round FP.Core.b32 (FP.Core.exactProduct (fD x) (fD y)))) from rfl, h1, g1]
  exact fr_le (s := s != t) (A := c * d) (B := 1) (e := q + r) (K := K + L) (x := (q + 149).toNat + (r + 149).toNat) (y := K + 149 + (L + 149)) h (by decide) (by omega) (by
    rw [Nat.one_mul, Nat.pow_add, Nat.pow_add]
    calc c * d * (2 ^ (q + 149).toNat * 2 ^ (r + 149).toNat) = (c * 2 ^ (q + 149).toNat) * (d * 2 ^ (r + 149).toNat) := by ac_rfl
      _ ≤ _ := Nat.mul_le_mul h3 g3)
/-- a float of a value that is 2 ^ L or more -/
def fgeB (L : Nat) (y : UInt32) : Bool := match fD y with
  | .fin _ d r => decide (-149 ≤ r) && decide (2 ^ (L + 149) ≤ d * 2 ^ (r + 149).toNat)
  | _ => false
def fge (L : Nat) (y : UInt32) : Prop := fgeB L y = true
theorem fb_div {K L : Nat} {x y : UInt32} (hx : fb (K + L) x) (hy : fge L y) (h : K ≤ 103) : fb K (FP.fdiv x y) := by
  obtain ⟨s, c, q, h1, h2, h3⟩ := hx
  unfold fge fgeB at hy
  rw [show FP.fdiv x y = UInt32.ofNat (FP.Core.encode FP.Core.b32 (FP.Core.quotient FP.Core.b32 (fD x) (fD y))) from rfl, h1]
  cases g1 : fD y with
  | nan => rw [g1] at hy; cases hy
  | inf t => rw [g1] at hy; cases hy
  | fin t d r =>
  rw [g1] at hy
  obtain ⟨g2, g3⟩ := (Bool.and_eq_true _ _).mp hy
  have g2 := of_decide_eq_true g2
  have g3 := of_decide_eq_true g3
  have hd : ¬ d = 0 := by
    intro e
    rw [e, Nat.zero_mul] at g3
    have := Nat.two_pow_pos (L + 149)
    omega
  rw [show FP.Core.quotient FP.Core.b32 (.fin s c q) (.fin t d r) = if d = 0 then (if c = 0 then .nan else .inf (s != t)) else FP.Core.roundRatio FP.Core.b32 (s != t) c d (q - r) from rfl, if_neg hd]
  refine fr_le (s := s != t) (A := c) (B := d) (e := q - r) (K := K) (x := (q + 149).toNat + (L + 149)) (y := K + L + 149 + (r + 149).toNat) h (Nat.pos_of_ne_zero hd) (by omega) ?_
  rw [Nat.pow_add, Nat.pow_add 2 (K + L + 149)]
  generalize 2 ^ (q + 149).toNat = z1 at h3 ⊢
  generalize 2 ^ (L + 149) = z2 at g3 ⊢
  generalize 2 ^ (K + L + 149) = z3 at h3 ⊢
  generalize 2 ^ (r + 149).toNat = z4 at g3 ⊢
  rw [← Nat.mul_assoc, Nat.mul_left_comm]
  exact Nat.mul_le_mul h3 g3
theorem fb_n32 {K : Nat} {x : UInt32} (h : fb K x) : vf_n32 x := by
  have h := fb_fin h
  unfold vf_n32
  rw [UInt32.le_iff_toNat_le, UInt32.toNat_and, show (0x7fffffff : UInt32).toNat = 2 ^ 31 - 1 from rfl, Nat.and_two_pow_sub_one_eq_mod, show (0x7f800000 : UInt32).toNat = 255 * 2 ^ 23 from rfl]
  refine Nat.not_lt.mp (fun hlt => h ?_)
  have e1 : FP.Core.fieldE FP.Core.b32 x.toNat = x.toNat / 2 ^ 23 % 256 := rfl
  have e2 : FP.Core.fieldT FP.Core.b32 x.toNat = x.toNat % 2 ^ 23 := rfl
  unfold fD FP.Core.decode
  rw [if_pos (by rw [e1]; show _ = 255; omega), if_neg (by rw [e2]; omega)]
/-- from an int that is not great -/
theorem fb_i2f {n K : Nat} (h : n ≤ 2 ^ K) (hn : n < 2 ^ 31) (hK : K ≤ 103) : fb K (FP.i2f (nI n)) := by
  rw [show FP.i2f (nI n) = UInt32.ofNat (FP.Core.encode FP.Core.b32 (FP.Core.round FP.Core.b32 (FP.Core.ofInt (nI n).toInt))) from rfl]
  have e : (nI n).toInt = (n : Int) := by
    unfold nI
    exact Int32.toInt_ofNat_of_lt (by simpa using hn)
  rw [e]
  exact fr_le (A := n) (B := 1) (e := 0) (K := K) (x := 0) (y := K) hK (by decide) (by omega) (by simpa using h)
theorem fge_i2f : ∀ n, n < 1000 → 0 < n → fge 0 (FP.i2f (nI n)) := by
  have h : ∀ n, n < 1000 → 0 < n → fgeB 0 (FP.i2f (Int32.ofNat n)) = true := by decide +kernel
  exact h
theorem fge_100 : fge 6 1120403456 := show fgeB 6 1120403456 = true by decide +kernel
theorem fb_3 : fb 2 1077936128 := ⟨false, 12582912, -22, by decide +kernel, by decide, by decide⟩
theorem f_cmp {K : Nat} {x : UInt32} (h : fb K x) : FP.fcmp x x = some .eq := by
  obtain ⟨s, c, q, h1, -⟩ := h
  rw [show FP.fcmp x x = FP.Core.order (fD x) (fD x) from rfl, h1]
  show some (compare _ _) = some Ordering.eq
  rw [show ∀ a : Int, compare a a = .eq from fun a => by simp]
/-! a class of which some method is run by a native row in its place -/
theorem vx_ofWF {l : Launch} {y : MethodName} {ws ws' : List Cond} {rm : Room} {Pc : Array Value → State → Prop} {Qc : Array Value → State → Outcome → State → Prop} {XC : String → Addr → State → State → Prop} {mc ms : Nat} {free : Addr → Prop} {cc : ByteArray} {maxL : Nat} {ret : Option FieldType}
    (hy : plainFor y = true) (hw : ws = Cond.code y cc maxL ret :: ws')
    (body : ∀ p e s m args below meth c s₁, BodyLoose p l y (headSpec ws rm) cc maxL ret e s m args below meth c s₁ → c.maxLocals = maxL → (∀ x ∈ c.exceptionTable.toList, False) → Pc args s →
      W p l e (headSpec ws rm).room s m args below meth c s.heap [] 0 0 (vx_MQ below Qc XC args s mc ms free) (entryFrame m args maxL)) : vx_Met l y ws rm Pc Qc XC mc ms free := by
  refine MetFree.of_bodySF (code := cc) (maxLocals := maxL) (ret := ret) hy ?_ ?_
  · intro args s m h hn
    obtain ⟨meth, c, h1, h2, h3, h4, h5, h6, -, -⟩ := Cond.code_spec hn (atoms_spec (ws := ws) h _ (by rw [hw]; exact List.mem_cons_self))
    exact ⟨meth, c, h1, h2, h3, h4, h5, h6⟩
  · intro p e s m args below meth c s₁ B hml hP _
    have hh0 : s₁.heap = s.heap := by rw [B.state]; rfl
    have ht : ∀ x ∈ c.exceptionTable.toList, False := by
      obtain ⟨meth9, c9, h1, h2, -, -, -, -, h7, -⟩ := Cond.code_spec B.named (atoms_spec (ws := ws) B.pre _ (by rw [hw]; exact List.mem_cons_self))
      cases Option.some.inj (h1.symm.trans B.method)
      cases Option.some.inj (h2.symm.trans (Stand.of_body B).code)
      intro x hx
      rw [Array.isEmpty_iff.mp h7] at hx
      cases hx
    obtain ⟨t, a1, o, b1, b2, b3⟩ := body p e s m args below meth c s₁ B hml ht hP s₁ hh0 (Stand.of_body B)
    exact ⟨t, o, a1, b1, b2, b3⟩
/-- the table of a body with handlers -/
theorem g_startF {l : Launch} {cc : ByteArray} {Γ : g_C} {ph : g_H} {y : MethodName} {maxL : Nat} {ret : Option FieldType} {rm : Room} {av : List Value} {post : Option Value → g_H → Prop} {px : String → Nat → g_H → Prop} (hy : plainFor y = true) (hlen : (lg_sl av).length ≤ maxL)
    (body : ∀ (p : Program) (e : Env) (s : State) (m : MethodId) (A : Array Value) (below : List Frame) (meth : Method) (c : Code) (ls : Array Slot) (Q : State → Prop), Q = vx_MQ below (g_Q Γ post) (g_X Γ px) A s rm.cells rm.slots (g_A Γ) → CallFix p m c cc maxL s A lw_all y.cls → meth.sig.returnType = ret → meth.locks = false → (∀ x ∈ c.exceptionTable.toList, False) → meth.name = y.name → g_K Γ s → g_I Γ ph s s.heap [] → lv_has ls maxL (lv_args 0 av) →
      W p l e rm s m A below meth c s.heap [] 0 0 Q (F0 m 0 ls [])) : g_Met l y (ws_ y cc maxL ret) rm Γ av ph post px := by
  refine vx_ofWF (cc := cc) (maxL := maxL) (ret := ret) hy rfl ?_
  intro p e s m args below meth c s₁ B hml hex hv
  obtain ⟨hav, hK, hG⟩ := hv
  have hts := atoms_spec (ws := ws_ y cc maxL ret) B.pre
  have hts : ∀ w ∈ lw_all, w.before _ s = true := fun w h => hts w (List.mem_cons_of_mem _ h)
  have hl := lv_entry av (n := maxL) hlen
  have hE : entryFrame m args maxL = F0 m 0 ((lg_sl av ++ List.replicate (maxL - (lg_sl av).length) Slot.unset).toArray) [] := by rw [hav, lg_entry_eq]
  rw [hE]
  generalize (lg_sl av ++ List.replicate (maxL - (lg_sl av).length) Slot.unset).toArray = ls at hl ⊢
  exact body p e s m args below meth c ls _ rfl ⟨B.exec, B.bytes, hml, findClass_of_methodNamed B.named, hts⟩ B.returns B.notSynchronized hex (name_of_methodNamed B.named B.method).1 hK ⟨hG, va_S.rf⟩ hl

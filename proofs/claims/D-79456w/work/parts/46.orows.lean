/-! ROWS for objects -/
set_option maxRecDepth 100000
theorem g_oj {ph : g_H} {j0 i0 a0 j i a : Nat} {e : va_E} (h : j ≠ j0) : gput ph j0 i0 a0 e j i a = ph j i a := by
  unfold gput
  rw [gset_ne ph _ (fun q => h q.1)]
theorem g_oi' {ph : g_H} {j0 i0 a0 j i a : Nat} {e : va_E} (h : i ≠ i0) : gput ph j0 i0 a0 e j i a = ph j i a := by
  unfold gput
  rw [gset_ne ph _ (fun q => h q.2)]
theorem g_oa {ph : g_H} {j i a0 a : Nat} {e : va_E} (h : a ≠ a0) : gput ph j i a0 e j i a = ph j i a := by
  unfold gput
  rw [gset_self]
  exact pput_ne _ _ h
theorem gput_gput {ph : g_H} {j i a : Nat} {e e' : va_E} : gput (gput ph j i a e) j i a e' = gput ph j i a e' := by
  unfold gput
  rw [gset_gset, gset_self]
  congr 1
  funext x
  unfold pput
  split <;> rfl
theorem k_X1 : g_cls 0 RX1 TX1 11 tyX1 := ⟨rfl, in_X1, tyX1_ok, nmX1⟩
theorem k_X2 : g_cls 1 RX2 TX2 15 tyX2 := ⟨rfl, in_X2, tyX2_ok, nmX2⟩
theorem k_X3 : g_cls 2 RX3 TX3 4 tyX3 := ⟨rfl, in_X3, tyX3_ok, nmX3⟩
theorem k_X6 : g_cls 5 RX6 TX6 8 tyX6 := ⟨rfl, in_X6, tyX6_ok, nmX6⟩
theorem k_X8 : g_cls 6 RX8 TX8 5 tyX8 := ⟨rfl, in_X8, tyX8_ok, nmX8⟩
theorem k_X9 : g_cls 7 RX9 TX9 5 tyX9 := ⟨rfl, in_X9, tyX9_ok, nmX9⟩
theorem k_X10 : g_cls 8 RX10 TX10 5 tyX10 := ⟨rfl, in_X10, tyX10_ok, nmX10⟩
theorem k_X11 : g_cls 9 RX11 TX11 5 tyX11 := ⟨rfl, in_X11, tyX11_ok, nmX11⟩
theorem k_X12 : g_cls 10 RX12 TX12 5 tyX12 := ⟨rfl, in_X12, tyX12_ok, nmX12⟩
theorem k_X14 : g_cls 11 RX14 TX14 2 tyX14 := ⟨rfl, in_X14, tyX14_ok, nmX14⟩
theorem k_X16 : g_cls 12 RX16 TX16 1 tyX16 := ⟨rfl, in_X16, tyX16_ok, nmX16⟩
theorem k_X17 : g_cls 13 RX17 TX17 2 tyX17 := ⟨rfl, in_X17, tyX17_ok, nmX17⟩
theorem k_X18 : g_cls 14 RX18 TX18 7 tyX18 := ⟨rfl, in_X18, tyX18_ok, nmX18⟩
theorem k_X19 : g_cls 15 RX19 TX19 1 tyX19 := ⟨rfl, in_X19, tyX19_ok, nmX19⟩
theorem k_X20 : g_cls 16 RX20 TX20 3 tyX20 := ⟨rfl, in_X20, tyX20_ok, nmX20⟩
theorem k_J4 : g_cls 20 RJ4 TJ4 2 tyJ4 := ⟨rfl, in_J4, tyJ4_ok, nmJ4⟩
theorem k_J7 : g_cls 21 RJ7 TJ7 3 tyJ7 := ⟨rfl, in_J7, tyJ7_ok, nmJ7⟩
theorem k_J13 : g_cls 22 RJ13 TJ13 4 tyJ13 := ⟨rfl, in_J13, tyJ13_ok, nmJ13⟩
theorem k_J22 : g_cls 23 RJ22 TJ22 1 tyJ22 := ⟨rfl, in_J22, tyJ22_ok, nmJ22⟩
theorem k_J24 : g_cls 24 RJ24 TJ24 4 tyJ24 := ⟨rfl, in_J24, tyJ24_ok, nmJ24⟩
theorem k_J25 : g_cls 25 RJ25 TJ25 3 tyJ25 := ⟨rfl, in_J25, tyJ25_ok, nmJ25⟩
theorem k_J32 : g_cls 26 RJ32 TJ32 5 tyJ32 := ⟨rfl, in_J32, tyJ32_ok, nmJ32⟩
theorem k_J34 : g_cls 27 RJ34 TJ34 3 tyJ34 := ⟨rfl, in_J34, tyJ34_ok, nmJ34⟩
theorem k_J38 : g_cls 28 RJ38 TJ38 3 tyJ38 := ⟨rfl, in_J38, tyJ38_ok, nmJ38⟩
theorem k_J40 : g_cls 29 RJ40 TJ40 2 tyJ40 := ⟨rfl, in_J40, tyJ40_ok, nmJ40⟩
section OR
variable {p : Program} {l : Launch} {e : Env} {R : Room} {s : State} {m : MethodId} {args : Array Value} {below : List Frame} {meth : Method} {c : Code} {H : Heap} {locs : List Loc} {cells slots : Nat} {Q : State → Prop}
variable {cc : ByteArray} {pc : Nat} {ls : Array Slot} {rest : List Value} {Γ : g_C} {ph : g_H} {a nL : Nat} {own : String}
theorem o_aald (S : CallFix p m c cc nL s args lw_all own) (hK : g_K Γ s) (I : g_I Γ ph s H locs) (t0 : Nat) {C : String} (ht : (g_ty Γ)[t0]? = some (g_t Γ t0, .object C)) {n k : Nat} {f : Nat → Option Nat} (ha : g_at Γ ph a (.inl (g_t Γ t0, n, .inr (.inr (.inr (.inr f)))))) {i : Int32} (hin : vp_in i n) (hk : i.toNatClampNeg = k) (hdg : decode cc pc = .ok (.aaload, 1))
    (kk : W p l e R s m args below meth c H locs cells slots Q (F0 m (pc + 1) ls (va_rf (f k) :: rest))) : W p l e R s m args below meth c H locs cells slots Q (F0 m pc ls (.int i :: .ref a :: rest)) := by
  subst hk
  exact g_aald S hK I t0 ht ha hin hdg kk
end OR

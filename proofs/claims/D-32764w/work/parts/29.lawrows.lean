/-! ROWS of the law's own body: the script's cell, the law's end -/
section VR9
variable {p : Program} {l : Launch} {e : Env} {s : State} {m : MethodId} {below : List Frame} {meth : Method} {c : Code} {D : va_G} {H : Heap} {locs : List Loc} {cells slots : Nat} {Q : State → Prop} {F X : Nat} {h : Hp} {pc : Nat} {ls : Array Slot} {rest : List Value} {b L : Nat} {xs : Nat → Int32} {own : String} {nL : Nat} {ret1 : Option FieldType} {et : List (Nat × Nat × Nat × Nat)}
theorem V_slen (C : CX p l room_1 s m #[Value.ref b] meth c D s.heap code own nL ret1 et F X) (hH : HP D s.heap h H) (hS : va_X b L xs s s.heap ∧ b < s.heap.size) (hdg : decode code pc = .ok (.arraylength, 1))
    (kk : W p l e room_1 s m #[Value.ref b] below meth c H locs cells slots Q (F0 m (pc + 1) ls (.int (Int32.ofNat L) :: rest))) : W p l e room_1 s m #[Value.ref b] below meth c H locs cells slots Q (F0 m pc ls (.ref b :: rest)) := by
  obtain ⟨⟨scr, h1, h2, h3, h4, h5⟩, hb⟩ := hS
  exact W.alen (n := Int32.ofNat L) C.1.1 C.1.2.1 (by rw [hH.2.1 b hb]; exact h1) h2 (by rw [h4] <;> rfl) rfl rfl hdg kk
theorem V_sld (C : CX p l room_1 s m #[Value.ref b] meth c D s.heap code own nL ret1 et F X) (hH : HP D s.heap h H) (hS : va_X b L xs s s.heap ∧ b < s.heap.size) {i : Int32} (hdg : decode code pc = .ok (.iaload, 1)) (hin : ixo i L)
    (kk : W p l e room_1 s m #[Value.ref b] below meth c H locs cells slots Q (F0 m (pc + 1) ls (.int (xs i.toNatClampNeg) :: rest))) : W p l e room_1 s m #[Value.ref b] below meth c H locs cells slots Q (F0 m pc ls (.int i :: .ref b :: rest)) := by
  obtain ⟨⟨scr, h1, h2, h3, h4, h5⟩, hb⟩ := hS
  have hlt : i.toNatClampNeg < L := Nat.not_le.mp fun q => hin (Or.inr q)
  exact W.iald (v := .int (xs i.toNatClampNeg)) C.1.1 C.1.2.1 (by rw [hH.2.1 b hb]; exact h1) h2 h3 (by rw [h4]; exact hin) (h5 _ hlt) rfl rfl hdg kk
theorem V_lawret {rr : (Int32 ⊕ Ex) × Hp} {v : Int32} (C : CX p l room_1 s m #[Value.ref b] meth c D s.heap code own nL ret et F X) (hH : HP D s.heap h H) (hL : LO s.heap locs) (hok : rr.1 = .inl 1) (hrun : (some (.inl v, h) : Rt Int32) = some rr) (hdg : decode code pc = .ok (.ireturn, 1)) :
    W p l e room_1 s m #[Value.ref b] below meth c H locs cells slots (lw_Z below #[Value.ref b] s) (F0 m pc ls [.int v]) := by
  obtain ⟨g1, g2⟩ := hH.room
  cases hrun
  have hv : v = 1 := Sum.inl.inj hok
  subst hv
  exact W.re 1200144 5496058 (by omega) (by omega) (va_forget hL (lw_ret C.1.1 C.1.2.1 C.2.1.1 C.2.1.2.1 hdg))
end VR9

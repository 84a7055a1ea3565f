/-! the law from its entry: printed by wip/gen/mk600.py -/
section LS
theorem ls_arr {U : State} {ty : FieldType} {A : Array Value} (h : (Cond.arrayClass ty).before A U = true) (hn : ∀ C, ty ≠ .object C) (hn2 : ∀ t, ty ≠ .array t) : ∃ cA : ClassId, ArrOfT U cA ty ∧ va_RA U cA ty := by
  obtain ⟨cA, kA, comp, h1, h2, h3⟩ := Cond.arrayClass_spec h
  refine ⟨cA, fun n z => ⟨(fun k h => by cases h), kA, h2, comp, h3⟩, ?_⟩
  cases ty with
  | object C => exact absurd rfl (hn C)
  | _ => exact h1
theorem ls_arrO {U : State} {C : String} {A : Array Value} (h : (Cond.arrayOver (.object C)).before A U = true) : ∃ cA : ClassId, ArrOfT U cA (.object C) ∧ va_RA U cA (.object C) := by
  obtain ⟨comp, cA, kA, h1, h2, h3, h4, h5⟩ := Cond.arrayOver_spec h
  exact ⟨cA, fun n z => ⟨(fun k h => by cases h), kA, h3, comp, h4⟩, kA, comp, h3, h4, h1, h5⟩
theorem ls_arrA {U : State} {t : FieldType} {A : Array Value} (h : (Cond.arrayOver (.array t)).before A U = true) : ∃ cA : ClassId, ArrOfT U cA (.array t) ∧ va_RA U cA (.array t) := by
  obtain ⟨comp, cA, kA, h1, h3, h4, h5⟩ := Cond.arrayOver_specA h
  exact ⟨cA, fun n z => ⟨(fun k h => by cases h), kA, h3, comp, h4⟩, h5⟩
theorem ls_fw : ∀ t ∈ fwL, (Cond.declares t.2.1) ∈ lw_tbl ∧ (Cond.interfaceMethod t.2.1.cls t.2.1.cls t.2.1.name t.2.1.desc) ∈ lw_tbl ∧ (Cond.publicMethod t.2.2) ∈ lw_tbl ∧ (Cond.unhidden t.1 t.2.1.name t.2.1.desc) ∈ lw_tbl ∧ (Cond.castable t.1 t.2.1.cls) ∈ lw_tbl := by decide +kernel
theorem ls_nc : ∀ t ∈ ncL, (Cond.not (.castable t.1 t.2)) ∈ flatC (Jvm.Cond.and given_1 narrow_1) := by decide +kernel
theorem ls_nb : ∀ C ∈ nbL, (Cond.landsInDefault C cmpN cmpN) ∈ flatC (Jvm.Cond.and given_1 narrow_1) := by decide +kernel
theorem lid_any {C : String} {x y : MethodName} {u : State} {A : Array Value} (h : (Cond.landsInDefault C x y).before A u = true) : (Cond.landsInDefault C x y).before #[] u = true := by
  have hvm : u.vm.Alike u.vm := (State.WarmedH.refl u).alike
  have h1 : (Cond.landsInDefault C x y).before #[] (u.setVm u.vm) = true := (Cond.landsInDefault_setVm hvm (State.methodFound?_setVm hvm _ _ _)).trans h
  exact h1
theorem ls_TB {p : Program} {s : State} {m : MethodId} {meth : Method} {c : Code} {b L : Nat} {xs : Nat → Int32} (C0 : lw_At p s m meth c b L xs) : ∃ D : va_G, TB D s.heap s ∧ D.1 200 < s.heap.size := by
  obtain ⟨-, -, -, -, -, hts, -, -, -, hgv⟩ := C0
  have hg := flat_of_before _ hgv
  have hA : ∀ a : Nat, a < s.heap.size → ¬ oA s.heap a := fun a h q => absurd (show s.heap.size ≤ a from q) (by omega)
  have hall : ∀ w ∈ lw_all, w.before #[Value.ref b] s = true := fun w h => hts w (lw_all_tbl h)
  obtain ⟨d0, i0, k0⟩ := u_known (T := TX1) (N := 19) hall in_X1 (hall _ q108)
  obtain ⟨d1, i1, k1⟩ := u_known (T := TX2) (N := 2) hall in_X2 (hall _ q116)
  obtain ⟨d2, i2, k2⟩ := u_known (T := TX3) (N := 6) hall in_X3 (hall _ q160)
  obtain ⟨d3, i3, k3⟩ := u_known (T := TX4) (N := 29) hall in_X4 (hall _ q1827)
  obtain ⟨d4, i4, k4⟩ := u_known (T := TX5) (N := 22) hall in_X5 (hall _ q594)
  obtain ⟨d5, i5, k5⟩ := u_known (T := TX6) (N := 22) hall in_X6 (hall _ q1980)
  obtain ⟨d6, i6, k6⟩ := u_known (T := TX7) (N := 4) hall in_X7 (hall _ q908)
  obtain ⟨d7, i7, k7⟩ := u_known (T := TX8) (N := 6) hall in_X8 (hall _ q1329)
  obtain ⟨d8, i8, k8⟩ := u_known (T := TX9) (N := 5) hall in_X9 (hall _ q2212)
  obtain ⟨d9, i9, k9⟩ := u_known (T := TX10) (N := 6) hall in_X10 (hall _ q1393)
  obtain ⟨d10, i10, k10⟩ := u_known (T := TOb) (N := 1) hall in_Ob (hall _ q1440)
  obtain ⟨d11, i11, k11⟩ := u_known (T := TX12) (N := 13) hall in_X12 (hall _ q1534)
  obtain ⟨d12, i12, k12⟩ := u_known (T := TX13) (N := 10) hall in_X13 (hall _ q2308)
  obtain ⟨d13, i13, k13⟩ := u_known (T := TX14) (N := 4) hall in_X14 (hall _ q1715)
  obtain ⟨d14, i14, k14⟩ := u_known (T := TX15) (N := 4) hall in_X15 (hall _ q2446)
  obtain ⟨d15, i15, k15⟩ := u_known (T := TX16) (N := 4) hall in_X16 (hall _ q1748)
  obtain ⟨d16, i16, k16⟩ := u_known (T := TX17) (N := 3) hall in_X17 (hall _ q2475)
  obtain ⟨d17, i17, k17⟩ := u_known (T := TJ2) (N := 3) hall in_J2 (hall _ q122)
  obtain ⟨d18, i18, k18⟩ := u_known (T := TJ16) (N := 4) hall in_J16 (hall _ q322)
  obtain ⟨d101, a101⟩ := ls_arr (ty := .int) (hall _ q194) (by simp) (by simp)
  obtain ⟨d102, a102⟩ := ls_arr (ty := .long) (hall _ q195) (by simp) (by simp)
  have hao : (Cond.arrayOver (.object "java/lang/Object")).before #[Value.ref b] s = true := hts _ (by decide +kernel)
  have hai : (Cond.arrayOver (.array .int)).before #[Value.ref b] s = true := hts _ (by decide +kernel)
  obtain ⟨d103, a103⟩ := ls_arrO hao
  obtain ⟨d104, a104⟩ := ls_arrA hai
  obtain ⟨mi, hmi⟩ := va_Mi.of (hg (Cond.isRef (.mirror "[Ljava/lang/Object;")) (by decide +kernel))
  obtain ⟨t, ht, hT⟩ := va_Tof (f := fun _ => .null) (A := oA s.heap) (N := 0) (by decide) (hg (Cond.arrayOf (Term.static "java/util/ArrayList" "DEFAULTCAPACITY_EMPTY_ELEMENTDATA" "[Ljava/lang/Object;") (.object "java/lang/Object")) (by decide +kernel)) (va_eqt (hg (Cond.eq (Term.length (Term.static "java/util/ArrayList" "DEFAULTCAPACITY_EMPTY_ELEMENTDATA" "[Ljava/lang/Object;")) (Term.int 0)) (by decide +kernel))) (fun j h => absurd h (Nat.not_lt_zero j)) hA
  have hZ := va_Zof (A := oA s.heap) (hts _ (by decide +kernel)) (hts _ (by decide +kernel)) ht hA
  have hU : vx_Zq Bundle.tN "UNASSIGNED_STACK" Bundle.steD (oA s.heap) s s.heap := vx_Zqof (hts _ (by decide +kernel)) (hts _ (by decide +kernel)) (hg (Cond.isRef (Term.static "java/lang/Throwable" "UNASSIGNED_STACK" "[Ljava/lang/StackTraceElement;")) (by decide +kernel)) hA
  have hN : vx_Zq Bundle.tN "SUPPRESSED_SENTINEL" Bundle.listD (oA s.heap) s s.heap := vx_Zqof (hts _ (by decide +kernel)) (hts _ (by decide +kernel)) (hg (Cond.isRef (Term.static "java/lang/Throwable" "SUPPRESSED_SENTINEL" "Ljava/util/List;")) (by decide +kernel)) hA
  refine ⟨(fun k => match k with | 0 => d0 | 1 => d1 | 2 => d2 | 3 => d3 | 4 => d4 | 5 => d5 | 6 => d6 | 7 => d7 | 8 => d8 | 9 => d9 | 10 => d10 | 11 => d11 | 12 => d12 | 13 => d13 | 14 => d14 | 15 => d15 | 16 => d16 | 17 => d17 | 18 => d18 | 101 => d101 | 102 => d102 | 103 => d103 | 104 => d104 | 200 => t | 201 => mi | _ => 0, fun k => match k with | 0 => i0 | 1 => i1 | 2 => i2 | 3 => i3 | 4 => i4 | 5 => i5 | 6 => i6 | 7 => i7 | 8 => i8 | 9 => i9 | 10 => i10 | 11 => i11 | 12 => i12 | 13 => i13 | 14 => i14 | 15 => i15 | 16 => i16 | 17 => i17 | 18 => i18 | _ => fun _ => 0), ⟨⟨fun c q hq => ?_, fun k q hq => ?_⟩, fun w hw g => ?_, fun t9 h9 => ?_, hao, hZ, hT, hU, hN, hmi, fun t9 h9 => va_Nc.of (hg _ (ls_nc t9 h9)), fun C9 h9 => lid_any (hg _ (ls_nb C9 h9)), hai⟩, ?_⟩
  · match c, hq with
    | 0, hq => cases hq; exact k0
    | 1, hq => cases hq; exact k1
    | 2, hq => cases hq; exact k2
    | 3, hq => cases hq; exact k3
    | 4, hq => cases hq; exact k4
    | 5, hq => cases hq; exact k5
    | 6, hq => cases hq; exact k6
    | 7, hq => cases hq; exact k7
    | 8, hq => cases hq; exact k8
    | 9, hq => cases hq; exact k9
    | 10, hq => cases hq; exact k10
    | 11, hq => cases hq; exact k11
    | 12, hq => cases hq; exact k12
    | 13, hq => cases hq; exact k13
    | 14, hq => cases hq; exact k14
    | 15, hq => cases hq; exact k15
    | 16, hq => cases hq; exact k16
    | 17, hq => cases hq; exact k17
    | 18, hq => cases hq; exact k18
    | n + 19, hq => exact absurd hq (by simp [vwCl])
  · match k, hq with
    | 0, hq => cases hq; exact a101
    | 1, hq => cases hq; exact a102
    | 2, hq => cases hq; exact a103
    | 3, hq => cases hq; exact a104
    | n + 4, hq => exact absurd hq (by simp [aTys])
  · have h9 := hts w hw
    cases w <;> first | (exact absurd g Bool.false_ne_true) | exact va_Nw.of rfl h9
  · obtain ⟨g1, g2, g3, g4, g5⟩ := ls_fw t9 h9
    exact va_Fw.of (hts _ g1) (hts _ g2) (hts _ g3) (hts _ g4) (hts _ g5)
  · obtain ⟨cell, h1, -⟩ := hT
    exact (Array.getElem?_eq_some_iff.mp h1).1
/-- the heap of the law's start, as the pictures see it -/
def h0_ (Hs : Heap) (t mi : Nat) : Hp := (fun _ => 0, fun _ => 0, fun _ _ => 0, fun _ _ => 0, fun _ _ => 0, fun _ _ => 0, fun _ _ => 0, fun _ _ => 0, Hs.size, tot Hs, Hs.size + 1200144, tot Hs + 5496058, t + 1, mi + 1)
theorem ls_HP {D : va_G} {Hs : Heap} (h : D.1 200 < Hs.size) : HP D Hs (h0_ Hs (D.1 200) (D.1 201)) Hs := by
  have e1 : kza (h0_ Hs (D.1 200) (D.1 201)) = Hs.size + 1200144 := by simp only [h0_, kza]
  have e2 : ksa (h0_ Hs (D.1 200) (D.1 201)) = tot Hs + 5496058 := by simp only [h0_, ksa]
  have e3 : kz (h0_ Hs (D.1 200) (D.1 201)) = Hs.size := by simp only [h0_, kz]
  have e4 : ks (h0_ Hs (D.1 200) (D.1 201)) = tot Hs := by simp only [h0_, ks]
  refine ⟨⟨e3, Nat.le_of_eq e4.symm, by rw [e3, e1]; exact Nat.le_add_right _ _, by rw [e4, e2]; exact Nat.le_add_right _ _, e1, e2, Nat.le_refl _⟩, fun q _ => rfl, fun n hn => absurd rfl hn, rfl, rfl, rfl, h, rfl⟩
theorem start_of {p : Program} {e : Env} {s : State} {m : MethodId} {below : List Frame} {meth : Method} {c : Code} (l : Launch) (hflags : l.flags = flags0) {b L : Nat} {xs : Nat → Int32} (hL : L ≤ 120) (C0 : lw_At p s m meth c b L xs) (pure : ∀ (sz to t mi : Nat), t < sz → ∃ h1, f_L_law L xs () (fun _ => 0, fun _ => 0, fun _ _ => 0, fun _ _ => 0, fun _ _ => 0, fun _ _ => 0, fun _ _ => 0, fun _ _ => 0, sz, to, sz + 1200144, to + 5496058, t + 1, mi + 1) = some (.inl 1, h1)) : W p l e room_1 s m #[Value.ref b] below meth c s.heap [] 0 0 (lw_Z below #[Value.ref b] s) (entryFrame m ([Value.ref b] : List Value).toArray 9) := by
  obtain ⟨D, hT, ht⟩ := ls_TB C0
  obtain ⟨c1, c2, c3, c4, c5, hts, hX, hbl, c9, hgv⟩ := C0
  obtain ⟨h1, hrun⟩ := pure s.heap.size (tot s.heap) (D.1 200) (D.1 201) ht
  have hall : ∀ w ∈ lw_all, w.before #[Value.ref b] s = true := fun w h => hts w (lw_all_tbl h)
  have hl9 : l.stackTraces = false := by
    unfold Launch.stackTraces
    rw [hflags]
    decide
  have C : CX p l room_1 s m #[Value.ref b] meth c D s.heap cL_law "MassclaimLaw" 9 ret (c.exceptionTable.toList.map fun z => (z.startPc, z.endPc, z.handlerPc, z.catchType)) 8192 104096 := by
    refine ⟨⟨c1, c2, c4, c5, hall⟩, ⟨c3, c9, hl9, hT, ?_⟩, ?_, Nat.le_refl _, Nat.le_add_right _ _, Nat.le_add_right _ _, fun q _ => rfl⟩
    · show c.exceptionTable.toList = tableOf (c.exceptionTable.toList.map fun z => (z.startPc, z.endPc, z.handlerPc, z.catchType))
      simp [tableOf, Function.comp_def]
    · rw [Nat.add_sub_cancel_left, Nat.add_sub_cancel_left]
      rfl
  rw [lg_entry_eq]
  have hl := lv_entry [Value.ref b] (n := 9) (Nat.le_of_ble_eq_true rfl)
  exact b_L_law C rfl ⟨hX, hbl⟩ () _ s.heap [] 0 0 _ (ls_HP ht) (fun _ q => nomatch q) hl hrun
end LS

/-! ROWS over the abstract heap, 6: what the printed walks use besides -/
theorem vl_at {α β : Type} {x : α} {k : α → Option β} {r : β} (h : vl x k = some r) : ∀ y, y = x → k y = some r := by
  intro y hy
  rw [hy]
  exact h
theorem cat_i (x : Int32) : (Value.int x).category = 1 := rfl
theorem cat_l (x : Int64) : (Value.long x).category = 2 := rfl
theorem cat_f (x : UInt32) : (Value.float x).category = 1 := rfl
theorem cat_d (x : UInt64) : (Value.double x).category = 2 := rfl
def bdN {α β : Type} (x : Rt α) (k : α → Hp → Rt β) : Rt β := match x with
  | some (.inl a, h) => k a h
  | _ => none
theorem bdN_l {α β : Type} (a : α) (h : Hp) (k : α → Hp → Rt β) : bdN (some (.inl a, h)) k = k a h := rfl
/-- the classes that are Numbered -/
abbrev isN (c : Nat) : Prop := c = 5 ∨ c = 7 ∨ c = 8 ∨ c = 12 ∨ c = 16
/-- System.arraycopy between arrays of references -/
def ac_ {β : Type} (h : Hp) (a : Nat) (sp : Int32) (b : Nat) (dp n : Int32) (k : Hp → Option β) : Option β :=
  gd (kC h a = 103 ∧ kC h b = 103 ∧ ¬ sp < 0 ∧ ¬ dp < 0 ∧ ¬ n < 0 ∧ sp.toNatClampNeg + n.toNatClampNeg ≤ kN h a ∧ dp.toNatClampNeg + n.toNatClampNeg ≤ kN h b ∧ ∀ i, i < n.toNatClampNeg → (jR h a (sp.toNatClampNeg + i) = 0 ∨ kC h (jR h a (sp.toNatClampNeg + i)) ≠ 0)) (k (cR h a sp.toNatClampNeg b dp.toNatClampNeg n.toNatClampNeg))
/-- new int[n][k] -/
def gF (h : Hp) (n k i : Nat) : Hp := (fun m => if kz h + 1 < m ∧ m ≤ kz h + 1 + i then 101 else if m = kz h + 1 then 104 else kC h m, fun m => if kz h + 1 < m ∧ m ≤ kz h + 1 + i then k else if m = kz h + 1 then n else kN h m, kI h, kL h, kR h, fun m j => if kz h + 1 ≤ m ∧ m ≤ kz h + 1 + i then 0 else jI h m j, jL h, fun m j => if m = kz h + 1 then (if j < i then kz h + 2 + j else 0) else jR h m j, kz h + 1 + i, ks h + n + i * k, kza h, ksa h, kE h, kM h)
def nm_ {β : Type} (h : Hp) (n k : Int32) (K : Nat → Hp → Option β) : Option β :=
  gd (¬ n < 0 ∧ ¬ k < 0 ∧ n.toNatClampNeg ≤ 1000 ∧ k.toNatClampNeg ≤ 1000 ∧ kz h + 1 + n.toNatClampNeg ≤ kza h ∧ ks h + n.toNatClampNeg + n.toNatClampNeg * k.toNatClampNeg ≤ ksa h) (K (kz h + 1) (gF h n.toNatClampNeg k.toNatClampNeg n.toNatClampNeg))
theorem HP.pos {D : va_G} {Hs H : Heap} {h : Hp} {n c : Nat} (hH : HP D Hs h H) (hn : kC h n = c + 1) : n ≠ 0 := by
  have := (hH.2.2.1 n (by omega)).1
  omega
theorem nt_in {L : List Cond} (ps : List Nat) (h1 : L = ps.filterMap (fun i => lw_tbl[i]?)) (h2 : L.all (fun w => goodWord w || nwW w) = true) : ∀ w ∈ L, w ∈ lw_tbl ∧ (goodWord w || nwW w) = true := by
  intro w hw
  refine ⟨?_, List.all_eq_true.mp h2 w hw⟩
  rw [h1] at hw
  obtain ⟨i, -, hi⟩ := List.mem_filterMap.mp hw
  exact List.mem_of_getElem? hi
theorem sw_out {x : Int32} {lo hi : Int} (L : List Int) (h1 : -1000000 ≤ lo) (h2 : hi ≤ 1000000) (h3 : (L.length : Int) = hi - lo + 1 ∧ ∀ i : Nat, i < L.length → L[i]? = some (lo + i)) (h : ∀ k ∈ L, ¬ x.toInt = k) : x.toInt < lo ∨ hi < x.toInt := by
  by_cases q : x.toInt < lo
  · exact Or.inl q
  · by_cases q2 : hi < x.toInt
    · exact Or.inr q2
    · exfalso
      have hlt : (x.toInt - lo).toNat < L.length := by omega
      have h4 := h3.2 _ hlt
      exact h _ (List.mem_of_getElem? h4) (by omega)
theorem sw_ne {x v : Int32} {k : Int} (hv : v.toInt = k) (h : ¬ x = v) : ¬ x.toInt = k := fun q => h (Int32.toInt_inj.mp (q.trans hv.symm))
section VR6
variable {p : Program} {l : Launch} {e : Env} {R : Room} {s : State} {m : MethodId} {args : Array Value} {below : List Frame} {meth : Method} {c : Code} {D : va_G} {Hs H : Heap} {locs : List Loc} {cells slots : Nat} {Q : State → Prop} {cc : ByteArray} {own : String} {nL : Nat} {ret : Option FieldType} {et : List (Nat × Nat × Nat × Nat)} {F X : Nat} {h : Hp} {pc : Nat} {ls : Array Slot} {rest st0 : List Value} {β : Type} {rr : β}
theorem V_topr {x : Nat} (k : ∀ y : Nat, y = x → W p l e R s m args below meth c H locs cells slots Q (F0 m pc ls (rv y :: rest))) : W p l e R s m args below meth c H locs cells slots Q (F0 m pc ls (rv x :: rest)) := k x rfl
theorem V_objInit {n : Nat} {idx : Nat} (C : CX p l R s m args meth c D Hs cc own nL ret et F X) (q1 : (Cond.methodLink own idx ⟨"java/lang/Object", "<init>", "()V"⟩) ∈ lw_all) (q2 : (Cond.instanceMethod ⟨"java/lang/Object", "<init>", "()V"⟩) ∈ lw_all) (q3 : (Cond.code ⟨"java/lang/Object", "<init>", "()V"⟩ ⟨#[0xb1]⟩ 1 none) ∈ lw_all) (hn : n ≠ 0) (hdg : decode cc pc = .ok (.invokespecial idx, 3)) (hF : 1 ≤ F) (hX : csum rest + 12 ≤ X) (hl : ls.size = nL)
    (kk : W p l e R s m args below meth c H locs cells slots Q (F0 m (pc + 3) ls rest)) : W p l e R s m args below meth c H locs cells slots Q (F0 m pc ls (rv n :: rest)) := by
  obtain ⟨⟨hx, hb, hml, hown, hts⟩, -, hR, -⟩ := C
  rw [rv_pos hn]
  refine W.objInit hx hb hown (hts _ q1) (hts _ q2) (hts _ q3) rfl (hl.trans hml.symm) rfl hdg (by rw [hR]; exact hF) (by rw [hR]; show 2 * 0 + _ + 12 ≤ X; simpa using hX) ?_
  exact kk
theorem V_ldcM {idx : Nat} (C : CX p l R s m args meth c D Hs cc own nL ret et F X) (hH : HP D Hs h H) (q1 : (Cond.classLink own idx "[Ljava/lang/Object;") ∈ lw_all) (hdg : decode cc pc = .ok (.ldc idx, 2))
    (kk : W p l e R s m args below meth c H locs cells slots Q (F0 m (pc + 2) ls (rv (kM h) :: rest))) : W p l e R s m args below meth c H locs cells slots Q (F0 m pc ls rest) := by
  obtain ⟨⟨hx, hb, hml, hown, hts⟩, ⟨-, -, -, hT, -⟩, -⟩ := C
  have he : rv (kM h) = .ref (D.1 201) := by rw [hH.2.2.2.2.2.2.2]; rfl
  rw [he] at kk
  exact va_ldcM hx hb hown (hts _ q1) hT.2.2.2.2.2.2.2.2.1 hdg kk
theorem V_getC {n idx : Nat} (C : CX p l R s m args meth c D Hs cc own nL ret et F X) (hH : HP D Hs h H) (q1 : (Cond.methodLink own idx ⟨"java/lang/Object", "getClass", "()Ljava/lang/Class;"⟩) ∈ lw_all) (hn : kC h n = 103) (hdg : decode cc pc = .ok (.invokevirtual idx, 3)) (hF : 1 ≤ F) (hX : csum rest + 14 ≤ X) (hl : ls.size = nL)
    (kk : W p l e R s m args below meth c H locs cells slots Q (F0 m (pc + 3) ls (rv (kM h) :: rest))) : W p l e R s m args below meth c H locs cells slots Q (F0 m pc ls (rv n :: rest)) := by
  obtain ⟨⟨hx, hb, hml, hown, hts⟩, ⟨-, -, -, hT, -⟩, hR, -⟩ := C
  have he : rv (kM h) = .ref (D.1 201) := by rw [hH.2.2.2.2.2.2.2]; rfl
  obtain ⟨h0, -, hc⟩ := hH.arr hn (by decide)
  rw [rv_pos h0]
  rw [he] at kk
  obtain ⟨kA, comp, k1, k2, k3, k4⟩ := (hT.1.2 2 _ rfl).2
  exact va_getC hx hb (hml.trans hl.symm) hown (hts _ q1) (va_Nw.use rfl (hT.2.1 _ q2590 rfl)) (hts _ q2589) (hts _ q750) (hts _ q777) hT.2.2.2.2.2.2.2.2.1 ⟨_, hc, rfl, k4⟩ (by rw [hR]; exact hF) (by rw [hR]; exact hX) hdg kk
theorem V_castX {n ci idx : Nat} {r : vw_C} (C : CX p l R s m args meth c D Hs cc own nL ret et F X) (hH : HP D Hs h H) (hr : vwCl[ci]? = some r) (h99 : ci < 99) (hw : (Cond.classLink own idx r.1) ∈ lw_all) (hdg : decode cc pc = .ok (.checkcast idx, 3)) (hn : n = 0 ∨ kC h n = ci + 1)
    (kk : W p l e R s m args below meth c H locs cells slots Q (F0 m (pc + 3) ls (rv n :: rest))) : W p l e R s m args below meth c H locs cells slots Q (F0 m pc ls (rv n :: rest)) := by
  rcases hn with rfl | hn
  · exact V_castN C hdg kk
  · exact V_castS C hH hr h99 hw hdg hn kk
theorem V_castNum {n idx : Nat} (C : CX p l R s m args meth c D Hs cc own nL ret et F X) (hH : HP D Hs h H) (hw : (Cond.classLink own idx "Massclaim$Numbered") ∈ lw_all) (hdg : decode cc pc = .ok (.checkcast idx, 3)) (hn : isN (kC h n))
    (kk : W p l e R s m args below meth c H locs cells slots Q (F0 m (pc + 3) ls (rv n :: rest))) : W p l e R s m args below meth c H locs cells slots Q (F0 m pc ls (rv n :: rest)) := by
  rcases hn with hn | hn | hn | hn | hn
  · exact V_castY (ci := 4) C hH rfl (by decide) hw q814 hdg hn kk
  · exact V_castY (ci := 6) C hH rfl (by decide) hw q820 hdg hn kk
  · exact V_castY (ci := 7) C hH rfl (by decide) hw q802 hdg hn kk
  · exact V_castY (ci := 11) C hH rfl (by decide) hw q796 hdg hn kk
  · exact V_castY (ci := 15) C hH rfl (by decide) hw q808 hdg hn kk
theorem nc_at {E1 E2 : String} (C : CX p l R s m args meth c D Hs cc own nL ret et F X) (h : (E1, E2) ∈ ncL) : va_Nc E1 E2 s := C.2.1.2.2.2.1.2.2.2.2.2.2.2.2.2.1 (E1, E2) h
theorem V_fraw {idx : Nat} {b : UInt32} (C : CX p l R s m args meth c D Hs cc own nL ret et F X) (q1 : (Cond.methodLink own idx ⟨"java/lang/Float", "floatToRawIntBits", "(F)I"⟩) ∈ lw_all) (hdg : decode cc pc = .ok (.invokestatic idx, 3)) (hF : 1 ≤ F) (hX : csum rest + 15 ≤ X) (hl : ls.size = nL)
    (kk : W p l e R s m args below meth c H locs cells slots Q (F0 m (pc + 3) ls (.int b.toInt32 :: rest))) : W p l e R s m args below meth c H locs cells slots Q (F0 m pc ls (.float b :: rest)) := by
  obtain ⟨⟨hx, hb, hml, hown, hts⟩, -, hR, -⟩ := C
  exact vn_f2i hx hb (hml.trans hl.symm) hown (hts _ q1) (hts _ q436) (hts _ q435) (hts _ q106) (by rw [hR]; exact hF) (by rw [hR]; exact hX) hdg kk
theorem V_bdN {α : Type} {inj : α → Option Value} {γ : Type} {rr : (γ ⊕ Ex) × Hp} {f : Rt α} {K : α → Hp → Rt γ} (hL : LO Hs locs) (hrun : bdN f K = some rr)
    (hr : ∀ rr1, f = some rr1 → ZRun p l e R s m args below meth c D Hs H locs (F0 m pc ls st0) rest inj rr1)
    (kk : ∀ (a : α) (h1 : Hp) (H1 : Heap) (locs1 : List Loc) (cells1 slots1 : Nat), HP D Hs h1 H1 → LO Hs locs1 → K a h1 = some rr → W p l e R s m args below meth c H1 locs1 cells1 slots1 Q (F0 m (pc + 3) ls ((inj a).toList ++ rest))) :
    W p l e R s m args below meth c H locs cells slots Q (F0 m pc ls st0) := by
  match f, hrun, hr with
  | none, hrun, _ => cases hrun
  | some (.inl a, h1), hrun, hr =>
    refine V_after (g := F0 m pc ls st0) (hr _ rfl) hL (fun a' H1 locs1 cells1 slots1 ha hH hL => ?_) (fun x q ce H1 locs1 cells1 slots1 hx => by cases hx)
    cases ha
    exact kk a h1 H1 locs1 _ _ hH hL hrun
  | some (.inr ex, h1), hrun, hr => cases hrun
/-- a method's contract out of the walk of its body -/
theorem CM.of {α : Type} {inj : α → Option Value} {rr : (α ⊕ Ex) × Hp} {y : MethodName} {lv : List (Nat × Value)} {As : List Value} (hy : plainFor y = true) (hl9 : l.stackTraces = false) (hlv : lv_args 0 As = lv) (hsz : (lg_sl As).length ≤ nL)
    (body : ∀ p e R s m args below meth c H ls, CX p l R s m args meth c D Hs cc y.cls nL ret [] F X → HP D Hs h H → lv_has ls nL lv → meth.name = y.name → W p l e R s m args below meth c H [] 0 0 (ZM D Hs inj rr below args s) (F0 m 0 ls [])) : CM l y (ws_ y cc nL ret) F X inj As D Hs h rr := by
  intro sz to hs1 hs2
  refine vx_ofW (cc := cc) (maxL := nL) (ret := ret) hy rfl ?_
  intro p e s m args below meth c s₁ B hml ht hv
  obtain ⟨rfl, g1, g2, hT, hH⟩ := hv
  have hts := atoms_spec (ws := ws_ y cc nL ret) B.pre
  have hts : ∀ w ∈ lw_all, w.before As.toArray s = true := fun w h => hts w (List.mem_cons_of_mem _ h)
  have hown : s.vm.findClass y.cls = some m.cls := findClass_of_methodNamed B.named
  obtain ⟨⟨a1, a2, a3, a4, a5, a6, a7⟩, b1, -⟩ := id hH
  have het : c.exceptionTable.toList = tableOf [] := by
    cases he : c.exceptionTable.toList with
    | nil => rfl
    | cons z t => exact absurd (by rw [he]; exact List.mem_cons_self) (fun q => ht z q)
  have C : CX p l (headSpec (ws_ y cc nL ret) { frames := F, cells := Hs.size + 1200144 - sz, slots := tot Hs + 5496058 - to, locals := X }).room s m As.toArray meth c D Hs cc y.cls nL ret [] F X := by
    refine ⟨⟨B.exec, B.bytes, hml, hown, hts⟩, ⟨B.returns, B.notSynchronized, hl9, hT, het⟩, ?_, a7, by omega, by omega, b1⟩
    rw [g1, g2]
    rfl
  rw [lg_entry_eq]
  have hl := lv_entry As (n := nL) hsz
  rw [hlv] at hl
  have h9 := body p e _ s m As.toArray below meth c s.heap _ C hH hl (name_of_methodNamed B.named B.method).1
  subst g1
  subst g2
  exact h9
theorem CM.ofH {α : Type} {inj : α → Option Value} {rr : (α ⊕ Ex) × Hp} {y : MethodName} {lv : List (Nat × Value)} {As : List Value} (hy : plainFor y = true) (hl9 : l.stackTraces = false) (hlv : lv_args 0 As = lv) (hsz : (lg_sl As).length ≤ nL)
    (body : ∀ p e R s m args below meth c H ls, CX p l R s m args meth c D Hs cc y.cls nL ret et F X → HP D Hs h H → lv_has ls nL lv → meth.name = y.name → W p l e R s m args below meth c H [] 0 0 (ZM D Hs inj rr below args s) (F0 m 0 ls [])) : CM l y (wsW_ y cc nL ret et) F X inj As D Hs h rr := by
  intro sz to hs1 hs2
  refine vx_ofWH (cc := cc) (maxL := nL) (ret := ret) (hh := et) hy rfl ?_
  intro p e s m args below meth c s₁ B hml hv
  obtain ⟨rfl, g1, g2, hT, hH⟩ := hv
  have hts0 := atoms_spec (ws := wsW_ y cc nL ret et) B.pre
  have hts : ∀ w ∈ lw_all, w.before As.toArray s = true := fun w h => hts0 w (List.mem_cons_of_mem _ h)
  have hown : s.vm.findClass y.cls = some m.cls := findClass_of_methodNamed B.named
  obtain ⟨⟨a1, a2, a3, a4, a5, a6, a7⟩, b1, -⟩ := id hH
  have het : c.exceptionTable.toList = tableOf et := vx_table (x := y) B (hts0 _ List.mem_cons_self)
  have C : CX p l (headSpec (wsW_ y cc nL ret et) { frames := F, cells := Hs.size + 1200144 - sz, slots := tot Hs + 5496058 - to, locals := X }).room s m As.toArray meth c D Hs cc y.cls nL ret et F X := by
    refine ⟨⟨B.exec, B.bytes, hml, hown, hts⟩, ⟨B.returns, B.notSynchronized, hl9, hT, het⟩, ?_, a7, by omega, by omega, b1⟩
    rw [g1, g2]
    rfl
  rw [lg_entry_eq]
  have hl := lv_entry As (n := nL) hsz
  rw [hlv] at hl
  have h9 := body p e _ s m As.toArray below meth c s.heap _ C hH hl (name_of_methodNamed B.named B.method).1
  subst g1
  subst g2
  exact h9
end VR6

/-! ROWS over the abstract heap, 3: making cells, calls, the ends of a method -/
section VR3
variable {p : Program} {l : Launch} {e : Env} {R : Room} {s : State} {m : MethodId} {args : Array Value} {below : List Frame} {meth : Method} {c : Code} {D : va_G} {Hs H : Heap} {locs : List Loc} {cells slots : Nat} {Q : State → Prop} {cc : ByteArray} {own : String} {nL : Nat} {ret : Option FieldType} {et : List (Nat × Nat × Nat × Nat)} {F X : Nat} {h : Hp} {pc : Nat} {ls : Array Slot} {rest : List Value} {β : Type} {rr : β}
/-- cells and slots exact -/
theorem W.ex {g : JFrame} (kk : s.heap.size ≤ H.size → tot s.heap ≤ tot H → W p l e R s m args below meth c H locs (H.size - s.heap.size) (tot H - tot s.heap) Q g) : W p l e R s m args below meth c H locs cells slots Q g := by
  intro T hT X
  have h1 : s.heap.size ≤ T.heap.size := X.same.2.1
  have h3 : tot T.heap = tot s.heap + ((T.heap.toList.drop s.heap.size).map (·.slots.size)).sum := tot_drop h1 (fun q c0 hc => by
    obtain ⟨c1, g1, -, g3, -⟩ := X.same.2.2.2.2.2 q c0 hc
    exact ⟨c1, g1, g3⟩)
  rw [hT] at h1 h3
  exact W.re (H.size - s.heap.size) (tot H - tot s.heap) (by omega) (by omega) (kk h1 (by omega)) T hT X
/-- a new cell in the picture: the old ones stay -/
theorem HP.push {h1 : Hp} {H1 : Heap} {cell : Cell} {N : Nat} (hH : HP D Hs h H) (h0 : H1[H.size]? = some cell) (z : H1.size = H.size + 1) (oq : ∀ q, q < H.size → H1[q]? = H[q]?) (hN : cell.slots.size ≤ N) (hlim : kz h + 1 ≤ kza h ∧ ks h + N ≤ ksa h)
    (e1 : ∀ n, n ≠ kz h + 1 → kC h1 n = kC h n) (e2 : ∀ n, n ≠ kz h + 1 → kN h1 n = kN h n) (e3 : ∀ n ci k, n ≠ kz h + 1 → fvl h1 ci k n = fvl h ci k n) (e4 : ∀ n c j, n ≠ kz h + 1 → avl h1 c n j = avl h c n j) (e5 : kz h1 = kz h + 1) (e6 : ks h1 = ks h + N) (e7 : kza h1 = kza h) (e8 : ksa h1 = ksa h) (e9 : (kE h1, kM h1) = (kE h, kM h))
    (hc : kC h1 (kz h + 1) ≠ 0 → cat_ D h1 (kz h + 1) H1) : HP D Hs h1 H1 := by
  obtain ⟨⟨a1, a2, a3, a4, a5, a6, a7⟩, b1, b2, b3⟩ := hH
  have ht : tot H1 = tot H + cell.slots.size := by
    have h9 : tot H1 = tot (H.push cell) := by
      refine tot_same (by simp [z]) (fun q c0 hq => ?_)
      rw [Array.getElem?_push] at hq
      by_cases hqs : q = H.size
      · subst hqs
        rw [if_pos rfl] at hq
        cases hq
        exact ⟨_, h0, rfl⟩
      · rw [if_neg hqs] at hq
        exact ⟨c0, by rw [oq q (Array.getElem?_eq_some_iff.mp hq).1]; exact hq, rfl⟩
    rw [h9, tot_push]
  refine ⟨⟨by rw [e5, z, a1], by rw [e6, ht]; omega, by rw [e5, e7]; exact hlim.1, by rw [e6, e8]; exact hlim.2, by rw [e7]; exact a5, by rw [e8]; exact a6, by omega⟩, fun q hq => by rw [oq q (by omega)]; exact b1 q hq, fun n hn => ?_, ?_⟩
  · by_cases hk : n = kz h + 1
    · subst hk
      exact ⟨by omega, by omega, hc hn⟩
    · rw [e1 n hk] at hn
      obtain ⟨g1, g2, g3⟩ := b2 n hn
      refine ⟨g1, by omega, g3.congr (oq _ (by omega)) (e1 n hk) (e2 n hk) (fun ci k => e3 n ci k hk) (fun c j => e4 n c j hk)⟩
  · have hk : kE h ≠ kz h + 1 := by omega
    obtain ⟨e9, e10⟩ := Prod.mk.inj e9
    rw [e9, e10, e1 _ hk, e2 _ hk]
    exact b3
theorem fvl_oN {cd N m ci k : Nat} (hm : m ≠ kz h + 1) : fvl (oN h cd N) ci k m = fvl h ci k m := by
  simp [fvl, kI_oN, kL_oN, kR_oN, hm]
theorem avl_oN {cd N m c j : Nat} : avl (oN h cd N) c m j = avl h c m j := by
  unfold avl
  rw [jI_oN, jL_oN, jR_oN]
theorem fvl_aN {cd N m ci k : Nat} : fvl (aN h cd N) ci k m = fvl h ci k m := by
  simp [fvl, kI_aN, kL_aN, kR_aN]
theorem avl_aN {cd N m c j : Nat} (hm : m ≠ kz h + 1) : avl (aN h cd N) c m j = avl h c m j := by
  unfold avl
  simp [jI_aN, jL_aN, jR_aN, hm]
theorem fvl_bN {N m ci k : Nat} : fvl (bN h N) ci k m = fvl h ci k m := by
  simp [fvl, kI_bN, kL_bN, kR_bN]
theorem avl_bN {N m c j : Nat} : avl (bN h N) c m j = avl h c m j := by
  unfold avl
  rw [jI_bN, jL_bN, jR_bN]
theorem HP.size {D : va_G} (hH : HP D Hs h H) : kz h = H.size := hH.1.1
theorem HP.room {D : va_G} (hH : HP D Hs h H) : H.size ≤ Hs.size + 1200144 ∧ tot H ≤ tot Hs + 5496058 := by
  obtain ⟨⟨a1, a2, a3, a4, a5, a6, a7⟩, -⟩ := hH
  exact ⟨by omega, by omega⟩
/-- what the tables say of a 'new' -/
def NL (own : String) (idx ci n : Nat) : Prop := ∃ (Cn : String) (T : u_T) (N : Nat) (ty : Nat → FieldType), vwCl[ci]? = some (Cn, T, N) ∧ ci < 99 ∧ (∀ w ∈ u_ws Cn T N, w ∈ lw_all) ∧ (∀ j, j < N → parseFieldDescriptor (T j).2.2.1 = some (ty j)) ∧ (∀ j, j < N → defaultValue (ty j) = if fk ci j = 0 then .int 0 else if fk ci j = 1 then .long 0 else .null) ∧ (Cond.classLink own idx Cn) ∈ lw_all ∧ (Cond.instantiable Cn n) ∈ lw_all ∧ (Cond.initialized Cn) ∈ lw_all
theorem V_new {idx ci n : Nat} {K : Nat → Hp → Option β} (C : CX p l R s m args meth c D Hs cc own nL ret et F X) (hH : HP D Hs h H) (hf : NL own idx ci n) (hdg : decode cc pc = .ok (.new idx, 3)) (hrun : nw h (ci + 1) n K = some rr)
    (kk : ∀ (q : Nat) (h1 : Hp) (H1 : Heap) (cells1 slots1 : Nat), HP D Hs h1 H1 → K q h1 = some rr → W p l e R s m args below meth c H1 locs cells1 slots1 Q (F0 m (pc + 3) ls (rv q :: rest))) : W p l e R s m args below meth c H locs cells slots Q (F0 m pc ls rest) := by
  obtain ⟨⟨hx, hb, hml, hown, hts⟩, ⟨-, -, -, hT, -⟩, hR, r1, r2, r3, r4⟩ := C
  obtain ⟨Cn, T, N, ty, hc, h99, hin, hty, hdf, hcl, hins, hini⟩ := hf
  obtain ⟨hlim, hrun⟩ := gd_some hrun
  have hKn := hT.1.1 ci _ hc
  obtain ⟨g1, g2⟩ := id hH.1
  refine W.ex fun w1 w2 => ?_
  refine W.newcK (hfc := hKn.2.1) hx hb hown (hts _ hcl) (hts _ hins) (hts _ hini) rfl hdg (by rw [hR]; show _ ≤ Hs.size + 1200144 - s.heap.size; omega) (by rw [hR]; show _ ≤ tot Hs + 5496058 - tot s.heap; omega) rfl fun H1 kC' hkC e1 z1 o1 => ?_
  have hinst : (blank (D.1 ci) kC').slots.size ≤ n := by
    obtain ⟨cC, kC2, i1, i2, i3, i4⟩ := Cond.instantiable_spec (hts _ hins)
    cases hKn.2.1.symm.trans i1
    cases hkC.symm.trans i2
    have i5 : kC'.instanceTypes.size = n := by first | exact i4.2 | exact i4.2.1 | exact i4.2.2
    simp [blank, i5]
  have hpos : rv (kz h + 1) = .ref H.size := by rw [← g1]; rfl
  rw [← hpos]
  refine kk _ _ H1 _ _ ?_ hrun
  refine hH.push (h1 := oN h (ci + 1) n) (N := n) e1 z1 o1 hinst hlim (fun m hm => ?_) (fun m _ => rfl) (fun m ci k hm => fvl_oN hm) (fun m c j _ => avl_oN) rfl rfl rfl rfl rfl (fun _ => ⟨fun hl => ?_, fun hl => ?_⟩)
  · rw [kC_oN, if_neg hm]
  · rw [kC_oN, if_pos rfl, Nat.add_sub_cancel, Nat.add_sub_cancel, g1]
    refine ⟨_, hc, (u_born ty hts hin hKn hkC e1 hty).to (fun j hj => ?_)⟩
    rw [hdf j hj]
    simp only [fvl, kI_oN, kL_oN, kR_oN, ← g1, if_true]
    rfl
  · rw [kC_oN, if_pos rfl] at hl
    omega
theorem V_newa {at_ : ArrayType} {cd : Nat} {i : Int32} {K : Nat → Hp → Option β} (C : CX p l R s m args meth c D Hs cc own nL ret et F X) (hH : HP D Hs h H) (hat : (at_ = .int ∧ cd = 101) ∨ (at_ = .long ∧ cd = 102)) (hw : (Cond.arrayClass (newarray.typeOf at_)) ∈ lw_all) (hdg : decode cc pc = .ok (.newarray at_, 2)) (hrun : na h cd i K = some rr)
    (kk : ∀ (q : Nat) (h1 : Hp) (H1 : Heap) (cells1 slots1 : Nat), HP D Hs h1 H1 → K q h1 = some rr → W p l e R s m args below meth c H1 locs cells1 slots1 Q (F0 m (pc + 2) ls (rv q :: rest))) : W p l e R s m args below meth c H locs cells slots Q (F0 m pc ls (.int i :: rest)) := by
  obtain ⟨⟨hx, hb, hml, hown, hts⟩, ⟨-, -, -, hT, -⟩, hR, r1, r2, r3, r4⟩ := C
  obtain ⟨⟨hi, hi2, hlim⟩, hrun⟩ := gd_some hrun
  obtain ⟨g1, g2⟩ := id hH.1
  refine W.ex fun w1 w2 => ?_
  have hby : i.toNatClampNeg * componentBytes (newarray.typeOf at_) ≤ 536870912 := by
    rcases hat with ⟨rfl, -⟩ | ⟨rfl, -⟩
    · have : componentBytes (newarray.typeOf .int) = 4 := by decide
      rw [this]; omega
    · have : componentBytes (newarray.typeOf .long) = 8 := by decide
      rw [this]; omega
  refine W.newa hx hb (hts _ hw) rfl hdg rfl hi hby (by rw [hR]; show _ ≤ Hs.size + 1200144 - s.heap.size; omega) (by rw [hR]; show _ ≤ tot Hs + 5496058 - tot s.heap; omega) fun cA kA comp f1 f2 f3 => ?_
  have hpos : rv (kz h + 1) = .ref H.size := by rw [← g1]; rfl
  rw [← hpos]
  refine kk _ _ _ _ _ ?_ hrun
  refine hH.push (h1 := aN h cd i.toNatClampNeg) (N := i.toNatClampNeg) (cell := { cls := cA, slots := Array.replicate i.toNatClampNeg (defaultValue (newarray.typeOf at_)), vm := .none }) (by simp) (by simp) (fun q hq => by rw [Array.getElem?_push, if_neg (by omega)]) (by simp) hlim (fun m hm => ?_) (fun m hm => ?_) (fun m ci k hm => fvl_aN) (fun m c j hm => avl_aN hm) rfl rfl rfl rfl rfl (fun _ => ⟨fun hl => ?_, fun hl => ?_⟩)
  · rw [kC_aN, if_neg hm]
  · rw [kN_aN, if_neg hm]
  · rw [kC_aN, if_pos rfl] at hl
    omega
  · rw [kC_aN, if_pos rfl, kN_aN, if_pos rfl, Nat.add_sub_cancel, g1]
    rcases hat with ⟨rfl, rfl⟩ | ⟨rfl, rfl⟩
    · refine ⟨by omega, by omega, ?_⟩
      have hcA : cA = D.1 101 := Option.some.inj (f1.symm.trans (hT.1.2 0 _ rfl).2)
      rw [Array.getElem?_push, if_pos rfl, arrV_new, hcA]
      congr 2
      funext j
      show Value.int 0 = .int (jI (aN h 101 i.toNatClampNeg) _ j)
      rw [jI_aN, ← g1, if_pos rfl]
    · refine ⟨by omega, by omega, ?_⟩
      have hcA : cA = D.1 102 := Option.some.inj (f1.symm.trans (hT.1.2 1 _ rfl).2)
      rw [Array.getElem?_push, if_pos rfl, arrV_new, hcA]
      congr 2
      funext j
      show Value.long 0 = .long (jL (aN h 102 i.toNatClampNeg) _ j)
      rw [jL_aN, ← g1, if_pos rfl]
theorem V_anew {idx : Nat} {i : Int32} {K : Nat → Hp → Option β} (C : CX p l R s m args meth c D Hs cc own nL ret et F X) (hH : HP D Hs h H) (hw : (Cond.classLink own idx "java/lang/Object") ∈ lw_all) (hdg : decode cc pc = .ok (.anewarray idx, 3)) (hrun : na h 103 i K = some rr)
    (kk : ∀ (q : Nat) (h1 : Hp) (H1 : Heap) (cells1 slots1 : Nat), HP D Hs h1 H1 → K q h1 = some rr → W p l e R s m args below meth c H1 locs cells1 slots1 Q (F0 m (pc + 3) ls (rv q :: rest))) : W p l e R s m args below meth c H locs cells slots Q (F0 m pc ls (.int i :: rest)) := by
  obtain ⟨⟨hx, hb, hml, hown, hts⟩, ⟨-, -, -, hT, -⟩, hR, r1, r2, r3, r4⟩ := C
  obtain ⟨⟨hi, hi2, hlim⟩, hrun⟩ := gd_some hrun
  obtain ⟨g1, g2⟩ := id hH.1
  refine W.ex fun w1 w2 => ?_
  refine W.anew (C := "java/lang/Object") hx hb hown (hts _ hw) (va_AO.use hT.2.2.2.1) rfl hdg rfl hi (by omega) (by rw [hR]; show _ ≤ Hs.size + 1200144 - s.heap.size; omega) (by rw [hR]; show _ ≤ tot Hs + 5496058 - tot s.heap; omega) fun cA kA comp f1 f2 f3 f4 => ?_
  have hpos : rv (kz h + 1) = .ref H.size := by rw [← g1]; rfl
  rw [← hpos]
  refine kk _ _ _ _ _ ?_ hrun
  refine hH.push (h1 := aN h 103 i.toNatClampNeg) (N := i.toNatClampNeg) (cell := { cls := cA, slots := Array.replicate i.toNatClampNeg .null, vm := .none }) (by simp) (by simp) (fun q hq => by rw [Array.getElem?_push, if_neg (by omega)]) (by simp) hlim (fun m hm => ?_) (fun m hm => ?_) (fun m ci k hm => fvl_aN) (fun m c j hm => avl_aN hm) rfl rfl rfl rfl rfl (fun _ => ⟨fun hl => ?_, fun hl => ?_⟩)
  · rw [kC_aN, if_neg hm]
  · rw [kN_aN, if_neg hm]
  · rw [kC_aN, if_pos rfl] at hl
    omega
  · rw [kC_aN, if_pos rfl, kN_aN, if_pos rfl, Nat.add_sub_cancel, g1]
    refine ⟨by omega, by omega, ?_⟩
    obtain ⟨kA2, comp2, k1, k2, k3, k4⟩ := (hT.1.2 2 _ rfl).2
    have hcA : cA = D.1 103 := Option.some.inj (f1.symm.trans k4)
    rw [Array.getElem?_push, if_pos rfl, arrV_new, hcA]
    congr 2
    funext j
    show Value.null = rv (jR (aN h 103 i.toNatClampNeg) _ j)
    rw [jR_aN, ← g1, if_pos rfl]
    rfl
/-! casts -/
theorem obj_recv {n ci : Nat} {r : vw_C} (hT : TB D Hs s) (hH : HP D Hs h H) (hn : kC h n = ci + 1) (h99 : ci < 99) (hr : vwCl[ci]? = some r) : ∃ cell : Cell, H[n - 1]? = some cell ∧ cell.vm.isStatics = false ∧ s.vm.findClass r.1 = some cell.cls := by
  obtain ⟨-, -, cell, g1, g2, g3, -⟩ := hH.obj hn h99 hr
  exact ⟨cell, g1, by rw [g3]; rfl, by rw [g2]; exact (hT.1.1 ci _ hr).2.1⟩
/-- to its own class -/
theorem V_castS {n ci idx : Nat} {r : vw_C} (C : CX p l R s m args meth c D Hs cc own nL ret et F X) (hH : HP D Hs h H) (hr : vwCl[ci]? = some r) (h99 : ci < 99) (hw : (Cond.classLink own idx r.1) ∈ lw_all) (hdg : decode cc pc = .ok (.checkcast idx, 3)) (hn : kC h n = ci + 1)
    (kk : W p l e R s m args below meth c H locs cells slots Q (F0 m (pc + 3) ls (rv n :: rest))) : W p l e R s m args below meth c H locs cells slots Q (F0 m pc ls (rv n :: rest)) := by
  obtain ⟨⟨hx, hb, hml, hown, hts⟩, ⟨-, -, -, hT, -⟩, -⟩ := C
  obtain ⟨hn0, -, -⟩ := hH.obj hn h99 hr
  rw [rv_pos hn0] at kk ⊢
  exact va_castS hx hb hown (hts _ hw) (hT.1.1 ci _ hr).2 (obj_recv hT hH hn h99 hr) hdg kk
/-- to a class or interface above it -/
theorem V_castY {n ci idx : Nat} {nm : String} {r : vw_C} (C : CX p l R s m args meth c D Hs cc own nL ret et F X) (hH : HP D Hs h H) (hr : vwCl[ci]? = some r) (h99 : ci < 99) (hw : (Cond.classLink own idx nm) ∈ lw_all) (hc : (Cond.castable r.1 nm) ∈ lw_tbl) (hdg : decode cc pc = .ok (.checkcast idx, 3)) (hn : kC h n = ci + 1)
    (kk : W p l e R s m args below meth c H locs cells slots Q (F0 m (pc + 3) ls (rv n :: rest))) : W p l e R s m args below meth c H locs cells slots Q (F0 m pc ls (rv n :: rest)) := by
  obtain ⟨⟨hx, hb, hml, hown, hts⟩, ⟨-, -, -, hT, -⟩, -⟩ := C
  obtain ⟨hn0, -, -⟩ := hH.obj hn h99 hr
  rw [rv_pos hn0] at kk ⊢
  exact va_castY hx hb hown (hts _ hw) (hT.2.1 _ hc rfl) (obj_recv hT hH hn h99 hr) hdg kk
/-- to int[] -/
theorem V_castI {n idx : Nat} (C : CX p l R s m args meth c D Hs cc own nL ret et F X) (hH : HP D Hs h H) (hw : (Cond.classLink own idx "[I") ∈ lw_all) (hdg : decode cc pc = .ok (.checkcast idx, 3)) (hn : kC h n = 101)
    (kk : W p l e R s m args below meth c H locs cells slots Q (F0 m (pc + 3) ls (rv n :: rest))) : W p l e R s m args below meth c H locs cells slots Q (F0 m pc ls (rv n :: rest)) := by
  obtain ⟨⟨hx, hb, hml, hown, hts⟩, ⟨-, -, -, hT, -⟩, -⟩ := C
  obtain ⟨h0, -, hc⟩ := hH.arr hn (by decide)
  rw [rv_pos h0] at kk ⊢
  intro T hT' X
  obtain ⟨vm', X', st⟩ := X.checkcastYes hx hown (hts _ hw) (by rw [hT']; exact hc) (by rfl) (hT.1.2 0 _ rfl).2 (va_asg _ _) (g := F0 m pc ls (.ref (n - 1) :: rest)) rfl rfl (by rw [hb]; exact hdg)
  obtain ⟨t, a1, b1⟩ := kk (T.setVm vm') hT' X'
  exact ⟨t, st t a1, b1⟩
/-- null passes every cast -/
theorem V_castN {idx : Nat} (C : CX p l R s m args meth c D Hs cc own nL ret et F X) (hdg : decode cc pc = .ok (.checkcast idx, 3))
    (kk : W p l e R s m args below meth c H locs cells slots Q (F0 m (pc + 3) ls (rv 0 :: rest))) : W p l e R s m args below meth c H locs cells slots Q (F0 m pc ls (rv 0 :: rest)) := lv_castN C.1.1 C.1.2.1 hdg kk
/-- ArrayList's empty array -/
theorem V_getE {idx : Nat} (C : CX p l R s m args meth c D Hs cc own nL ret et F X) (hH : HP D Hs h H) (hw : (Cond.fieldLink own idx "java/util/ArrayList" "DEFAULTCAPACITY_EMPTY_ELEMENTDATA" "[Ljava/lang/Object;") ∈ lw_all) (hdg : decode cc pc = .ok (.getstatic idx, 3))
    (kk : W p l e R s m args below meth c H locs cells slots Q (F0 m (pc + 3) ls (rv (kE h) :: rest))) : W p l e R s m args below meth c H locs cells slots Q (F0 m pc ls rest) := by
  obtain ⟨⟨hx, hb, hml, hown, hts⟩, ⟨-, -, -, hT, -⟩, -⟩ := C
  obtain ⟨cf, kf, fi, f, a, cell, h1, h2, h3, h4, h5, h6, h7, h8⟩ := hT.2.2.2.2.1
  have ha : a < Hs.size := Nat.not_le.mp h8
  have he : rv (kE h) = .ref (D.1 200) := by rw [hH.2.2.2.2.2.1]; rfl
  rw [he] at kk
  exact W.gets hx hb hown (hts _ hw) h1 h2 h3 h4 (by rw [hH.2.1 a ha]; exact h5) (fun e => by rw [e] at h6; cases h6) h7 rfl hdg kk
theorem V_alenE {n : Nat} (C : CX p l R s m args meth c D Hs cc own nL ret et F X) (hH : HP D Hs h H) (hdg : decode cc pc = .ok (.arraylength, 1)) (hn : kC h n = 103 ∨ n = kE h)
    (kk : W p l e R s m args below meth c H locs cells slots Q (F0 m (pc + 1) ls (.int (Int32.ofNat (kN h n)) :: rest))) : W p l e R s m args below meth c H locs cells slots Q (F0 m pc ls (rv n :: rest)) := by
  rcases hn with hn | rfl
  · exact V_alen C hH hdg hn (by decide) kk
  · obtain ⟨⟨hx, hb, hml, hown, hts⟩, ⟨-, -, -, hT, -⟩, -⟩ := C
    have he : rv (kE h) = .ref (D.1 200) := by rw [hH.2.2.2.2.2.1]; rfl
    have hN : kN h (kE h) = 0 := hH.2.2.2.2.1
    rw [hN] at kk
    rw [he]
    obtain ⟨cell, h1, h2, h3, h4, h5, h6, h7⟩ := hT.2.2.2.2.2.1
    have ha : D.1 200 < Hs.size := Nat.not_le.mp h7
    exact W.alen (n := Int32.ofNat 0) hx hb (by rw [hH.2.1 _ ha]; exact h1) h2 h5 rfl rfl hdg kk
end VR3

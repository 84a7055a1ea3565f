/-! ROWS over the abstract heap, 7: arraycopy, new int[n][k], a default method of an interface -/
section VR7
variable {p : Program} {l : Launch} {e : Env} {R : Room} {s : State} {m : MethodId} {args : Array Value} {below : List Frame} {meth : Method} {c : Code} {D : va_G} {Hs H : Heap} {locs : List Loc} {cells slots : Nat} {Q : State → Prop} {cc : ByteArray} {own : String} {nL : Nat} {ret : Option FieldType} {et : List (Nat × Nat × Nat × Nat)} {F X : Nat} {h : Hp} {pc : Nat} {ls : Array Slot} {rest st0 : List Value} {β : Type} {rr : β}
theorem avl_103 {n : Nat} : avl h 103 n = fun j => va_rf (rvo (jR h n j)) := by
  funext j
  show rv _ = _
  exact rv_rf _
theorem V_copy {idx a b : Nat} {sp dp n : Int32} {K : Hp → Option β} (C : CX p l R s m args meth c D Hs cc own nL ret et F X) (hH : HP D Hs h H) (hL : LO Hs locs) (q1 : (Cond.methodLink own idx arraycopyName) ∈ lw_all) (hdg : decode cc pc = .ok (.invokestatic idx, 3)) (hrun : ac_ h a sp b dp n K = some rr) (hF : 1 ≤ F) (hX : csum rest + (nativeFrameWords "java/lang/System" "arraycopy" 5 + 11) ≤ X) (hl : ls.size = nL)
    (kk : ∀ (h1 : Hp) (H1 : Heap) (locs1 : List Loc), HP D Hs h1 H1 → LO Hs locs1 → K h1 = some rr → W p l e R s m args below meth c H1 locs1 cells slots Q (F0 m (pc + 3) ls rest)) : W p l e R s m args below meth c H locs cells slots Q (F0 m pc ls (.int n :: .int dp :: rv b :: .int sp :: rv a :: rest)) := by
  obtain ⟨⟨ka, kb, h1, h2, h3, h4, h5, h6⟩, hrun⟩ := gd_some hrun
  obtain ⟨⟨hx, hb, hml, hown, hts⟩, ⟨-, -, -, hT, -⟩, hR, -⟩ := C
  obtain ⟨a0, ag, hca⟩ := hH.arr ka (by decide)
  obtain ⟨b0, bg, hcb⟩ := hH.arr kb (by decide)
  have hcb0 := hcb
  rw [avl_103] at hca hcb
  rw [rv_pos a0, rv_pos b0]
  have nn : ∀ z : Int32, ¬ z < 0 → z.toInt = (z.toNatClampNeg : Int) := by
    intro z hz
    have hz0 : (0 : Int) ≤ z.toInt := by
      have := Int32.not_lt.mp hz
      simpa using Int32.le_iff_toInt_le.mp this
    show z.toInt = ((z.toInt.toNat : Nat) : Int)
    omega
  intro T hT' Xs
  have hcT0 : T.heap[a - 1]? = some (vp_cell (D.1 103) (kN h a, .inr (.inr (.inr (.inr fun j => rvo (jR h a j)))))) := by rw [hT']; exact hca
  have hcT1 : T.heap[b - 1]? = some (vp_cell (D.1 103) (kN h b, .inr (.inr (.inr (.inr fun j => rvo (jR h b j)))))) := by rw [hT']; exact hcb
  obtain ⟨-, k0, hk0, cm0, hkk0⟩ := (hT.1.2 2 _ rfl).1 (kN h a) (fun j => va_rf (rvo (jR h a j)))
  obtain ⟨-, k1, hk1, cm1, hkk1⟩ := (hT.1.2 2 _ rfl).1 (kN h b) (fun j => va_rf (rvo (jR h b j)))
  obtain ⟨vm', X', step⟩ := Xs.arraycopy hx hown (hts _ q1) (hts _ q789) (hts _ q788) (hts _ q84) (src := a - 1) (dst := b - 1) (cs := vp_cell (D.1 103) (kN h a, .inr (.inr (.inr (.inr fun j => rvo (jR h a j)))))) (cd := vp_cell (D.1 103) (kN h b, .inr (.inr (.inr (.inr fun j => rvo (jR h b j)))))) (srcPos := sp) (destPos := dp) (n := n) hcT0 hcT1
    (fun _ h => by cases h) (fun _ h => by cases h) (fun h => by cases h) (fun h => by cases h) hk0 hk1 hkk0 hkk1 rfl h1 h2 h3
    (by rw [nn sp h1, nn n h3]; show ¬ _ > ((arrV _ _ _).slots.size : Int); rw [arrV_size]; omega)
    (by rw [nn dp h2, nn n h3]; show ¬ _ > ((arrV _ _ _).slots.size : Int); rw [arrV_size]; omega)
    (fun vm₁ hal i hi => by
      have e : (vp_cell (D.1 103) (kN h a, .inr (.inr (.inr (.inr fun j => rvo (jR h a j)))))).slots.getD (sp.toNatClampNeg + i) .null = va_rf (rvo (jR h a (sp.toNatClampNeg + i))) := by
        show (arrV _ (kN h a) (fun j => va_rf (rvo (jR h a j)))).slots.getD _ _ = _
        rw [Array.getD_eq_getD_getElem?, arrV_read _ _ (by omega)]
        rfl
      rw [e]
      cases hy : jR h a (sp.toNatClampNeg + i) with
      | zero => exact ⟨rfl, trivial⟩
      | succ y =>
        have hky : kC h (y + 1) ≠ 0 := by
          rcases h6 i hi with q | q
          · omega
          · rw [hy] at q; exact q
        obtain ⟨cellV, g1, g2, ⟨kC', hkC⟩, hasg⟩ := any_obj hT hH hky
        rw [Nat.add_sub_cancel] at g1
        obtain ⟨kA, comp, r1, r2, r3, -⟩ := (hT.1.2 2 _ rfl).2
        cases hk1.symm.trans r1
        cases hkk1.symm.trans r2
        obtain ⟨kE', hkE, -⟩ := Vm.findClass_spec r3
        obtain ⟨kC'', hkC', -⟩ := hal.2.2 _ _ hkC
        obtain ⟨kE'', hkE', -⟩ := hal.2.2 _ _ hkE
        refine ⟨rfl, cellV, (show T.heap[y]? = some cellV by rw [hT']; exact g1), (fun q h => by rw [h] at g2; cases g2), ⟨kC'', hkC'⟩, ?_, ?_⟩
        · exact ⟨kE'', hkE'⟩
        · show vm₁.assignable _ _ = true
          rw [hal.assignable]
          exact hasg _ r3)
    (g := F0 m pc ls (.int n :: .int dp :: .ref (b - 1) :: .int sp :: .ref (a - 1) :: rest)) rfl (hl.trans hml.symm) (rest := rest) rfl (by rw [hb]; exact hdg) (by rw [hR]; exact hF) (by rw [hR]; simpa using hX)
  have e1 : copied (vp_cell (D.1 103) (kN h a, .inr (.inr (.inr (.inr fun j => rvo (jR h a j)))))) (vp_cell (D.1 103) (kN h b, .inr (.inr (.inr (.inr fun j => rvo (jR h b j)))))) sp dp n = vp_cell (D.1 103) (kN h b, .inr (.inr (.inr (.inr (va_cpy (fun j => rvo (jR h a j)) (fun j => rvo (jR h b j)) sp.toNatClampNeg dp.toNatClampNeg n.toNatClampNeg))))) := by
    rw [vp_cell_q, vp_cell_q, vp_cell_q]
    exact va_copied (fun z => va_rf z) _ _ _ _ h4
  rw [e1] at X' step
  have hlb : b - 1 < H.size := (Array.getElem?_eq_some_iff.mp hcb).1
  have hheap : ((T.setVm vm').setCell (b - 1) (vp_cell (D.1 103) (kN h b, .inr (.inr (.inr (.inr (va_cpy (fun j => rvo (jR h a j)) (fun j => rvo (jR h b j)) sp.toNatClampNeg dp.toNatClampNeg n.toNatClampNeg))))))).heap = H.setIfInBounds (b - 1) (vp_cell (D.1 103) (kN h b, .inr (.inr (.inr (.inr (va_cpy (fun j => rvo (jR h a j)) (fun j => rvo (jR h b j)) sp.toNatClampNeg dp.toNatClampNeg n.toNatClampNeg)))))) := by rw [← hT']; rfl
  have hval : ∀ j, va_rf (va_cpy (fun j => rvo (jR h a j)) (fun j => rvo (jR h b j)) sp.toNatClampNeg dp.toNatClampNeg n.toNatClampNeg j) = avl (cR h a sp.toNatClampNeg b dp.toNatClampNeg n.toNatClampNeg) 103 b j := by
    intro j
    show _ = rv (jR (cR h a _ b _ _) b j)
    rw [jR_cR, rv_rf]
    unfold va_cpy
    by_cases hj : dp.toNatClampNeg ≤ j ∧ j < dp.toNatClampNeg + n.toNatClampNeg
    · rw [if_pos hj, if_pos ⟨rfl, hj⟩]
    · rw [if_neg hj, if_neg (fun q => hj q.2)]
  obtain ⟨t, z1, z2⟩ := kk (cR h a sp.toNatClampNeg b dp.toNatClampNeg n.toNatClampNeg) _ _ (by
      refine hH.put (n := b) (c1 := vp_cell (D.1 103) (kN h b, .inr (.inr (.inr (.inr (va_cpy (fun j => rvo (jR h a j)) (fun j => rvo (jR h b j)) sp.toNatClampNeg dp.toNatClampNeg n.toNatClampNeg)))))) (by omega) (by simp) hcb (show (H.setIfInBounds (b - 1) _)[b - 1]? = some _ by simp [Array.getElem?_setIfInBounds, hlb]) (by rw [vp_cell_q, arrV_size, arrV_size]) (fun q hq => by simp [Array.getElem?_setIfInBounds, Ne.symm hq]) rfl rfl (fun _ _ _ _ => by simp [fvl, kI_cR, kL_cR, kR_cR]) (fun mm cd j hm => ?_) rfl rfl rfl rfl rfl ⟨fun hl => ?_, fun hl => ⟨?_, ?_, ?_⟩⟩
      · unfold avl
        simp [jI_cR, jL_cR, jR_cR, hm]
      · rw [kC_cR, kb] at hl; omega
      · rw [kC_cR, kb]; omega
      · rw [kC_cR, kb]; omega
      · rw [kC_cR, kb, kN_cR]
        rw [show (H.setIfInBounds (b - 1) _)[b - 1]? = some _ by simp [Array.getElem?_setIfInBounds, hlb]; rfl]
        rw [vp_cell_q]
        congr 2
        funext j
        exact hval j) (fun q hq => by
      rcases List.mem_append.mp hq with h | h
      · exact hL q h
      · obtain ⟨z, -, hz⟩ := List.mem_map.mp h
        rw [← hz]
        show Hs.size ≤ b - 1
        omega) hrun _ hheap X'
  exact ⟨t, step t z1, z2⟩
theorem outerC_eq (cA : ClassId) (N h0 : Nat) : ∀ i, i ≤ N → Jvm.Free.Multi.outerC cA N h0 i = arrV cA N (fun j => if j < i then .ref (h0 + 1 + j) else .null)
  | 0, _ => by
    show ({ cls := cA, slots := Array.replicate N .null, vm := .none } : Cell) = _
    rw [arrV_new]
    congr 1
  | i + 1, hi => by
    show (Jvm.Free.Multi.outerC cA N h0 i).setSlot i (.ref (h0 + 1 + i)) = _
    rw [outerC_eq cA N h0 i (by omega), arrV_store]
    congr 1
    funext j
    unfold updV
    by_cases hj : j = i
    · subst hj
      simp
    · by_cases hj2 : j < i
      · rw [if_neg hj]
        show (if j < i then _ else _) = _
        rw [if_pos hj2, if_pos (by omega)]
      · rw [if_neg hj]
        show (if j < i then _ else _) = _
        rw [if_neg hj2, if_neg (by omega)]
theorem V_multi {idx : Nat} {n k : Int32} {K : Nat → Hp → Option β} (C : CX p l R s m args meth c D Hs cc own nL ret et F X) (hH : HP D Hs h H) (q1 : (Cond.classLink own idx "[[I") ∈ lw_all) (hdg : decode cc pc = .ok (.multianewarray idx 2, 4)) (hrun : nm_ h n k K = some rr)
    (kk : ∀ (q : Nat) (h1 : Hp) (H1 : Heap) (cells1 slots1 : Nat), HP D Hs h1 H1 → K q h1 = some rr → W p l e R s m args below meth c H1 locs cells1 slots1 Q (F0 m (pc + 4) ls (rv q :: rest))) : W p l e R s m args below meth c H locs cells slots Q (F0 m pc ls (.int k :: .int n :: rest)) := by
  obtain ⟨⟨hn, hk, hn2, hk2, hl1, hl2⟩, hrun⟩ := gd_some hrun
  obtain ⟨⟨hx, hb, hml, hown, hts⟩, ⟨-, -, -, hT, -⟩, hR, r1, r2, r3, r4⟩ := C
  obtain ⟨⟨a1, a2, a3, a4, a5, a6, a7⟩, b1, b2, b3⟩ := id hH
  refine W.ex fun w1 w2 => ?_
  intro T hT' X
  have hnk : n.toNatClampNeg * k.toNatClampNeg ≤ 1000 * 1000 := Nat.mul_le_mul hn2 hk2
  have hgl : (Cond.classLink own idx ("[" ++ (FieldType.array FieldType.int).toString)).before args s = true := by
    have e : "[" ++ (FieldType.array FieldType.int).toString = "[[I" := by decide
    rw [e]
    exact hts _ q1
  have hcb4 : componentBytes FieldType.int = 4 := by decide
  have hov : (Cond.arrayOver (.array .int)).before args s = true := over_moved (Vm.Alike.refl _) hT.2.2.2.2.2.2.2.2.2.2.2
  obtain ⟨vm₁, cA, comp, hW, hfA, hfC, -, -, X', st⟩ := X.multianewarray2F hx (ty := .int) hown hgl hov (hts _ q194) (g := F0 m pc ls (.int k :: .int n :: rest)) rfl (by rw [hb]; exact hdg) rfl hn hk (by omega) (by rw [hcb4]; omega) (by omega) rfl rfl
    (by rw [hR]; show _ ≤ Hs.size + 1200144 - s.heap.size; omega) (by rw [hR]; show _ ≤ tot Hs + 5496058 - tot s.heap; omega)
  have hcA : cA = D.1 104 := Option.some.inj (hfA.symm.trans (hT.1.2 3 _ rfl).2)
  have hcC : comp = D.1 101 := by
    have e : (FieldType.array FieldType.int).toString = "[" ++ FieldType.int.toString := by decide
    rw [e] at hfC
    exact Option.some.inj (hfC.symm.trans (hT.1.2 0 _ rfl).2)
  subst hcA
  subst hcC
  generalize hM : Jvm.Free.Multi.fill (T.setVm vm₁) (D.1 104) (D.1 101) n.toNatClampNeg k.toNatClampNeg (defaultValue .int) n.toNatClampNeg = M at X' st
  have hTs : (T.setVm vm₁).heap = H := hT'
  obtain ⟨f1, f2, -, -⟩ := Jvm.Free.Multi.fill_facts (T.setVm vm₁) (D.1 104) (D.1 101) n.toNatClampNeg k.toNatClampNeg (defaultValue .int) n.toNatClampNeg
  rw [hM, hTs] at f1 f2
  have f3 : ∀ q, q < H.size → M.heap[q]? = H[q]? := fun q hq => by
    have := Jvm.Free.Multi.fill_old (T.setVm vm₁) (D.1 104) (D.1 101) n.toNatClampNeg k.toNatClampNeg (defaultValue .int) (a := q) (by rw [hTs]; exact hq) n.toNatClampNeg
    rw [hM, hTs] at this
    exact this
  have f4 : ∀ j, j < n.toNatClampNeg → M.heap[H.size + 1 + j]? = some (Jvm.Free.Multi.innerC (D.1 101) k.toNatClampNeg (defaultValue .int)) := fun j hj => by
    have := Jvm.Free.Multi.fill_inner (T.setVm vm₁) (D.1 104) (D.1 101) n.toNatClampNeg k.toNatClampNeg (defaultValue .int) n.toNatClampNeg j hj
    rw [hM, hTs] at this
    exact this
  have ht : tot M.heap ≤ tot H + (n.toNatClampNeg + n.toNatClampNeg * k.toNatClampNeg) := by
    obtain ⟨z1, z2, z3, z4, z5, z6⟩ := X'.same
    have z7 : tot M.heap = tot s.heap + ((M.heap.toList.drop s.heap.size).map (·.slots.size)).sum := tot_drop z2 (fun q c0 hc => by
      obtain ⟨c1, g1, -, g3, -⟩ := z6 q c0 hc
      exact ⟨c1, g1, g3⟩)
    have z8 : ((M.heap.toList.drop s.heap.size).map (·.slots.size)).sum ≤ _ := z5
    omega
  have hP : HP D Hs (gF h n.toNatClampNeg k.toNatClampNeg n.toNatClampNeg) M.heap := by
    refine ⟨⟨?_, ?_, ?_, ?_, a5, a6, by omega⟩, fun q hq => by rw [f3 q (by omega)]; exact b1 q hq, fun mm hmm => ?_, ?_⟩
    · show kz h + 1 + _ = _
      omega
    · show _ ≤ ks h + _ + _
      omega
    · show kz h + 1 + _ ≤ kza h
      omega
    · show ks h + _ + _ ≤ ksa h
      omega
    · have e0 : kC (gF h n.toNatClampNeg k.toNatClampNeg n.toNatClampNeg) mm = if kz h + 1 < mm ∧ mm ≤ kz h + 1 + n.toNatClampNeg then 101 else if mm = kz h + 1 then 104 else kC h mm := rfl
      have e9 : kN (gF h n.toNatClampNeg k.toNatClampNeg n.toNatClampNeg) mm = if kz h + 1 < mm ∧ mm ≤ kz h + 1 + n.toNatClampNeg then k.toNatClampNeg else if mm = kz h + 1 then n.toNatClampNeg else kN h mm := rfl
      by_cases c1 : kz h + 1 < mm ∧ mm ≤ kz h + 1 + n.toNatClampNeg
      · rw [if_pos c1] at e0 e9
        refine ⟨by omega, by show mm ≤ kz h + 1 + _; omega, fun hl => by rw [e0] at hl; omega, fun _ => ⟨by rw [e0]; decide, by rw [e0]; decide, ?_⟩⟩
        rw [e0, e9, show mm - 1 = H.size + 1 + (mm - 1 - (H.size + 1)) by omega, f4 _ (by omega)]
        show some ({ cls := _, slots := Array.replicate _ _, vm := .none } : Cell) = _
        rw [arrV_new]
        congr 2
        funext j
        show Value.int 0 = .int (if kz h + 1 ≤ mm ∧ mm ≤ kz h + 1 + _ then 0 else jI h mm j)
        rw [if_pos (by omega)]
      · rw [if_neg c1] at e0 e9
        by_cases c2 : mm = kz h + 1
        · rw [if_pos c2] at e0 e9
          refine ⟨by omega, by show mm ≤ kz h + 1 + _; omega, fun hl => by rw [e0] at hl; omega, fun _ => ⟨by rw [e0]; decide, by rw [e0]; decide, ?_⟩⟩
          rw [e0, e9, show mm - 1 = H.size by omega, f2, outerC_eq _ _ _ _ (Nat.le_refl _)]
          congr 2
          funext j
          show _ = rv (if mm = kz h + 1 then (if j < n.toNatClampNeg then kz h + 2 + j else 0) else jR h mm j)
          rw [if_pos c2]
          by_cases hj : j < n.toNatClampNeg
          · rw [if_pos hj, if_pos hj, show kz h + 2 + j = (H.size + 1 + j) + 1 by omega]
            rfl
          · rw [if_neg hj, if_neg hj]
            rfl
        · rw [if_neg c2] at e0 e9
          rw [e0] at hmm
          obtain ⟨g1, g2, g3⟩ := b2 mm hmm
          refine ⟨g1, by show mm ≤ kz h + 1 + _; omega, g3.congr (f3 _ (by omega)) e0 e9 (fun _ _ => rfl) (fun cd j => ?_)⟩
          unfold avl
          have i1 : jI (gF h n.toNatClampNeg k.toNatClampNeg n.toNatClampNeg) mm j = if kz h + 1 ≤ mm ∧ mm ≤ kz h + 1 + n.toNatClampNeg then 0 else jI h mm j := rfl
          have i2 : jR (gF h n.toNatClampNeg k.toNatClampNeg n.toNatClampNeg) mm j = if mm = kz h + 1 then (if j < n.toNatClampNeg then kz h + 2 + j else 0) else jR h mm j := rfl
          rw [i1, i2, if_neg (by omega), if_neg c2]
          rfl
    · have e0 : kC (gF h n.toNatClampNeg k.toNatClampNeg n.toNatClampNeg) (kE h) = if kz h + 1 < kE h ∧ kE h ≤ kz h + 1 + n.toNatClampNeg then 101 else if kE h = kz h + 1 then 104 else kC h (kE h) := rfl
      have e9 : kN (gF h n.toNatClampNeg k.toNatClampNeg n.toNatClampNeg) (kE h) = if kz h + 1 < kE h ∧ kE h ≤ kz h + 1 + n.toNatClampNeg then k.toNatClampNeg else if kE h = kz h + 1 then n.toNatClampNeg else kN h (kE h) := rfl
      have hle := b3.2.2.2.1
      rw [if_neg (by omega), if_neg (by omega)] at e0 e9
      exact ⟨e0.trans b3.1, e9.trans b3.2.1, b3.2.2⟩
  have hpos : rv (kz h + 1) = .ref T.heap.size := by rw [hT', ← a1]; rfl
  obtain ⟨t, z1, z2⟩ := kk _ _ M.heap _ _ hP hrun M rfl X'
  rw [hpos] at z1
  exact ⟨t, st t z1, z2⟩
/-! a default method of an interface -/
theorem vx_callIFD {T : State} (X : Stand p l e R s m args below meth c T locs cells slots) (hexec : p.tables.exec = Jvm.exec) {own C : String} {index count : Nat} {x y : MethodName}
    (hown : s.vm.findClass own = some m.cls) (hlink : (Cond.methodLink own index x).before args s = true) (hdecl : (Cond.declares x).before args s = true) (hface : (Cond.interfaceMethod x.cls x.cls x.name x.desc).before args s = true)
    (hsel : (Cond.landsInDefault C x y).before args s = true) (hinst : (Cond.instanceMethod y).before args s = true) (hpub : (Cond.publicMethod y).before args s = true)
    (hcast : (Cond.castable C x.cls).before args s = true) (hx : x.cls ≠ "java/lang/invoke/MethodHandle" ∧ x.cls ≠ "java/lang/invoke/VarHandle")
    {W9 : Nat} {Pre : Pt → Array Value → Prop} {Post : Pt → Array Value → Option Value → Pt → Prop} {PostX : Pt → Array Value → Addr → Pt → Prop} (hK : vx_Back l R p e below s args y 5 W9 Pre Post PostX)
    {b : Addr} {cellB : Cell} {kB : Class} (hcell : T.heap[b]? = some cellB) (hobj : cellB.vm.isStatics = false) (hcls : s.vm.findClass C = some cellB.cls) (hkB : s.vm.classes[cellB.cls]? = some kB)
    {g : JFrame} (hg : g.method = m) (hsize : g.locals.size = c.maxLocals) {argsL rest : List Value} (hlen : ∀ sig, parseMethodDescriptor x.desc = some sig → argsL.length = sig.parameters.length)
    (hstack : g.stack = argsL.reverse ++ .ref b :: rest) (hW : 2 * g.monitorRoom + (rest.map fun v => v.category).sum ≤ W9) (hdg : decode c.code g.pc = .ok (.invokeinterface index count, 5))
    (hpre : ∀ vm₁, s.WarmedH vm₁ → Pre ⟨T.setVm vm₁, locs, cells, slots⟩ (Value.ref b :: argsL).toArray) :
    (∃ (v : Option Value) (vm₁ : Vm) (B : Pt), s.WarmedH vm₁ ∧ Stand p l e R s m args below meth c B.U B.locs B.cells B.slots ∧ Post ⟨T.setVm vm₁, locs, cells, slots⟩ (Value.ref b :: argsL).toArray v B ∧
      ∀ target, Steps p.tables e below (B.U.setTop { g with pc := g.pc + 5, stack := v.toList ++ rest }) target → Steps p.tables e below (T.setTop g) target) ∨
    (∃ (q : Addr) (vm₁ : Vm) (B : Pt), s.WarmedH vm₁ ∧ Stand p l e R s m args below meth c B.U B.locs B.cells B.slots ∧ PostX ⟨T.setVm vm₁, locs, cells, slots⟩ (Value.ref b :: argsL).toArray q B ∧
      Steps p.tables e below (T.setTop g) ((B.U.setTop { g with stack := rest }).pushFrame (.throwing q))) := by
  obtain ⟨r0, r, hn, hrm, hstR, hsigR⟩ := Cond.declares_spec hdecl
  obtain ⟨cL, kL', r1, hcL, hkL, hiL, hfoundL, hn1⟩ := Cond.interfaceMethod_spec hface
  cases hn.symm.trans hn1
  have hr0cls : r0.cls = cL := Option.some.inj ((findClass_of_methodNamed hn).symm.trans hcL)
  obtain ⟨hnameR, hdescR⟩ := name_of_methodNamed hn hrm
  obtain ⟨mk, methM, hnamed, hmethM, -, habM⟩ := Cond.instanceMethod_spec hinst
  obtain ⟨c2, r2, m2, rm, q1, q2, q3, q5, q4, -, q6, -⟩ := Cond.landsInDefault_spec hsel
  cases hcls.symm.trans q1
  cases hfoundL.symm.trans q2
  cases hnamed.symm.trans q3
  cases hrm.symm.trans q5
  have hselP : selectMethod e.platform s.vm cellB.cls r0 = .method mk := by rw [Launch.admits_selectMethod X.admits]; exact q4
  have hpubM : hasFlag methM.accessFlags Acc.public_ = true := Cond.publicMethod_spec hnamed hmethM hpub
  have hway : ((cellB.cls :: s.vm.superclasses cellB.cls).any fun k => (declaredIn s.vm r.name r.desc k).any fun (_, z) => z.isPrivate || z.isStatic) = false := q6
  obtain ⟨c3, t3, w1, w2, w3⟩ := Cond.castable_spec hcast
  cases hcls.symm.trans w1
  cases hcL.symm.trans w2
  obtain ⟨vm₁, X₁, hstep₁⟩ := X.invokeinterface hexec hown hlink hn hrm hstR (by rw [hr0cls]; exact hkL) hiL hx (a := b) (cell := cellB) (kcell := kB) hcell
    (fun z h => by rw [h] at hobj; cases hobj) hkB (by rw [hr0cls]; exact w3) hselP hmethM hway hpubM habM (g := g) hg (argsL := argsL) (rest := rest) (hlen _ hsigR) hstack hdg
  rcases hK m meth c ⟨T.setVm vm₁, locs, cells, slots⟩ { g with stack := rest } (.invokeinterface index count) mk (Value.ref b :: argsL).toArray X₁ hg hsize hdg hW (X₁.named hnamed) (hpre vm₁ X₁.warmed) with ⟨v, B, X', hpost, hsteps⟩ | ⟨q, B, X', hpost, hsteps⟩
  · exact Or.inl ⟨v, vm₁, B, X₁.warmed, X', hpost, fun target h => hstep₁ _ fun acts => by rw [doInvoke_state]; exact hsteps.trans h⟩
  · exact Or.inr ⟨q, vm₁, B, X₁.warmed, X', hpost, hstep₁ _ fun acts => by rw [doInvoke_state]; exact hsteps⟩
theorem Z_cmpD {α : Type} {inj : α → Option Value} {rr1 : (α ⊕ Ex) × Hp} {bytes : ByteArray} {maxL F1 X1 idx : Nat} {ret1 : Option FieldType} {v n ci count : Nat} {r : vw_C} (C : CX p l R s m args meth c D Hs cc own nL ret et F X) (hH : HP D Hs h H) (hm : CM l cmpN (ws_ cmpN bytes maxL ret1) F1 X1 inj [rv n, rv v] D Hs h rr1) (hr : vwCl[ci]? = some r) (hn : kC h n = ci + 1) (h99 : ci < 99) (hnb : r.1 ∈ nbL) (hcw : (Cond.castable r.1 "Massclaim$Numbered") ∈ lw_tbl) (hcode : (Cond.code cmpN bytes maxL ret1) ∈ lw_all) (hq : (Cond.methodLink own idx cmpN) ∈ lw_all)
    (hF : F1 + 1 ≤ F ∧ 8 + (maxL + 11) + X1 ≤ X) (hst : st0 = [rv v].reverse ++ rv n :: rest) (hs : csum rest ≤ 8) (hl : ls.size = nL) (hdg : decode cc pc = .ok (.invokeinterface idx count, 5)) :
    ZRun5 p l e R s m args below meth c D Hs H locs (F0 m pc ls st0) rest inj rr1 := by
  intro w1 w2
  obtain ⟨⟨hx, hb, hml, hown, hts⟩, ⟨-, -, -, hT, -⟩, hR, r1, r2, r3, r4⟩ := C
  obtain ⟨hn0, -, -⟩ := hH.obj hn h99 hr
  rw [rv_pos hn0] at hm hst
  obtain ⟨g1, g2⟩ := hH.room
  subst hst
  obtain ⟨cellB, hcB, hoB, hclB⟩ := obj_recv hT hH hn h99 hr
  obtain ⟨hfc, kB, hkB, -⟩ := (hT.1.1 ci _ hr).2
  have hcc : D.1 ci = cellB.cls := Option.some.inj (hfc.symm.trans hclB)
  rw [hcc] at hkB
  have hM := hm H.size (tot H) g1 g2
  have hG : GoodIn lw_all (ws_ cmpN bytes maxL ret1) := lw_meth hcode
  have hini : (Cond.initialized cmpN.cls).before args s = true := hts _ q2560
  have hR2 := roomOK (maxL := maxL) hR hF (Hs.size + 1200144 - H.size) (tot Hs + 5496058 - tot H)
  have hf := fitOK hR ⟨g1, g2⟩ w1 w2
  have hK : vx_Back l R p e below s args cmpN 5 8 _ _ _ := vx_back (bytes := bytes) (maxL := maxL) (ret := ret1) hM Z_blind rfl rfl hR2.1 hR2.2 (pay_in hts hG) List.mem_cons_self (fun a' U hW => word_at hW (Or.inl (by first | rfl | simp [Cond.onTables, Cond.keeps, Cond.steady])) hini)
  refine ⟨(Value.ref (n - 1) :: [rv v]).toArray, ?_⟩
  intro T hT' X
  have hNb : (Cond.landsInDefault r.1 cmpN cmpN).before args s = true := hT.2.2.2.2.2.2.2.2.2.2.1 _ hnb
  rcases vx_callIFD X hx (C := r.1) (x := cmpN) (y := cmpN) hown (hts _ hq) (va_Nw.use rfl (hT.2.1 _ q962 rfl)) (hT.2.2.1 _ (List.mem_of_getElem? (i := 12) rfl)).2.1 hNb (hts _ q964) (hT.2.2.1 _ (List.mem_of_getElem? (i := 12) rfl)).2.2.1 (va_Nw.use rfl (hT.2.1 _ hcw rfl)) (by decide) hK (by rw [hT']; exact hcB) hoB hclB hkB (g := F0 m pc ls ([rv v].reverse ++ .ref (n - 1) :: rest)) rfl (hl.trans hml.symm) (argsL := [rv v]) (rest := rest) (fun sig h => by
      have h2 : (parseMethodDescriptor cmpN.desc).map (fun d => d.parameters.length) = some 1 := by decide +kernel
      rw [h] at h2
      exact (Option.some.inj h2).symm) rfl (lv_room hs) (by rw [hb]; exact hdg)
    (fun vm₁ hW₁ => ⟨hf.1, hf.2, Z_pre hT hH (T.setVm vm₁) hT' hW₁⟩) with ⟨v', vm₁, ⟨U', l2, c2, s2⟩, hW₁, X', ⟨g', mk, t, L, e1, e2, hq', h1, hL, h2, h3⟩, st⟩ | ⟨q, vm₁, ⟨U', l2, c2, s2⟩, hW₁, X', ⟨g', mk, t, L, E, ce, e1, e2, hq', hce, hcv, hcl, h1, hL, h2, h3⟩, st⟩
  · dsimp only [Pt.U, Pt.locs, Pt.cells, Pt.slots] at X' e1 e2 h1 h2 h3 st
    subst h1; subst h2; subst h3
    exact Or.inl ⟨v', (T.setVm vm₁).calling g' mk _, t, U', L, hT', X', hL, e1, e2, hq', st⟩
  · dsimp only [Pt.U, Pt.locs, Pt.cells, Pt.slots] at X' e1 e2 h1 h2 h3 st hcl
    subst h1; subst h2; subst h3
    exact Or.inr ⟨q, (T.setVm vm₁).calling g' mk _, t, U', L, E, ce, hT', X', hL, e1, e2, hq', hce, hcv, vx_cls hW₁ hcl, st⟩
theorem Z_cmp {α : Type} {inj : α → Option Value} {rr1 : (α ⊕ Ex) × Hp} {F1 X1 idx v n count : Nat} (C : CX p l R s m args meth c D Hs cc own nL ret et F X) (hH : HP D Hs h H) (hm : CM l cmpN (ws_ cmpN cX18_compareTo 2 (some .int)) F1 X1 inj [rv n, rv v] D Hs h rr1) (hn : isN (kC h n)) (hq : (Cond.methodLink own idx cmpN) ∈ lw_all)
    (hF : F1 + 1 ≤ F ∧ 8 + (2 + 11) + X1 ≤ X) (hst : st0 = [rv v].reverse ++ rv n :: rest) (hs : csum rest ≤ 8) (hl : ls.size = nL) (hdg : decode cc pc = .ok (.invokeinterface idx count, 5)) :
    ZRun5 p l e R s m args below meth c D Hs H locs (F0 m pc ls st0) rest inj rr1 := by
  rcases hn with hn | hn | hn | hn | hn
  · exact Z_cmpD (ci := 4) C hH hm rfl hn (by decide) (by decide) q814 q966 hq hF hst hs hl hdg
  · exact Z_cmpD (ci := 6) C hH hm rfl hn (by decide) (by decide) q820 q966 hq hF hst hs hl hdg
  · exact Z_cmpD (ci := 7) C hH hm rfl hn (by decide) (by decide) q802 q966 hq hF hst hs hl hdg
  · exact Z_cmpD (ci := 11) C hH hm rfl hn (by decide) (by decide) q796 q966 hq hF hst hs hl hdg
  · exact Z_cmpD (ci := 15) C hH hm rfl hn (by decide) (by decide) q808 q966 hq hF hst hs hl hdg
end VR7

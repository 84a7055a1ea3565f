section VR2
variable {p : Program} {l : Launch} {e : Env} {R : Room} {s : State} {m : MethodId} {args : Array Value} {below : List Frame} {meth : Method} {c : Code} {D : va_G} {Hs H : Heap} {locs : List Loc} {cells slots : Nat} {Q : State → Prop} {cc : ByteArray} {own : String} {nL : Nat} {ret : Option FieldType} {et : List (Nat × Nat × Nat × Nat)} {F X : Nat} {h : Hp} {pc : Nat} {ls : Array Slot} {rest : List Value} {β : Type} {rr : β}
theorem fok_i (v : Int32) : fok .int (.int v) := ⟨rfl, rfl⟩
theorem fok_l (v : Int64) : fok .long (.long v) := ⟨rfl, rfl⟩
theorem fok_z {v : Int32} (h : b01 v) : fok .boolean (.int v) := by rcases h with rfl | rfl <;> exact ⟨rfl, rfl⟩
theorem fok_o (C : String) (n : Nat) : fok (.object C) (rv n) := by cases n <;> exact ⟨rfl, rfl⟩
theorem fok_a (t : FieldType) (n : Nat) : fok (.array t) (rv n) := by cases n <;> exact ⟨rfl, rfl⟩
theorem V_getI {idx ci k n : Nat} (C : CX p l R s m args meth c D Hs cc own nL ret et F X) (hH : HP D Hs h H) (hf : FR own idx ci k) (hdg : decode cc pc = .ok (.getfield idx, 3)) (hn : kC h n = ci + 1) (hfk : fk ci k = 0)
    (kk : W p l e R s m args below meth c H locs cells slots Q (F0 m (pc + 3) ls (.int (kI h (fid ci k) n) :: rest))) : W p l e R s m args below meth c H locs cells slots Q (F0 m pc ls (rv n :: rest)) := V_get C hH hf hdg hn (by rw [fvl_i hfk]; exact kk)
theorem V_getL {idx ci k n : Nat} (C : CX p l R s m args meth c D Hs cc own nL ret et F X) (hH : HP D Hs h H) (hf : FR own idx ci k) (hdg : decode cc pc = .ok (.getfield idx, 3)) (hn : kC h n = ci + 1) (hfk : fk ci k = 1)
    (kk : W p l e R s m args below meth c H locs cells slots Q (F0 m (pc + 3) ls (.long (kL h (fid ci k) n) :: rest))) : W p l e R s m args below meth c H locs cells slots Q (F0 m pc ls (rv n :: rest)) := V_get C hH hf hdg hn (by rw [fvl_l hfk]; exact kk)
theorem V_getR {idx ci k n : Nat} (C : CX p l R s m args meth c D Hs cc own nL ret et F X) (hH : HP D Hs h H) (hf : FR own idx ci k) (hdg : decode cc pc = .ok (.getfield idx, 3)) (hn : kC h n = ci + 1) (hfk : fk ci k = 2)
    (kk : W p l e R s m args below meth c H locs cells slots Q (F0 m (pc + 3) ls (rv (kR h (fid ci k) n) :: rest))) : W p l e R s m args below meth c H locs cells slots Q (F0 m pc ls (rv n :: rest)) := V_get C hH hf hdg hn (by rw [fvl_r hfk]; exact kk)
theorem V_getNI {idx ci k n : Nat} {t : FieldType} {fin : Bool} (C : CX p l R s m args meth c D Hs cc own nL ret et F X) (hH : HP D Hs h H) (hf : FN own idx ci k t fin) (hdg : decode cc pc = .ok (.getfield idx, 3)) (hn : kC h n = ci + 1) (hfk : fk ci k = 0)
    (kk : W p l e R s m args below meth c H locs cells slots Q (F0 m (pc + 3) ls (.int (kI h (fid ci k) n) :: rest))) : W p l e R s m args below meth c H locs cells slots Q (F0 m pc ls (rv n :: rest)) := V_getN C hH hf hdg hn (by rw [fvl_i hfk]; exact kk)
theorem V_getNL {idx ci k n : Nat} {t : FieldType} {fin : Bool} (C : CX p l R s m args meth c D Hs cc own nL ret et F X) (hH : HP D Hs h H) (hf : FN own idx ci k t fin) (hdg : decode cc pc = .ok (.getfield idx, 3)) (hn : kC h n = ci + 1) (hfk : fk ci k = 1)
    (kk : W p l e R s m args below meth c H locs cells slots Q (F0 m (pc + 3) ls (.long (kL h (fid ci k) n) :: rest))) : W p l e R s m args below meth c H locs cells slots Q (F0 m pc ls (rv n :: rest)) := V_getN C hH hf hdg hn (by rw [fvl_l hfk]; exact kk)
theorem V_getNR {idx ci k n : Nat} {t : FieldType} {fin : Bool} (C : CX p l R s m args meth c D Hs cc own nL ret et F X) (hH : HP D Hs h H) (hf : FN own idx ci k t fin) (hdg : decode cc pc = .ok (.getfield idx, 3)) (hn : kC h n = ci + 1) (hfk : fk ci k = 2)
    (kk : W p l e R s m args below meth c H locs cells slots Q (F0 m (pc + 3) ls (rv (kR h (fid ci k) n) :: rest))) : W p l e R s m args below meth c H locs cells slots Q (F0 m pc ls (rv n :: rest)) := V_getN C hH hf hdg hn (by rw [fvl_r hfk]; exact kk)
theorem V_putI {idx ci k n : Nat} {t : FieldType} {fin : Bool} {v : Int32} {K : Hp → Option β} (C : CX p l R s m args meth c D Hs cc own nL ret et F X) (hH : HP D Hs h H) (hL : LO Hs locs) (hf : FL own idx ci k t fin) (hdg : decode cc pc = .ok (.putfield idx, 3)) (hn : kC h n = ci + 1) (hv : fok t (.int v)) (hfk : fk ci k = 0) (hi9 : fin = true → meth.name = "<init>") (hrun : vl (sI h (fid ci k) n v) K = some rr)
    (kk : ∀ (h1 : Hp) (H1 : Heap) (locs1 : List Loc), HP D Hs h1 H1 → LO Hs locs1 → K h1 = some rr → W p l e R s m args below meth c H1 locs1 cells slots Q (F0 m (pc + 3) ls rest)) : W p l e R s m args below meth c H locs cells slots Q (F0 m pc ls (.int v :: rv n :: rest)) :=
  V_putG (h1 := sI h (fid ci k) n v) C hH hL hf hi9 hdg hn hv rfl rfl (fun _ _ _ q => fvl_sI q) (fun _ _ _ => avl_sI) rfl rfl rfl rfl rfl (fvl_sI_self hfk) (fun H1 locs1 a b => kk _ H1 locs1 a b hrun)
theorem V_putNI {idx ci k n : Nat} {t : FieldType} {v : Int32} {K : Hp → Option β} (C : CX p l R s m args meth c D Hs cc own nL ret et F X) (hH : HP D Hs h H) (hL : LO Hs locs) (hf : FN own idx ci k t false) (hdg : decode cc pc = .ok (.putfield idx, 3)) (hn : kC h n = ci + 1) (hv : fok t (.int v)) (hfk : fk ci k = 0) (hrun : vl (sI h (fid ci k) n v) K = some rr)
    (kk : ∀ (h1 : Hp) (H1 : Heap) (locs1 : List Loc), HP D Hs h1 H1 → LO Hs locs1 → K h1 = some rr → W p l e R s m args below meth c H1 locs1 cells slots Q (F0 m (pc + 3) ls rest)) : W p l e R s m args below meth c H locs cells slots Q (F0 m pc ls (.int v :: rv n :: rest)) :=
  V_putGN (h1 := sI h (fid ci k) n v) C hH hL hf hdg hn hv rfl rfl (fun _ _ _ q => fvl_sI q) (fun _ _ _ => avl_sI) rfl rfl rfl rfl rfl (fvl_sI_self hfk) (fun H1 locs1 a b => kk _ H1 locs1 a b hrun)
theorem V_putL {idx ci k n : Nat} {t : FieldType} {fin : Bool} {v : Int64} {K : Hp → Option β} (C : CX p l R s m args meth c D Hs cc own nL ret et F X) (hH : HP D Hs h H) (hL : LO Hs locs) (hf : FL own idx ci k t fin) (hdg : decode cc pc = .ok (.putfield idx, 3)) (hn : kC h n = ci + 1) (hv : fok t (.long v)) (hfk : fk ci k = 1) (hi9 : fin = true → meth.name = "<init>") (hrun : vl (sL h (fid ci k) n v) K = some rr)
    (kk : ∀ (h1 : Hp) (H1 : Heap) (locs1 : List Loc), HP D Hs h1 H1 → LO Hs locs1 → K h1 = some rr → W p l e R s m args below meth c H1 locs1 cells slots Q (F0 m (pc + 3) ls rest)) : W p l e R s m args below meth c H locs cells slots Q (F0 m pc ls (.long v :: rv n :: rest)) :=
  V_putG (h1 := sL h (fid ci k) n v) C hH hL hf hi9 hdg hn hv rfl rfl (fun _ _ _ q => fvl_sL q) (fun _ _ _ => avl_sL) rfl rfl rfl rfl rfl (fvl_sL_self hfk) (fun H1 locs1 a b => kk _ H1 locs1 a b hrun)
theorem V_putNL {idx ci k n : Nat} {t : FieldType} {v : Int64} {K : Hp → Option β} (C : CX p l R s m args meth c D Hs cc own nL ret et F X) (hH : HP D Hs h H) (hL : LO Hs locs) (hf : FN own idx ci k t false) (hdg : decode cc pc = .ok (.putfield idx, 3)) (hn : kC h n = ci + 1) (hv : fok t (.long v)) (hfk : fk ci k = 1) (hrun : vl (sL h (fid ci k) n v) K = some rr)
    (kk : ∀ (h1 : Hp) (H1 : Heap) (locs1 : List Loc), HP D Hs h1 H1 → LO Hs locs1 → K h1 = some rr → W p l e R s m args below meth c H1 locs1 cells slots Q (F0 m (pc + 3) ls rest)) : W p l e R s m args below meth c H locs cells slots Q (F0 m pc ls (.long v :: rv n :: rest)) :=
  V_putGN (h1 := sL h (fid ci k) n v) C hH hL hf hdg hn hv rfl rfl (fun _ _ _ q => fvl_sL q) (fun _ _ _ => avl_sL) rfl rfl rfl rfl rfl (fvl_sL_self hfk) (fun H1 locs1 a b => kk _ H1 locs1 a b hrun)
theorem V_putR {idx ci k n : Nat} {t : FieldType} {fin : Bool} {v : Nat} {K : Hp → Option β} (C : CX p l R s m args meth c D Hs cc own nL ret et F X) (hH : HP D Hs h H) (hL : LO Hs locs) (hf : FL own idx ci k t fin) (hdg : decode cc pc = .ok (.putfield idx, 3)) (hn : kC h n = ci + 1) (hv : fok t (rv v)) (hfk : fk ci k = 2) (hi9 : fin = true → meth.name = "<init>") (hrun : vl (sR h (fid ci k) n v) K = some rr)
    (kk : ∀ (h1 : Hp) (H1 : Heap) (locs1 : List Loc), HP D Hs h1 H1 → LO Hs locs1 → K h1 = some rr → W p l e R s m args below meth c H1 locs1 cells slots Q (F0 m (pc + 3) ls rest)) : W p l e R s m args below meth c H locs cells slots Q (F0 m pc ls (rv v :: rv n :: rest)) :=
  V_putG (h1 := sR h (fid ci k) n v) C hH hL hf hi9 hdg hn hv rfl rfl (fun _ _ _ q => fvl_sR q) (fun _ _ _ => avl_sR) rfl rfl rfl rfl rfl (fvl_sR_self hfk) (fun H1 locs1 a b => kk _ H1 locs1 a b hrun)
theorem V_putNR {idx ci k n : Nat} {t : FieldType} {v : Nat} {K : Hp → Option β} (C : CX p l R s m args meth c D Hs cc own nL ret et F X) (hH : HP D Hs h H) (hL : LO Hs locs) (hf : FN own idx ci k t false) (hdg : decode cc pc = .ok (.putfield idx, 3)) (hn : kC h n = ci + 1) (hv : fok t (rv v)) (hfk : fk ci k = 2) (hrun : vl (sR h (fid ci k) n v) K = some rr)
    (kk : ∀ (h1 : Hp) (H1 : Heap) (locs1 : List Loc), HP D Hs h1 H1 → LO Hs locs1 → K h1 = some rr → W p l e R s m args below meth c H1 locs1 cells slots Q (F0 m (pc + 3) ls rest)) : W p l e R s m args below meth c H locs cells slots Q (F0 m pc ls (rv v :: rv n :: rest)) :=
  V_putGN (h1 := sR h (fid ci k) n v) C hH hL hf hdg hn hv rfl rfl (fun _ _ _ q => fvl_sR q) (fun _ _ _ => avl_sR) rfl rfl rfl rfl rfl (fvl_sR_self hfk) (fun H1 locs1 a b => kk _ H1 locs1 a b hrun)
/-! arrays -/
theorem ix_arr {a : Nat → Value} {cI : ClassId} {N : Nat} {i : Int32} (h : ixo i N) : ¬ (i < 0 ∨ (arrV cI N a).slots.size ≤ i.toNatClampNeg) := by rw [arrV_size]; exact h
theorem ix_lt {N : Nat} {i : Int32} (h : ixo i N) : i.toNatClampNeg < N := Nat.not_le.mp fun q => h (Or.inr q)
theorem V_iald {n : Nat} {i : Int32} (C : CX p l R s m args meth c D Hs cc own nL ret et F X) (hH : HP D Hs h H) (hdg : decode cc pc = .ok (.iaload, 1)) (hn : kC h n = 101 ∧ ixo i (kN h n))
    (kk : W p l e R s m args below meth c H locs cells slots Q (F0 m (pc + 1) ls (.int (jI h n i.toNatClampNeg) :: rest))) : W p l e R s m args below meth c H locs cells slots Q (F0 m pc ls (.int i :: rv n :: rest)) := by
  obtain ⟨h0, -, hc⟩ := hH.arr hn.1 (by decide)
  rw [rv_pos h0]
  exact W.iald (v := .int (jI h n i.toNatClampNeg)) C.1.1 C.1.2.1 hc ((C.2.1.2.2.2.1.1.2 0 _ rfl).1 _ _) (fun q => by cases q) (ix_arr hn.2) (arrV_read _ _ (ix_lt hn.2)) rfl rfl hdg kk
theorem V_lald {n : Nat} {i : Int32} (C : CX p l R s m args meth c D Hs cc own nL ret et F X) (hH : HP D Hs h H) (hdg : decode cc pc = .ok (.laload, 1)) (hn : kC h n = 102 ∧ ixo i (kN h n))
    (kk : W p l e R s m args below meth c H locs cells slots Q (F0 m (pc + 1) ls (.long (jL h n i.toNatClampNeg) :: rest))) : W p l e R s m args below meth c H locs cells slots Q (F0 m pc ls (.int i :: rv n :: rest)) := by
  obtain ⟨h0, -, hc⟩ := hH.arr hn.1 (by decide)
  rw [rv_pos h0]
  exact W.lald (v := .long (jL h n i.toNatClampNeg)) C.1.1 C.1.2.1 hc ((C.2.1.2.2.2.1.1.2 1 _ rfl).1 _ _) (fun q => by cases q) (ix_arr hn.2) (arrV_read _ _ (ix_lt hn.2)) rfl rfl hdg kk
theorem V_aald {n : Nat} {i : Int32} (C : CX p l R s m args meth c D Hs cc own nL ret et F X) (hH : HP D Hs h H) (hdg : decode cc pc = .ok (.aaload, 1)) (hn : kC h n = 103 ∧ ixo i (kN h n))
    (kk : W p l e R s m args below meth c H locs cells slots Q (F0 m (pc + 1) ls (rv (jR h n i.toNatClampNeg) :: rest))) : W p l e R s m args below meth c H locs cells slots Q (F0 m pc ls (.int i :: rv n :: rest)) := by
  obtain ⟨h0, -, hc⟩ := hH.arr hn.1 (by decide)
  rw [rv_pos h0]
  exact W.aald (v := rv (jR h n i.toNatClampNeg)) (ty := .object "java/lang/Object") C.1.1 C.1.2.1 hc ((C.2.1.2.2.2.1.1.2 2 _ rfl).1 _ _) rfl (fun q => by cases q) (ix_arr hn.2) (arrV_read _ _ (ix_lt hn.2)) rfl rfl hdg kk
theorem V_aald2 {n : Nat} {i : Int32} (C : CX p l R s m args meth c D Hs cc own nL ret et F X) (hH : HP D Hs h H) (hdg : decode cc pc = .ok (.aaload, 1)) (hn : kC h n = 104 ∧ ixo i (kN h n))
    (kk : W p l e R s m args below meth c H locs cells slots Q (F0 m (pc + 1) ls (rv (jR h n i.toNatClampNeg) :: rest))) : W p l e R s m args below meth c H locs cells slots Q (F0 m pc ls (.int i :: rv n :: rest)) := by
  obtain ⟨h0, -, hc⟩ := hH.arr hn.1 (by decide)
  rw [rv_pos h0]
  exact W.aald (v := rv (jR h n i.toNatClampNeg)) (ty := .array .int) C.1.1 C.1.2.1 hc ((C.2.1.2.2.2.1.1.2 3 _ rfl).1 _ _) rfl (fun q => by cases q) (ix_arr hn.2) (arrV_read _ _ (ix_lt hn.2)) rfl rfl hdg kk
theorem arr_pic {n cd i : Nat} {v : Value} {h1 : Hp} {H1 : Heap} (hH : HP D Hs h H) (hn : kC h n = cd) (hcd : ¬ cd < 100) (q1 : H[n - 1]? = some (arrV (D.1 cd) (kN h n) (avl h cd n))) (e1' : H1[n - 1]? = some ((arrV (D.1 cd) (kN h n) (avl h cd n)).setSlot i v)) (z : H1.size = H.size) (oq : ∀ q, q ≠ n - 1 → H1[q]? = H[q]?)
    (e1 : kC h1 = kC h) (e2 : kN h1 = kN h) (e3 : ∀ m ci k, fvl h1 ci k m = fvl h ci k m) (e4 : ∀ m c j, m ≠ n → avl h1 c m j = avl h c m j) (e5 : kz h1 = kz h) (e6 : ks h1 = ks h) (e7 : kza h1 = kza h) (e8 : ksa h1 = ksa h) (e9 : (kE h1, kM h1) = (kE h, kM h)) (hp : ∀ j, avl h1 cd n j = updV (avl h cd n) i v j) : HP D Hs h1 H1 := by
  have h9 := (hH.2.2.1 n (by omega)).2.2.2 (by omega)
  refine hH.put (n := n) (by omega) z q1 e1' (by simp [Cell.setSlot]) oq e1 e2 (fun m ci k _ => e3 m ci k) e4 e5 e6 e7 e8 e9 ⟨fun hl => ?_, fun hl => ?_⟩
  · rw [e1, hn] at hl
    omega
  · refine ⟨by rw [e1]; exact h9.1, by rw [e1]; exact h9.2.1, ?_⟩
    rw [e1, hn, e2, e1', arrV_store]
    congr 2
    funext j
    exact (hp j).symm
theorem LO_put {n i : Nat} (hL : LO Hs locs) (hn : Hs.size < n) : LO Hs (locs ++ [⟨n - 1, i⟩]) := by
  intro q hq
  rcases List.mem_append.mp hq with g | g
  · exact hL q g
  · rw [List.mem_singleton.mp g]
    show Hs.size ≤ n - 1
    omega
theorem V_iast {n : Nat} {i v : Int32} {K : Hp → Option β} (C : CX p l R s m args meth c D Hs cc own nL ret et F X) (hH : HP D Hs h H) (hL : LO Hs locs) (hdg : decode cc pc = .ok (.iastore, 1)) (hn : kC h n = 101 ∧ ixo i (kN h n)) (hrun : vl (tI h n i.toNatClampNeg v) K = some rr)
    (kk : ∀ (h1 : Hp) (H1 : Heap) (locs1 : List Loc), HP D Hs h1 H1 → LO Hs locs1 → K h1 = some rr → W p l e R s m args below meth c H1 locs1 cells slots Q (F0 m (pc + 1) ls rest)) : W p l e R s m args below meth c H locs cells slots Q (F0 m pc ls (.int v :: .int i :: rv n :: rest)) := by
  obtain ⟨h0, hg, hc⟩ := hH.arr hn.1 (by decide)
  rw [rv_pos h0]
  refine W.iast C.1.1 C.1.2.1 hc ((C.2.1.2.2.2.1.1.2 0 _ rfl).1 _ _) (fun q => by cases q) (ix_arr hn.2) rfl rfl hdg fun H1 g1 z oq => ?_
  refine kk _ H1 _ (arr_pic (h1 := tI h n i.toNatClampNeg v) hH hn.1 (by decide) hc g1 z oq rfl rfl (fun _ _ _ => fvl_tI) (fun _ _ _ q => avl_tI q) rfl rfl rfl rfl rfl (fun j => ?_)) (LO_put hL hg) hrun
  show Value.int (jI (tI h n i.toNatClampNeg v) n j) = updV (fun j => .int (jI h n j)) _ _ j
  rw [jI_tI]
  unfold updV
  by_cases hj : j = i.toNatClampNeg <;> simp [hj]
theorem V_last {n : Nat} {i : Int32} {v : Int64} {K : Hp → Option β} (C : CX p l R s m args meth c D Hs cc own nL ret et F X) (hH : HP D Hs h H) (hL : LO Hs locs) (hdg : decode cc pc = .ok (.lastore, 1)) (hn : kC h n = 102 ∧ ixo i (kN h n)) (hrun : vl (tL h n i.toNatClampNeg v) K = some rr)
    (kk : ∀ (h1 : Hp) (H1 : Heap) (locs1 : List Loc), HP D Hs h1 H1 → LO Hs locs1 → K h1 = some rr → W p l e R s m args below meth c H1 locs1 cells slots Q (F0 m (pc + 1) ls rest)) : W p l e R s m args below meth c H locs cells slots Q (F0 m pc ls (.long v :: .int i :: rv n :: rest)) := by
  obtain ⟨h0, hg, hc⟩ := hH.arr hn.1 (by decide)
  rw [rv_pos h0]
  refine W.last C.1.1 C.1.2.1 hc ((C.2.1.2.2.2.1.1.2 1 _ rfl).1 _ _) (fun q => by cases q) (ix_arr hn.2) rfl rfl hdg fun H1 g1 z oq => ?_
  refine kk _ H1 _ (arr_pic (h1 := tL h n i.toNatClampNeg v) hH hn.1 (by decide) hc g1 z oq rfl rfl (fun _ _ _ => fvl_tL) (fun _ _ _ q => avl_tL q) rfl rfl rfl rfl rfl (fun j => ?_)) (LO_put hL hg) hrun
  show Value.long (jL (tL h n i.toNatClampNeg v) n j) = updV (fun j => .long (jL h n j)) _ _ j
  rw [jL_tL]
  unfold updV
  by_cases hj : j = i.toNatClampNeg <;> simp [hj]
/-! every cell of ours may stand where an Object is asked -/
theorem vw_castO : ∀ r ∈ vwCl, (Cond.castable r.1 "java/lang/Object") ∈ lw_tbl := by
  intro r hr
  simp only [vwCl, List.mem_cons, List.not_mem_nil, or_false] at hr
  rcases hr with rfl | rfl | rfl | rfl | rfl | rfl | rfl | rfl | rfl | rfl | rfl | rfl | rfl | rfl | rfl | rfl | rfl | rfl | rfl <;> first | exact q2562 | exact q2563 | exact q2565 | exact q2566 | exact q2569 | exact q2571 | exact q2574 | exact q2577 | exact q2578 | exact q2579 | exact q2580 | exact q2581 | exact q2582 | exact q2583 | exact q2584 | exact q2585 | exact q2586 | exact q2564 | exact q2573
theorem any_of_cast {Cn : String} {a : Nat} {cell : Cell} (hT : TB D Hs s) (h1 : H[a]? = some cell) (h2 : cell.vm.isStatics = false) (h3 : s.vm.findClass Cn = some cell.cls) (hw : (Cond.castable Cn "java/lang/Object") ∈ lw_tbl) : va_Any "java/lang/Object" s H a := by
  obtain ⟨c0, t0, f1, f2, f3⟩ := Cond.castable_spec (va_Nw.use (A := #[]) rfl (hT.2.1 _ hw rfl))
  obtain ⟨kC, hkC, -⟩ := Vm.findClass_spec h3
  refine ⟨cell, h1, h2, ⟨kC, hkC⟩, fun comp hc => ?_⟩
  cases h3.symm.trans f1
  cases f2.symm.trans hc
  exact f3
theorem any_obj {n : Nat} (hT : TB D Hs s) (hH : HP D Hs h H) (hn : kC h n ≠ 0) : va_Any "java/lang/Object" s H (n - 1) := by
  obtain ⟨g1, g2, g3, g4⟩ := hH.2.2.1 n hn
  by_cases hl : kC h n < 100
  · obtain ⟨r, e1, cell, e2, e3, e4, -⟩ := g3 hl
    exact any_of_cast hT e2 (by rw [e4]; rfl) (by rw [e3]; exact (hT.1.1 _ r e1).2.1) (vw_castO r (List.mem_of_getElem? e1))
  · obtain ⟨g5, g6, g7⟩ := g4 hl
    have hcs : kC h n = 101 ∨ kC h n = 102 ∨ kC h n = 103 ∨ kC h n = 104 := by omega
    rcases hcs with q | q | q | q
    · rw [q] at g7
      exact any_of_cast (Cn := "[I") hT g7 rfl (hT.1.2 0 _ rfl).2 q2592
    · rw [q] at g7
      exact any_of_cast (Cn := "[J") hT g7 rfl (hT.1.2 1 _ rfl).2 q2593
    · rw [q] at g7
      obtain ⟨kA, comp, k1, k2, k3, k4⟩ := (hT.1.2 2 _ rfl).2
      exact any_of_cast (Cn := "[Ljava/lang/Object;") hT g7 rfl k4 q2594
    · rw [q] at g7
      exact any_of_cast (Cn := "[[I") hT g7 rfl (hT.1.2 3 _ rfl).2 q2591
theorem V_aast {n v : Nat} {i : Int32} {K : Hp → Option β} (C : CX p l R s m args meth c D Hs cc own nL ret et F X) (hH : HP D Hs h H) (hL : LO Hs locs) (hdg : decode cc pc = .ok (.aastore, 1)) (hn : kC h n = 103 ∧ ixo i (kN h n)) (hv : v = 0 ∨ kC h v ≠ 0) (hrun : vl (tR h n i.toNatClampNeg v) K = some rr)
    (kk : ∀ (h1 : Hp) (H1 : Heap) (locs1 : List Loc), HP D Hs h1 H1 → LO Hs locs1 → K h1 = some rr → W p l e R s m args below meth c H1 locs1 cells slots Q (F0 m (pc + 1) ls rest)) : W p l e R s m args below meth c H locs cells slots Q (F0 m pc ls (rv v :: .int i :: rv n :: rest)) := by
  obtain ⟨h0, hg, hc⟩ := hH.arr hn.1 (by decide)
  rw [rv_pos h0]
  have hlt := ix_lt hn.2
  have hi0 : ¬ i < 0 := fun q => hn.2 (Or.inl q)
  have hT := C.2.1.2.2.2.1
  have key : ∀ (H1 : Heap), H1[n - 1]? = some ((arrV (D.1 103) (kN h n) (avl h 103 n)).setSlot i.toNatClampNeg (rv v)) → H1.size = H.size → (∀ q, q ≠ n - 1 → H1[q]? = H[q]?) → HP D Hs (tR h n i.toNatClampNeg v) H1 := fun H1 g1 z oq =>
    arr_pic (h1 := tR h n i.toNatClampNeg v) hH hn.1 (by decide) hc g1 z oq rfl rfl (fun _ _ _ => fvl_tR) (fun _ _ _ q => avl_tR q) rfl rfl rfl rfl rfl (fun j => by
      show rv (jR (tR h n i.toNatClampNeg v) n j) = updV (fun j => rv (jR h n j)) _ _ j
      rw [jR_tR]
      unfold updV
      by_cases hj : j = i.toNatClampNeg <;> simp [hj])
  cases v with
  | zero =>
    refine va_WaastN (C := "java/lang/Object") C.1.1 C.1.2.1 hc ((hT.1.2 2 _ rfl).1 _ _) (fun q => by cases q) (ix_arr hn.2) rfl rfl hdg fun H1 g1 z oq => ?_
    exact kk _ H1 _ (key H1 g1 z oq) (LO_put hL hg) hrun
  | succ v =>
    obtain ⟨cellV, g1, g3, ⟨kC', hkC⟩, hasg⟩ := any_obj hT hH (n := v + 1) (hv.elim (fun q => absurd q (by omega)) id)
    rw [Nat.add_sub_cancel] at g1
    obtain ⟨kA, comp, k1, k2, k3, -⟩ := (hT.1.2 2 _ rfl).2
    obtain ⟨kE, hkE, -⟩ := Vm.findClass_spec k3
    refine W.aast C.1.1 C.1.2.1 hc (fun q h => by cases h) (fun h => by cases h) k1 k2 rfl hkE ⟨hi0, by rw [arrV_size]; exact hlt⟩ g1 (fun q h => by rw [h] at g3; cases g3) hkC (hasg _ k3) rfl rfl hdg fun H1 g1 z oq => ?_
    exact kk _ H1 _ (key H1 g1 z oq) (LO_put hL hg) hrun
theorem V_alen {n cd : Nat} (C : CX p l R s m args meth c D Hs cc own nL ret et F X) (hH : HP D Hs h H) (hdg : decode cc pc = .ok (.arraylength, 1)) (hn : kC h n = cd) (hcd : 101 ≤ cd)
    (kk : W p l e R s m args below meth c H locs cells slots Q (F0 m (pc + 1) ls (.int (Int32.ofNat (kN h n)) :: rest))) : W p l e R s m args below meth c H locs cells slots Q (F0 m pc ls (rv n :: rest)) := by
  obtain ⟨h0, -, hc⟩ := hH.arr hn (by omega)
  have h9 := (hH.2.2.1 n (by omega)).2.2.2 (by omega)
  have hT := C.2.1.2.2.2.1
  rw [rv_pos h0]
  have key : ∀ ty : FieldType, s.isArrayOf (arrV (D.1 cd) (kN h n) (avl h cd n)) ty → W p l e R s m args below meth c H locs cells slots Q (F0 m pc ls (.ref (n - 1) :: rest)) := fun ty ha =>
    W.alen (n := Int32.ofNat (kN h n)) C.1.1 C.1.2.1 hc ha (by rw [arrV_size] <;> rfl) rfl rfl hdg kk
  have hcs : cd = 101 ∨ cd = 102 ∨ cd = 103 ∨ cd = 104 := by omega
  rcases hcs with rfl | rfl | rfl | rfl
  · exact key _ ((hT.1.2 0 _ rfl).1 _ _)
  · exact key _ ((hT.1.2 1 _ rfl).1 _ _)
  · exact key _ ((hT.1.2 2 _ rfl).1 _ _)
  · exact key _ ((hT.1.2 3 _ rfl).1 _ _)
end VR2

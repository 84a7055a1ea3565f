/-! ROWS over the abstract heap: each turns the machine's step into the picture's -/
section VR
variable {p : Program} {l : Launch} {e : Env} {R : Room} {s : State} {m : MethodId} {args : Array Value} {below : List Frame} {meth : Method} {c : Code} {D : va_G} {Hs H : Heap} {locs : List Loc} {cells slots : Nat} {Q : State → Prop} {cc : ByteArray} {own : String} {nL : Nat} {ret : Option FieldType} {et : List (Nat × Nat × Nat × Nat)} {F X : Nat} {h : Hp} {pc : Nat} {ls : Array Slot} {rest : List Value}
/-! locals and stack with references -/
theorem V_aload_n (hexec : p.tables.exec = Jvm.exec) (hb : c.code = cc) {k : Fin 4} {i x : Nat} (hdg : decode cc pc = .ok (.aload_n k, 1)) (hi : (k : Nat) = i) (hl : ls[i]? = some (.val (rv x))) (kk : W p l e R s m args below meth c H locs cells slots Q (F0 m (pc + 1) ls (rv x :: rest))) : W p l e R s m args below meth c H locs cells slots Q (F0 m pc ls rest) := by
  cases x with
  | zero => exact lv_aload_nN hexec hb hdg hi hl kk
  | succ x => exact lv_aload_n hexec hb hdg hi hl kk
theorem V_aload (hexec : p.tables.exec = Jvm.exec) (hb : c.code = cc) {i x : Nat} (hdg : decode cc pc = .ok (.aload i, 2)) (hl : ls[i]? = some (.val (rv x))) (kk : W p l e R s m args below meth c H locs cells slots Q (F0 m (pc + 2) ls (rv x :: rest))) : W p l e R s m args below meth c H locs cells slots Q (F0 m pc ls rest) := by
  cases x with
  | zero => exact lv_aloadN hexec hb hdg hl kk
  | succ x => exact lv_aload hexec hb hdg hl kk
theorem V_astore_n (hexec : p.tables.exec = Jvm.exec) (hb : c.code = cc) {k : Fin 4} {i n x : Nat} {lv lv' : List (Nat × Value)} (hdg : decode cc pc = .ok (.astore_n k, 1)) (hi : (k : Nat) = i) (hh : lv_has ls n lv) (hn : i < n) (hl : (i, rv x) :: lv.filter (fun q => !(q.1 == i) && !(q.1 + 1 == i && q.2.category == 2)) = lv')
    (kk : ∀ ls' : Array Slot, lv_has ls' n lv' → W p l e R s m args below meth c H locs cells slots Q (F0 m (pc + 1) ls' rest)) : W p l e R s m args below meth c H locs cells slots Q (F0 m pc ls (rv x :: rest)) := by
  cases x with
  | zero => exact lv_astore_nN hexec hb hdg hi hh hn hl kk
  | succ x => exact lv_astore_n hexec hb hdg hi hh hn hl kk
theorem V_astore (hexec : p.tables.exec = Jvm.exec) (hb : c.code = cc) {i n x : Nat} {lv lv' : List (Nat × Value)} (hdg : decode cc pc = .ok (.astore i, 2)) (hh : lv_has ls n lv) (hn : i < n) (hl : (i, rv x) :: lv.filter (fun q => !(q.1 == i) && !(q.1 + 1 == i && q.2.category == 2)) = lv')
    (kk : ∀ ls' : Array Slot, lv_has ls' n lv' → W p l e R s m args below meth c H locs cells slots Q (F0 m (pc + 2) ls' rest)) : W p l e R s m args below meth c H locs cells slots Q (F0 m pc ls (rv x :: rest)) := by
  cases x with
  | zero => exact lv_astoreN hexec hb hdg hh hn hl kk
  | succ x => exact lv_astore hexec hb hdg hh hn hl kk
theorem V_null (hexec : p.tables.exec = Jvm.exec) (hb : c.code = cc) (hdg : decode cc pc = .ok (.aconst_null, 1)) (kk : W p l e R s m args below meth c H locs cells slots Q (F0 m (pc + 1) ls (rv 0 :: rest))) : W p l e R s m args below meth c H locs cells slots Q (F0 m pc ls rest) := lv_null hexec hb hdg kk
theorem V_ifnull {β : Type} {rr : β} {K1 K2 : Option β} (hexec : p.tables.exec = Jvm.exec) (hb : c.code = cc) {x : Nat} {off : Int} {tgt : Nat} (hdg : decode cc pc = .ok (.ifnull off, 3)) (ht : (pc : Int) + off = (tgt : Int)) (hrun : (if x = 0 then K1 else K2) = some rr)
    (kt : x = 0 → K1 = some rr → W p l e R s m args below meth c H locs cells slots Q (F0 m tgt ls rest)) (kf : ¬ x = 0 → K2 = some rr → W p l e R s m args below meth c H locs cells slots Q (F0 m (pc + 3) ls rest)) : W p l e R s m args below meth c H locs cells slots Q (F0 m pc ls (rv x :: rest)) := by
  cases x with
  | zero => rw [if_pos rfl] at hrun; exact lv_ifnullN hexec hb hdg ht (kt rfl hrun)
  | succ x => rw [if_neg (by omega)] at hrun; exact lv_ifnull hexec hb hdg (kf (by omega) hrun)
theorem V_ifnonnull {β : Type} {rr : β} {K1 K2 : Option β} (hexec : p.tables.exec = Jvm.exec) (hb : c.code = cc) {x : Nat} {off : Int} {tgt : Nat} (hdg : decode cc pc = .ok (.ifnonnull off, 3)) (ht : (pc : Int) + off = (tgt : Int)) (hrun : (if x = 0 then K2 else K1) = some rr)
    (kt : ¬ x = 0 → K1 = some rr → W p l e R s m args below meth c H locs cells slots Q (F0 m tgt ls rest)) (kf : x = 0 → K2 = some rr → W p l e R s m args below meth c H locs cells slots Q (F0 m (pc + 3) ls rest)) : W p l e R s m args below meth c H locs cells slots Q (F0 m pc ls (rv x :: rest)) := by
  cases x with
  | zero => rw [if_pos rfl] at hrun; exact lv_ifnonnullN hexec hb hdg (kf rfl hrun)
  | succ x => rw [if_neg (by omega)] at hrun; exact lv_ifnonnull hexec hb hdg ht (kt (by omega) hrun)
theorem V_acmp_eq {β : Type} {rr : β} {K1 K2 : Option β} (hexec : p.tables.exec = Jvm.exec) (hb : c.code = cc) {x y : Nat} {off : Int} {tgt : Nat} (hdg : decode cc pc = .ok (.if_acmp .eq off, 3)) (ht : (pc : Int) + off = (tgt : Int)) (hrun : (if x = y then K1 else K2) = some rr)
    (kt : x = y → K1 = some rr → W p l e R s m args below meth c H locs cells slots Q (F0 m tgt ls rest)) (kf : ¬ x = y → K2 = some rr → W p l e R s m args below meth c H locs cells slots Q (F0 m (pc + 3) ls rest)) : W p l e R s m args below meth c H locs cells slots Q (F0 m pc ls (rv y :: rv x :: rest)) := by
  rw [rv_rf x, rv_rf y]
  refine lv_acmp_eq hexec hb hdg ht (fun q => ?_) (fun q => ?_)
  · have := rvo_inj q
    rw [if_pos this] at hrun
    exact kt this hrun
  · have : ¬ x = y := fun z => q (by rw [z])
    rw [if_neg this] at hrun
    exact kf this hrun
theorem V_acmp_ne {β : Type} {rr : β} {K1 K2 : Option β} (hexec : p.tables.exec = Jvm.exec) (hb : c.code = cc) {x y : Nat} {off : Int} {tgt : Nat} (hdg : decode cc pc = .ok (.if_acmp .ne off, 3)) (ht : (pc : Int) + off = (tgt : Int)) (hrun : (if x = y then K2 else K1) = some rr)
    (kt : ¬ x = y → K1 = some rr → W p l e R s m args below meth c H locs cells slots Q (F0 m tgt ls rest)) (kf : x = y → K2 = some rr → W p l e R s m args below meth c H locs cells slots Q (F0 m (pc + 3) ls rest)) : W p l e R s m args below meth c H locs cells slots Q (F0 m pc ls (rv y :: rv x :: rest)) := by
  rw [rv_rf x, rv_rf y]
  refine lv_acmp_ne hexec hb hdg ht (fun q => ?_) (fun q => ?_)
  · have : ¬ x = y := fun z => q (by rw [z])
    rw [if_neg this] at hrun
    exact kt this hrun
  · have := rvo_inj q
    rw [if_pos this] at hrun
    exact kf this hrun
/-! a branch of the picture -/
theorem ite_t {β : Type} {P : Prop} [Decidable P] {A B : Option β} {r : β} (hr : (if P then A else B) = some r) (hp : P) : A = some r := by rwa [if_pos hp] at hr
theorem ite_f {β : Type} {P : Prop} [Decidable P] {A B : Option β} {r : β} (hr : (if P then A else B) = some r) (hp : ¬ P) : B = some r := by rwa [if_neg hp] at hr
/-! long compares with their branches -/
theorem V_lcmp_eq (hexec : p.tables.exec = Jvm.exec) (hb : c.code = cc) {x y : Int64} {off : Int} {tgt : Nat} (d1 : decode cc pc = .ok (.lcmp, 1)) (d2 : decode cc (pc + 1) = .ok (.ifCond .eq off, 3)) (ht : ((pc + 1 : Nat) : Int) + off = (tgt : Int))
    (kt : x = y → W p l e R s m args below meth c H locs cells slots Q (F0 m tgt ls rest)) (kf : ¬ x = y → W p l e R s m args below meth c H locs cells slots Q (F0 m (pc + 4) ls rest)) : W p l e R s m args below meth c H locs cells slots Q (F0 m pc ls (.long y :: .long x :: rest)) :=
  W.lcmp hexec hb d1 (lv_if_eq hexec hb d2 ht (fun q => kt ((lg_cmp_eq x y).mp q)) (fun q => kf (fun z => q ((lg_cmp_eq x y).mpr z))))
theorem V_lcmp_ne (hexec : p.tables.exec = Jvm.exec) (hb : c.code = cc) {x y : Int64} {off : Int} {tgt : Nat} (d1 : decode cc pc = .ok (.lcmp, 1)) (d2 : decode cc (pc + 1) = .ok (.ifCond .ne off, 3)) (ht : ((pc + 1 : Nat) : Int) + off = (tgt : Int))
    (kt : ¬ x = y → W p l e R s m args below meth c H locs cells slots Q (F0 m tgt ls rest)) (kf : x = y → W p l e R s m args below meth c H locs cells slots Q (F0 m (pc + 4) ls rest)) : W p l e R s m args below meth c H locs cells slots Q (F0 m pc ls (.long y :: .long x :: rest)) :=
  W.lcmp hexec hb d1 (lv_if_ne hexec hb d2 ht (fun q => kt (fun z => q ((lg_cmp_eq x y).mpr z))) (fun q => kf ((lg_cmp_eq x y).mp q)))
theorem V_lcmp_lt (hexec : p.tables.exec = Jvm.exec) (hb : c.code = cc) {x y : Int64} {off : Int} {tgt : Nat} (d1 : decode cc pc = .ok (.lcmp, 1)) (d2 : decode cc (pc + 1) = .ok (.ifCond .lt off, 3)) (ht : ((pc + 1 : Nat) : Int) + off = (tgt : Int))
    (kt : x < y → W p l e R s m args below meth c H locs cells slots Q (F0 m tgt ls rest)) (kf : ¬ x < y → W p l e R s m args below meth c H locs cells slots Q (F0 m (pc + 4) ls rest)) : W p l e R s m args below meth c H locs cells slots Q (F0 m pc ls (.long y :: .long x :: rest)) :=
  W.lcmp hexec hb d1 (lv_if_lt hexec hb d2 ht (fun q => kt ((lg_cmp_lt x y).mp q)) (fun q => kf (fun z => q ((lg_cmp_lt x y).mpr z))))
theorem V_lcmp_ge (hexec : p.tables.exec = Jvm.exec) (hb : c.code = cc) {x y : Int64} {off : Int} {tgt : Nat} (d1 : decode cc pc = .ok (.lcmp, 1)) (d2 : decode cc (pc + 1) = .ok (.ifCond .ge off, 3)) (ht : ((pc + 1 : Nat) : Int) + off = (tgt : Int))
    (kt : y ≤ x → W p l e R s m args below meth c H locs cells slots Q (F0 m tgt ls rest)) (kf : ¬ y ≤ x → W p l e R s m args below meth c H locs cells slots Q (F0 m (pc + 4) ls rest)) : W p l e R s m args below meth c H locs cells slots Q (F0 m pc ls (.long y :: .long x :: rest)) :=
  W.lcmp hexec hb d1 (lv_if_ge hexec hb d2 ht (fun q => kt ((lg_cmp_ge x y).mp q)) (fun q => kf (fun z => q ((lg_cmp_ge x y).mpr z))))
theorem V_lcmp_gt (hexec : p.tables.exec = Jvm.exec) (hb : c.code = cc) {x y : Int64} {off : Int} {tgt : Nat} (d1 : decode cc pc = .ok (.lcmp, 1)) (d2 : decode cc (pc + 1) = .ok (.ifCond .gt off, 3)) (ht : ((pc + 1 : Nat) : Int) + off = (tgt : Int))
    (kt : y < x → W p l e R s m args below meth c H locs cells slots Q (F0 m tgt ls rest)) (kf : ¬ y < x → W p l e R s m args below meth c H locs cells slots Q (F0 m (pc + 4) ls rest)) : W p l e R s m args below meth c H locs cells slots Q (F0 m pc ls (.long y :: .long x :: rest)) :=
  W.lcmp hexec hb d1 (lv_if_gt hexec hb d2 ht (fun q => kt ((lg_cmp_gt x y).mp q)) (fun q => kf (fun z => q ((lg_cmp_gt x y).mpr z))))
theorem V_lcmp_le (hexec : p.tables.exec = Jvm.exec) (hb : c.code = cc) {x y : Int64} {off : Int} {tgt : Nat} (d1 : decode cc pc = .ok (.lcmp, 1)) (d2 : decode cc (pc + 1) = .ok (.ifCond .le off, 3)) (ht : ((pc + 1 : Nat) : Int) + off = (tgt : Int))
    (kt : x ≤ y → W p l e R s m args below meth c H locs cells slots Q (F0 m tgt ls rest)) (kf : ¬ x ≤ y → W p l e R s m args below meth c H locs cells slots Q (F0 m (pc + 4) ls rest)) : W p l e R s m args below meth c H locs cells slots Q (F0 m pc ls (.long y :: .long x :: rest)) :=
  W.lcmp hexec hb d1 (lv_if_le hexec hb d2 ht (fun q => kt ((lg_cmp_le x y).mp q)) (fun q => kf (fun z => q ((lg_cmp_le x y).mpr z))))
/-! fields: what the tables say of a class's field, of a link -/
def FB (ci k : Nat) (Cn : String) (T : u_T) (N : Nat) (ty : Nat → FieldType) : Prop := vwCl[ci]? = some (Cn, T, N) ∧ ci < 99 ∧ k < N ∧ (∀ w ∈ u_ws Cn T N, w ∈ lw_all) ∧ (∀ j, j < N → parseFieldDescriptor (T j).2.2.1 = some (ty j)) ∧ (∀ a, a < N → ∀ b, b < N → a ≠ b → (T a).2.1 ≠ (T b).2.1)
def FL (own : String) (idx ci k : Nat) (t : FieldType) (fin : Bool) : Prop := ∃ (Cn : String) (T : u_T) (N : Nat) (ty : Nat → FieldType) (ref : String), FB ci k Cn T N ty ∧ ty k = t ∧ (T k).2.2.2 = fin ∧ (fin = true → (T k).1 = own) ∧ (Cond.fieldLink own idx ref (T k).2.1 (T k).2.2.1) ∈ lw_all ∧ (ref = (T k).1 ∨ (Cond.sameField ref (T k).1 (T k).2.1 (T k).2.2.1) ∈ lw_all)
def FR (own : String) (idx ci k : Nat) : Prop := ∃ (Cn : String) (T : u_T) (N : Nat) (ty : Nat → FieldType) (ref : String), FB ci k Cn T N ty ∧ (Cond.fieldLink own idx ref (T k).2.1 (T k).2.2.1) ∈ lw_all ∧ (ref = (T k).1 ∨ (Cond.sameField ref (T k).1 (T k).2.1 (T k).2.2.1) ∈ lw_all)
def FN (own : String) (idx ci k : Nat) (t : FieldType) (fin : Bool) : Prop := ∃ (Cn : String) (T : u_T) (N : Nat) (ty : Nat → FieldType) (host : String), FB ci k Cn T N ty ∧ ty k = t ∧ (T k).2.2.2 = fin ∧ (Cond.fieldLinkNest own idx (T k).1 (T k).2.1 (T k).2.2.1 host) ∈ lw_tbl
theorem FL_same {own : String} {ref o n d : String} (ht : ∀ w ∈ lw_all, w.before args s = true) (hs : ref = o ∨ (Cond.sameField ref o n d) ∈ lw_all) : ∀ x, s.fieldFound? o n d = some x → s.fieldFound? ref n d = some x := by
  intro x hx
  rcases hs with hs | hs
  · rw [hs]; exact hx
  · exact u_same (ht _ hs) x hx
theorem V_get {idx ci k n : Nat} (C : CX p l R s m args meth c D Hs cc own nL ret et F X) (hH : HP D Hs h H) (hf : FR own idx ci k) (hdg : decode cc pc = .ok (.getfield idx, 3)) (hn : kC h n = ci + 1)
    (kk : W p l e R s m args below meth c H locs cells slots Q (F0 m (pc + 3) ls (fvl h ci k n :: rest))) : W p l e R s m args below meth c H locs cells slots Q (F0 m pc ls (rv n :: rest)) := by
  obtain ⟨⟨hx, hb, hml, hown, hts⟩, ⟨-, -, -, hT, -⟩, -⟩ := C
  obtain ⟨Cn, T, N, ty, ref, ⟨hc, h99, hk, hin, hty, hnm⟩, hlink, hs⟩ := hf
  obtain ⟨hn0, -, cell, q1, q2, q3, q4⟩ := hH.obj hn h99 hc
  obtain ⟨hS, hfc, kC', hkC, hkind⟩ := hT.1.1 ci _ hc
  obtain ⟨cf, kf, fi, f, hi, hsl⟩ := hS k hk
  rw [rv_pos hn0]
  refine W.getf hx hb hown (hts _ hlink) (FL_same (own := own) hts hs _ hi) (u_facts hfc hkC (u_lays hts hin hk) hi).1 q1 (by rw [q3]; exact fun h => by cases h) (v := fvl h ci k n) ?_ rfl rfl hdg kk
  rw [hsl, q4 k hk]
theorem V_getN {idx ci k n : Nat} {t : FieldType} {fin : Bool} (C : CX p l R s m args meth c D Hs cc own nL ret et F X) (hH : HP D Hs h H) (hf : FN own idx ci k t fin) (hdg : decode cc pc = .ok (.getfield idx, 3)) (hn : kC h n = ci + 1)
    (kk : W p l e R s m args below meth c H locs cells slots Q (F0 m (pc + 3) ls (fvl h ci k n :: rest))) : W p l e R s m args below meth c H locs cells slots Q (F0 m pc ls (rv n :: rest)) := by
  obtain ⟨⟨hx, hb, hml, hown, hts⟩, ⟨-, -, -, hT, -⟩, -⟩ := C
  obtain ⟨Cn, T, N, ty, host, ⟨hc, h99, hk, hin, hty, hnm⟩, -, -, hlink⟩ := hf
  obtain ⟨hn0, -, cell, q1, q2, q3, q4⟩ := hH.obj hn h99 hc
  obtain ⟨hS, hfc, kC', hkC, hkind⟩ := hT.1.1 ci _ hc
  obtain ⟨cf, kf, fi, f, hi, hsl⟩ := hS k hk
  rw [rv_pos hn0]
  refine va_Wgetf hx hb hown (va_Nw.use rfl (hT.2.1 _ hlink rfl)) hi (u_facts hfc hkC (u_lays hts hin hk) hi).1 q1 (by rw [q3]; exact fun h => by cases h) (v := fvl h ci k n) ?_ rfl rfl hdg kk
  rw [hsl, q4 k hk]
/-- what a field may hold -/
def fok (t : FieldType) (v : Value) : Prop := narrow t v = v ∧ fits t v = true
theorem put_pic {n ci k N : Nat} {Cn : String} {T : u_T} {ty : Nat → FieldType} {v : Value} {h1 : Hp} {cell : Cell} {H1 : Heap} {ts : List Cond} (hT : TB D Hs s) (hts : ∀ w ∈ lw_all, w.before args s = true) (hH : HP D Hs h H) (hFB : FB ci k Cn T N ty) (hn : kC h n = ci + 1)
    (q1 : H[n - 1]? = some cell) (q2 : cell.cls = D.1 ci) (q3 : cell.vm = .none) (q4 : ∀ j, j < N → cell.slots[D.2 ci j]? = some (fvl h ci j n)) (e1' : H1[n - 1]? = some (cell.setSlot (D.2 ci k) v)) (z : H1.size = H.size) (oq : ∀ q, q ≠ n - 1 → H1[q]? = H[q]?)
    (e1 : kC h1 = kC h) (e2 : kN h1 = kN h) (e3 : ∀ m ci k, m ≠ n → fvl h1 ci k m = fvl h ci k m) (e4 : ∀ m c j, avl h1 c m j = avl h c m j) (e5 : kz h1 = kz h) (e6 : ks h1 = ks h) (e7 : kza h1 = kza h) (e8 : ksa h1 = ksa h) (e9 : (kE h1, kM h1) = (kE h, kM h)) (hp : ∀ j, fvl h1 ci j n = updV (fun k => fvl h ci k n) k v j) : HP D Hs h1 H1 := by
  obtain ⟨hc, h99, hk, hin, hty, hnm⟩ := hFB
  have hap := va_apart (own := Cn) hts hin ty hty hnm hT.1 hc
  refine hH.put (n := n) (by omega) z q1 e1' (by simp [Cell.setSlot]) oq e1 e2 e3 (fun m c j _ => e4 m c j) e5 e6 e7 e8 e9 ⟨fun hl => ?_, fun hl => ?_⟩
  · rw [e1, hn, Nat.add_sub_cancel]
    exact ⟨_, hc, t_OB.to (V := updV (fun k => fvl h ci k n) k v) ⟨_, e1', q2, q3, t_set q4 hap hk v⟩ (fun j _ => (hp j).symm)⟩
  · rw [e1, hn] at hl
    omega
theorem V_putG {idx ci k n : Nat} {t : FieldType} {fin : Bool} {v : Value} {h1 : Hp} (C : CX p l R s m args meth c D Hs cc own nL ret et F X) (hH : HP D Hs h H) (hL : LO Hs locs) (hf : FL own idx ci k t fin) (hi9 : fin = true → meth.name = "<init>") (hdg : decode cc pc = .ok (.putfield idx, 3)) (hn : kC h n = ci + 1) (hv : fok t v)
    (e1 : kC h1 = kC h) (e2 : kN h1 = kN h) (e3 : ∀ m ci k, m ≠ n → fvl h1 ci k m = fvl h ci k m) (e4 : ∀ m c j, avl h1 c m j = avl h c m j) (e5 : kz h1 = kz h) (e6 : ks h1 = ks h) (e7 : kza h1 = kza h) (e8 : ksa h1 = ksa h) (e9 : (kE h1, kM h1) = (kE h, kM h)) (hp : ∀ j, fvl h1 ci j n = updV (fun k => fvl h ci k n) k v j)
    (kk : ∀ (H1 : Heap) (locs1 : List Loc), HP D Hs h1 H1 → LO Hs locs1 → W p l e R s m args below meth c H1 locs1 cells slots Q (F0 m (pc + 3) ls rest)) : W p l e R s m args below meth c H locs cells slots Q (F0 m pc ls (v :: rv n :: rest)) := by
  obtain ⟨⟨hx, hb, hml, hown, hts⟩, ⟨-, -, -, hT, -⟩, -⟩ := C
  obtain ⟨Cn, T, N, ty, ref, hFB, hkt, hfin, hdecl, hlink, hs⟩ := hf
  obtain ⟨hc, h99, hk, hin, hty, hnm⟩ := id hFB
  obtain ⟨hn0, hgt, cell, q1, q2, q3, q4⟩ := hH.obj hn h99 hc
  obtain ⟨hS, hfc, kC', hkC, hkind⟩ := hT.1.1 ci _ hc
  obtain ⟨cf, kf, fi, f, hi, hsl⟩ := hS k hk
  have hd : parseFieldDescriptor (T k).2.2.1 = some t := by rw [hty k hk, hkt]
  have hlay := hts _ (hin _ (u_in_lay hk))
  unfold u_lay at hlay
  have hst := (u_facts hfc hkC (u_lays hts hin hk) hi).1
  rw [rv_pos hn0]
  have hLO : ∀ i : Nat, LO Hs (locs ++ [⟨n - 1, i⟩]) := by
    intro i q hq
    rcases List.mem_append.mp hq with g | g
    · exact hL q g
    · rw [List.mem_singleton.mp g]
      show Hs.size ≤ n - 1
      omega
  cases fin with
  | false =>
    rw [if_neg (by rw [hfin]; decide)] at hlay
    have h6 := u_store hfc hkC hkind hlay hi hd hv.1 hv.2
    refine W.putK hx hb (f := f) ⟨hown, hts _ hlink, ⟨_, _, _, FL_same (own := own) hts hs _ hi⟩, hst⟩ (by rw [q2]; exact h6) q1 q3 (by rw [hsl]; exact k2_hasslot (q4 k hk)) rfl rfl hdg fun H' g1 g2 g3 => ?_
    rw [hsl] at g1 ⊢
    exact kk H' _ (put_pic (ts := []) hT hts hH hFB hn q1 q2 q3 q4 g1 g2 g3 e1 e2 e3 e4 e5 e6 e7 e8 e9 hp) (hLO _)
  | true =>
    rw [if_pos hfin] at hlay
    have hcf : m.cls = cf := by
      obtain ⟨_, _, c', _, _, _, -, -, hf', -, -, -, hown2, -⟩ := Cond.laysFinal_spec hlay
      have e1 : c' = cf := by have := hi.symm.trans hf'; simp at this; exact this.1.symm
      rw [hdecl rfl] at hown2
      rw [← e1]; exact Option.some.inj (hown.symm.trans hown2)
    have h6 := u_fits hfc hkC hkind (Or.inr hlay) hi hd hv.1 hv.2
    refine W.putFinK hx hb hown (hts _ hlink) (FL_same (own := own) hts hs _ hi) hst hcf (hi9 rfl) (by rw [q2]; exact h6) q1 q3 (by rw [hsl]; exact k2_hasslot (q4 k hk)) rfl rfl hdg fun H' g1 g2 g3 => ?_
    rw [hsl] at g1 ⊢
    exact kk H' _ (put_pic (ts := []) hT hts hH hFB hn q1 q2 q3 q4 g1 g2 g3 e1 e2 e3 e4 e5 e6 e7 e8 e9 hp) (hLO _)
theorem V_putGN {idx ci k n : Nat} {t : FieldType} {v : Value} {h1 : Hp} (C : CX p l R s m args meth c D Hs cc own nL ret et F X) (hH : HP D Hs h H) (hL : LO Hs locs) (hf : FN own idx ci k t false) (hdg : decode cc pc = .ok (.putfield idx, 3)) (hn : kC h n = ci + 1) (hv : fok t v)
    (e1 : kC h1 = kC h) (e2 : kN h1 = kN h) (e3 : ∀ m ci k, m ≠ n → fvl h1 ci k m = fvl h ci k m) (e4 : ∀ m c j, avl h1 c m j = avl h c m j) (e5 : kz h1 = kz h) (e6 : ks h1 = ks h) (e7 : kza h1 = kza h) (e8 : ksa h1 = ksa h) (e9 : (kE h1, kM h1) = (kE h, kM h)) (hp : ∀ j, fvl h1 ci j n = updV (fun k => fvl h ci k n) k v j)
    (kk : ∀ (H1 : Heap) (locs1 : List Loc), HP D Hs h1 H1 → LO Hs locs1 → W p l e R s m args below meth c H1 locs1 cells slots Q (F0 m (pc + 3) ls rest)) : W p l e R s m args below meth c H locs cells slots Q (F0 m pc ls (v :: rv n :: rest)) := by
  obtain ⟨⟨hx, hb, hml, hown, hts⟩, ⟨-, -, -, hT, -⟩, -⟩ := C
  obtain ⟨Cn, T, N, ty, host, hFB, hkt, hfin, hlink⟩ := hf
  obtain ⟨hc, h99, hk, hin, hty, hnm⟩ := id hFB
  obtain ⟨hn0, hgt, cell, q1, q2, q3, q4⟩ := hH.obj hn h99 hc
  obtain ⟨hS, hfc, kC', hkC, hkind⟩ := hT.1.1 ci _ hc
  obtain ⟨cf, kf, fi, f, hi, hsl⟩ := hS k hk
  have hd : parseFieldDescriptor (T k).2.2.1 = some t := by rw [hty k hk, hkt]
  have hlay := hts _ (hin _ (u_in_lay hk))
  unfold u_lay at hlay
  have hst := (u_facts hfc hkC (u_lays hts hin hk) hi).1
  rw [rv_pos hn0]
  have hLO : ∀ i : Nat, LO Hs (locs ++ [⟨n - 1, i⟩]) := by
    intro i q hq
    rcases List.mem_append.mp hq with g | g
    · exact hL q g
    · rw [List.mem_singleton.mp g]
      show Hs.size ≤ n - 1
      omega
  rw [if_neg (by rw [hfin]; decide)] at hlay
  have h6 := u_store hfc hkC hkind hlay hi hd hv.1 hv.2
  refine va_WputK hx hb (f := f) hown (va_Nw.use rfl (hT.2.1 _ hlink rfl)) hi hst (by rw [q2]; exact h6) q1 q3 (by rw [hsl]; exact k2_hasslot (q4 k hk)) rfl rfl hdg fun H' g1 g2 g3 => ?_
  rw [hsl] at g1 ⊢
  exact kk H' _ (put_pic (ts := []) hT hts hH hFB hn q1 q2 q3 q4 g1 g2 g3 e1 e2 e3 e4 e5 e6 e7 e8 e9 hp) (hLO _)
end VR

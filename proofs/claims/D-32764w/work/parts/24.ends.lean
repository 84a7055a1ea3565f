/-! ROWS over the abstract heap, 4: calls and the ends of a method -/
section VR4
variable {p : Program} {l : Launch} {e : Env} {R : Room} {s : State} {m : MethodId} {args : Array Value} {below : List Frame} {meth : Method} {c : Code} {D : va_G} {Hs H : Heap} {locs : List Loc} {cells slots : Nat} {Q : State → Prop} {cc : ByteArray} {own : String} {nL : Nat} {ret : Option FieldType} {et : List (Nat × Nat × Nat × Nat)} {F X : Nat} {h : Hp} {pc : Nat} {ls : Array Slot} {rest st0 : List Value}
/-- a call's run, from a world with the picture h to one with rr's -/
def ZRun {α : Type} (p : Program) (l : Launch) (e : Env) (R : Room) (s : State) (m : MethodId) (args : Array Value) (below : List Frame) (meth : Method) (c : Code) (D : va_G) (Hs H : Heap) (locs : List Loc) (g : JFrame) (rest : List Value) (inj : α → Option Value) (rr1 : (α ⊕ Ex) × Hp) : Prop :=
  s.heap.size ≤ H.size → tot s.heap ≤ tot H → ∃ arr, vx_Run p l e R s m args below meth c H locs (H.size - s.heap.size) (tot H - tot s.heap) (Hs.size + 1200144 - H.size) (tot Hs + 5496058 - tot H) g rest (ZQ D Hs inj rr1 arr) (ZX D Hs rr1) (oA Hs)
def ZRun5 {α : Type} (p : Program) (l : Launch) (e : Env) (R : Room) (s : State) (m : MethodId) (args : Array Value) (below : List Frame) (meth : Method) (c : Code) (D : va_G) (Hs H : Heap) (locs : List Loc) (g : JFrame) (rest : List Value) (inj : α → Option Value) (rr1 : (α ⊕ Ex) × Hp) : Prop :=
  s.heap.size ≤ H.size → tot s.heap ≤ tot H → ∃ arr, vx_Run5 p l e R s m args below meth c H locs (H.size - s.heap.size) (tot H - tot s.heap) (Hs.size + 1200144 - H.size) (tot Hs + 5496058 - tot H) g rest (ZQ D Hs inj rr1 arr) (ZX D Hs rr1) (oA Hs)
theorem Z_blind {As : List Value} {sz to : Nat} : FrameBlind (va_Pc As (fun U => U.heap.size = sz ∧ tot U.heap = to ∧ TB D Hs U ∧ HP D Hs h U.heap)) :=
  fun a U g mk q => ⟨q.1, q.2.1, q.2.2.1, q.2.2.2.1.calling, q.2.2.2.2⟩
theorem Z_pre {As : List Value} (hT : TB D Hs s) (hH : HP D Hs h H) : ∀ U : State, U.heap = H → s.WarmedH U.vm → va_Pc As (fun U => U.heap.size = H.size ∧ tot U.heap = tot H ∧ TB D Hs U ∧ HP D Hs h U.heap) As.toArray U :=
  fun U hU hW => ⟨rfl, by rw [hU], by rw [hU], hT.moved hW, by rw [hU]; exact hH⟩
variable {α : Type} {inj : α → Option Value} {rr1 : (α ⊕ Ex) × Hp} {y : MethodName} {bytes : ByteArray} {maxL F1 X1 idx : Nat} {ret1 : Option FieldType} {hh : List (Nat × Nat × Nat × Nat)}
abbrev dsc (d : String) (n : Nat) : Prop := (parseMethodDescriptor d).map (fun d => d.parameters.length) = some n
abbrev nMH (s : String) : Prop := s ≠ "java/lang/invoke/MethodHandle" ∧ s ≠ "java/lang/invoke/VarHandle"
/-- words of the calls -/
def WV (own : String) (idx : Nat) (y : MethodName) (bytes : ByteArray) (maxL : Nat) (ret : Option FieldType) (n : Nat) : Prop := GoodIn lw_all (wsV own idx y.cls y (ws_ y bytes maxL ret)) ∧ nMH y.cls ∧ dsc y.desc n
def WS (own : String) (idx : Nat) (y : MethodName) (bytes : ByteArray) (maxL : Nat) (ret : Option FieldType) (n : Nat) : Prop := GoodIn lw_all (va_wsS own idx y (ws_ y bytes maxL ret)) ∧ nMH y.cls ∧ dsc y.desc n
def WI (own : String) (idx : Nat) (y : MethodName) (bytes : ByteArray) (maxL : Nat) (n : Nat) : Prop := GoodIn lw_all (ws_ y bytes maxL none) ∧ (Cond.initialized y.cls) ∈ lw_all ∧ (Cond.methodLink own idx y) ∈ lw_all ∧ (Cond.instanceMethod y) ∈ lw_all ∧ y.name = "<init>" ∧ nMH y.cls ∧ dsc y.desc n
def WIN (own : String) (idx : Nat) (y : MethodName) (bytes : ByteArray) (maxL : Nat) (n : Nat) (host : String) : Prop := GoodIn lw_all (ws_ y bytes maxL none) ∧ (Cond.initialized y.cls) ∈ lw_all ∧ (Cond.methodLinkNest own idx y host) ∈ lw_tbl ∧ (Cond.instanceMethod y) ∈ lw_all ∧ y.name = "<init>" ∧ nMH y.cls ∧ dsc y.desc n
def WSN (own : String) (idx : Nat) (y : MethodName) (bytes : ByteArray) (maxL : Nat) (ret : Option FieldType) (n : Nat) (host : String) : Prop := GoodIn lw_all (ws_ y bytes maxL ret) ∧ (Cond.initialized y.cls) ∈ lw_all ∧ (Cond.methodLinkNest own idx y host) ∈ lw_tbl ∧ (Cond.static y) ∈ lw_all ∧ nMH y.cls ∧ dsc y.desc n
def WF (own : String) (idx : Nat) (Cn : String) (x y : MethodName) (bytes : ByteArray) (maxL : Nat) (ret : Option FieldType) (n : Nat) : Prop := GoodIn lw_all (va_wsF own idx Cn x y (ws_ y bytes maxL ret)) ∧ (Cn, x, y) ∈ fwL ∧ nMH x.cls ∧ dsc x.desc n
def WU (own : String) (idx : Nat) (Cn owner : String) (x y : MethodName) (bytes : ByteArray) (maxL : Nat) (ret : Option FieldType) (n : Nat) : Prop := GoodIn lw_all (va_wsU own idx Cn owner x y (ws_ y bytes maxL ret)) ∧ y = ⟨owner, x.name, x.desc⟩ ∧ nMH owner ∧ dsc x.desc n
def WVH (own : String) (idx : Nat) (y : MethodName) (bytes : ByteArray) (maxL : Nat) (ret : Option FieldType) (hh : List (Nat × Nat × Nat × Nat)) (n : Nat) : Prop := GoodIn lw_all (wsV own idx y.cls y (wsW_ y bytes maxL ret hh)) ∧ nMH y.cls ∧ dsc y.desc n
def WSH (own : String) (idx : Nat) (y : MethodName) (bytes : ByteArray) (maxL : Nat) (ret : Option FieldType) (hh : List (Nat × Nat × Nat × Nat)) (n : Nat) : Prop := GoodIn lw_all (va_wsS own idx y (wsW_ y bytes maxL ret hh)) ∧ nMH y.cls ∧ dsc y.desc n
theorem roomOK (hR : R = { frames := F, cells := Hs.size + 1200144 - s.heap.size, slots := tot Hs + 5496058 - tot s.heap, locals := X }) (hF : F1 + 1 ≤ F ∧ 8 + (maxL + 11) + X1 ≤ X) (mc ms : Nat) : ({ frames := F1, cells := mc, slots := ms, locals := X1 } : Room).frames + 1 ≤ R.frames ∧ 8 + (maxL + 11) + ({ frames := F1, cells := mc, slots := ms, locals := X1 } : Room).locals ≤ R.locals := by
  rw [hR]; exact hF
theorem fitOK (hR : R = { frames := F, cells := Hs.size + 1200144 - s.heap.size, slots := tot Hs + 5496058 - tot s.heap, locals := X }) (r : H.size ≤ Hs.size + 1200144 ∧ tot H ≤ tot Hs + 5496058) (w1 : s.heap.size ≤ H.size) (w2 : tot s.heap ≤ tot H) : (H.size - s.heap.size) + (Hs.size + 1200144 - H.size) ≤ R.cells ∧ (tot H - tot s.heap) + (tot Hs + 5496058 - tot H) ≤ R.slots := by
  rw [hR]
  exact ⟨by show _ ≤ Hs.size + 1200144 - s.heap.size; omega, by show _ ≤ tot Hs + 5496058 - tot s.heap; omega⟩
abbrev csum (r : List Value) : Nat := (r.map fun v => v.category).sum
theorem Z_runV {As : List Value} {n ci k : Nat} {r : vw_C} (C : CX p l R s m args meth c D Hs cc own nL ret et F X) (hH : HP D Hs h H) (hm : CM l y (ws_ y bytes maxL ret1) F1 X1 inj (rv n :: As) D Hs h rr1) (hw : WV own idx y bytes maxL ret1 k) (hn : kC h n = ci + 1) (hr : vwCl[ci]? = some r) (h99 : ci < 99) (hrn : r.1 = y.cls) (hk : As.length = k) (hF : F1 + 1 ≤ F ∧ 8 + (maxL + 11) + X1 ≤ X) (hst : st0 = As.reverse ++ rv n :: rest) (hs : csum rest ≤ 8) (hl : ls.size = nL) (hdg : decode cc pc = .ok (.invokevirtual idx, 3)) :
    ZRun p l e R s m args below meth c D Hs H locs (F0 m pc ls st0) rest inj rr1 := by
  intro w1 w2
  obtain ⟨hC, ⟨-, -, -, hT, -⟩, hR, r1, r2, r3, r4⟩ := C
  obtain ⟨hn0, -, -⟩ := hH.obj hn h99 hr
  rw [rv_pos hn0] at hm hst
  obtain ⟨g1, g2⟩ := hH.room
  subst hst
  exact ⟨_, vx_runV (As := As) (rest := rest) hC (hm H.size (tot H) g1 g2) (cwV k hC.2.2.2.2 hw.1 rfl rfl rfl ⟨rfl, hw.2.1.1, hw.2.1.2, hw.2.2⟩ (roomOK hR hF _ _)) ⟨Z_blind, by rw [← hrn]; exact obj_recv hT hH hn h99 hr, Z_pre hT hH⟩ rfl hk hl rfl (lv_room hs) hdg (fitOK hR ⟨g1, g2⟩ w1 w2)⟩
theorem Z_runVH {As : List Value} {n ci k : Nat} {r : vw_C} (C : CX p l R s m args meth c D Hs cc own nL ret et F X) (hH : HP D Hs h H) (hm : CM l y (wsW_ y bytes maxL ret1 hh) F1 X1 inj (rv n :: As) D Hs h rr1) (hw : WVH own idx y bytes maxL ret1 hh k) (hn : kC h n = ci + 1) (hr : vwCl[ci]? = some r) (h99 : ci < 99) (hrn : r.1 = y.cls) (hk : As.length = k) (hF : F1 + 1 ≤ F ∧ 8 + (maxL + 11) + X1 ≤ X) (hst : st0 = As.reverse ++ rv n :: rest) (hs : csum rest ≤ 8) (hl : ls.size = nL) (hdg : decode cc pc = .ok (.invokevirtual idx, 3)) :
    ZRun p l e R s m args below meth c D Hs H locs (F0 m pc ls st0) rest inj rr1 := by
  intro w1 w2
  obtain ⟨hC, ⟨-, -, -, hT, -⟩, hR, r1, r2, r3, r4⟩ := C
  obtain ⟨hn0, -, -⟩ := hH.obj hn h99 hr
  rw [rv_pos hn0] at hm hst
  obtain ⟨g1, g2⟩ := hH.room
  subst hst
  exact ⟨_, vx_runVX (As := As) (rest := rest) hC (hm H.size (tot H) g1 g2) (vx_cwVW k hC.2.2.2.2 hw.1 rfl rfl rfl ⟨rfl, hw.2.1.1, hw.2.1.2, hw.2.2⟩ (roomOK hR hF _ _)) ⟨Z_blind, by rw [← hrn]; exact obj_recv hT hH hn h99 hr, Z_pre hT hH⟩ rfl hk hl rfl (lv_room hs) hdg (fitOK hR ⟨g1, g2⟩ w1 w2)⟩
theorem Z_runU {As : List Value} {n ci k : Nat} {r : vw_C} {x : MethodName} {owner : String} (C : CX p l R s m args meth c D Hs cc own nL ret et F X) (hH : HP D Hs h H) (hm : CM l y (ws_ y bytes maxL ret1) F1 X1 inj (rv n :: As) D Hs h rr1) (hr : vwCl[ci]? = some r) (hw : WU own idx r.1 owner x y bytes maxL ret1 k) (hn : kC h n = ci + 1) (h99 : ci < 99) (hk : As.length = k) (hF : F1 + 1 ≤ F ∧ 8 + (maxL + 11) + X1 ≤ X) (hst : st0 = As.reverse ++ rv n :: rest) (hs : csum rest ≤ 8) (hl : ls.size = nL) (hdg : decode cc pc = .ok (.invokevirtual idx, 3)) :
    ZRun p l e R s m args below meth c D Hs H locs (F0 m pc ls st0) rest inj rr1 := by
  intro w1 w2
  obtain ⟨hC, ⟨-, -, -, hT, -⟩, hR, r1, r2, r3, r4⟩ := C
  obtain ⟨hn0, -, -⟩ := hH.obj hn h99 hr
  rw [rv_pos hn0] at hm hst
  obtain ⟨g1, g2⟩ := hH.room
  subst hst
  exact ⟨_, vx_runU (As := As) (rest := rest) hC (hm H.size (tot H) g1 g2) (va_cwU k hC.2.2.2.2 hw.1 rfl rfl rfl hw.2.1 ⟨hw.2.2.1.1, hw.2.2.1.2, hw.2.2.2⟩ (roomOK hR hF _ _)) ⟨Z_blind, obj_recv hT hH hn h99 hr, Z_pre hT hH⟩ rfl hk hl rfl (lv_room hs) hdg (fitOK hR ⟨g1, g2⟩ w1 w2)⟩
theorem Z_runF {As : List Value} {n ci k count : Nat} {r : vw_C} {x : MethodName} (C : CX p l R s m args meth c D Hs cc own nL ret et F X) (hH : HP D Hs h H) (hm : CM l y (ws_ y bytes maxL ret1) F1 X1 inj (rv n :: As) D Hs h rr1) (hr : vwCl[ci]? = some r) (hw : WF own idx r.1 x y bytes maxL ret1 k) (hn : kC h n = ci + 1) (h99 : ci < 99) (hk : As.length = k) (hF : F1 + 1 ≤ F ∧ 8 + (maxL + 11) + X1 ≤ X) (hst : st0 = As.reverse ++ rv n :: rest) (hs : csum rest ≤ 8) (hl : ls.size = nL) (hdg : decode cc pc = .ok (.invokeinterface idx count, 5)) :
    ZRun5 p l e R s m args below meth c D Hs H locs (F0 m pc ls st0) rest inj rr1 := by
  intro w1 w2
  obtain ⟨hC, ⟨-, -, -, hT, -⟩, hR, r1, r2, r3, r4⟩ := C
  obtain ⟨hn0, -, -⟩ := hH.obj hn h99 hr
  rw [rv_pos hn0] at hm hst
  obtain ⟨g1, g2⟩ := hH.room
  subst hst
  exact ⟨_, vx_runF (As := As) (rest := rest) (hT.1.1 ci _ hr).2 hC (hm H.size (tot H) g1 g2) (va_cwF k hC.2.2.2.2 hw.1 rfl rfl rfl (hT.2.2.1 _ hw.2.1) ⟨hw.2.2.1.1, hw.2.2.1.2, hw.2.2.2⟩ (roomOK hR hF _ _)) ⟨Z_blind, obj_recv hT hH hn h99 hr, Z_pre hT hH⟩ rfl hk hl rfl (lv_room hs) hdg (fitOK hR ⟨g1, g2⟩ w1 w2)⟩
theorem Z_runS {As : List Value} {k : Nat} (C : CX p l R s m args meth c D Hs cc own nL ret et F X) (hH : HP D Hs h H) (hm : CM l y (ws_ y bytes maxL ret1) F1 X1 inj As D Hs h rr1) (hw : WS own idx y bytes maxL ret1 k) (hk : As.length = k) (hF : F1 + 1 ≤ F ∧ 8 + (maxL + 11) + X1 ≤ X) (hst : st0 = As.reverse ++ rest) (hs : csum rest ≤ 8) (hl : ls.size = nL) (hdg : decode cc pc = .ok (.invokestatic idx, 3)) :
    ZRun p l e R s m args below meth c D Hs H locs (F0 m pc ls st0) rest inj rr1 := by
  intro w1 w2
  obtain ⟨hC, ⟨-, -, -, hT, -⟩, hR, r1, r2, r3, r4⟩ := C
  obtain ⟨g1, g2⟩ := hH.room
  subst hst
  exact ⟨_, vx_runS (As := As) (rest := rest) hC (hm H.size (tot H) g1 g2) (va_cwS k hC.2.2.2.2 hw.1 rfl rfl rfl ⟨hw.2.1.1, hw.2.1.2, hw.2.2⟩ (roomOK hR hF _ _)) ⟨Z_blind, Z_pre hT hH⟩ rfl hk hl rfl (lv_room hs) hdg (fitOK hR ⟨g1, g2⟩ w1 w2)⟩
theorem Z_runSH {As : List Value} {k : Nat} (C : CX p l R s m args meth c D Hs cc own nL ret et F X) (hH : HP D Hs h H) (hm : CM l y (wsW_ y bytes maxL ret1 hh) F1 X1 inj As D Hs h rr1) (hw : WSH own idx y bytes maxL ret1 hh k) (hk : As.length = k) (hF : F1 + 1 ≤ F ∧ 8 + (maxL + 11) + X1 ≤ X) (hst : st0 = As.reverse ++ rest) (hs : csum rest ≤ 8) (hl : ls.size = nL) (hdg : decode cc pc = .ok (.invokestatic idx, 3)) :
    ZRun p l e R s m args below meth c D Hs H locs (F0 m pc ls st0) rest inj rr1 := by
  intro w1 w2
  obtain ⟨hC, ⟨-, -, -, hT, -⟩, hR, r1, r2, r3, r4⟩ := C
  obtain ⟨g1, g2⟩ := hH.room
  subst hst
  exact ⟨_, vx_runSX (As := As) (rest := rest) hC (hm H.size (tot H) g1 g2) (vx_cwSW k hC.2.2.2.2 hw.1 rfl rfl rfl ⟨hw.2.1.1, hw.2.1.2, hw.2.2⟩ (roomOK hR hF _ _)) ⟨Z_blind, Z_pre hT hH⟩ rfl hk hl rfl (lv_room hs) hdg (fitOK hR ⟨g1, g2⟩ w1 w2)⟩
theorem Z_runSN {As : List Value} {k : Nat} {host : String} (C : CX p l R s m args meth c D Hs cc own nL ret et F X) (hH : HP D Hs h H) (hm : CM l y (ws_ y bytes maxL ret1) F1 X1 inj As D Hs h rr1) (hw : WSN own idx y bytes maxL ret1 k host) (hk : As.length = k) (hF : F1 + 1 ≤ F ∧ 8 + (maxL + 11) + X1 ≤ X) (hst : st0 = As.reverse ++ rest) (hs : csum rest ≤ 8) (hl : ls.size = nL) (hdg : decode cc pc = .ok (.invokestatic idx, 3)) :
    ZRun p l e R s m args below meth c D Hs H locs (F0 m pc ls st0) rest inj rr1 := by
  intro w1 w2
  obtain ⟨hC, ⟨-, -, -, hT, -⟩, hR, r1, r2, r3, r4⟩ := C
  obtain ⟨g1, g2⟩ := hH.room
  subst hst
  exact ⟨_, vx_runSN (As := As) (rest := rest) hC (hm H.size (tot H) g1 g2) ⟨va_cnB k hC.2.2.2.2 hw.1 rfl rfl rfl (hT.2.1 _ hw.2.2.1 rfl) (hC.2.2.2.2 _ hw.2.1) ⟨hw.2.2.2.2.1.1, hw.2.2.2.2.1.2, hw.2.2.2.2.2⟩ (roomOK hR hF _ _), hC.2.2.2.2 _ hw.2.2.2.1, trivial⟩ ⟨Z_blind, Z_pre hT hH⟩ rfl hk hl rfl (lv_room hs) hdg (fitOK hR ⟨g1, g2⟩ w1 w2)⟩
theorem Z_runI {As : List Value} {n k : Nat} (C : CX p l R s m args meth c D Hs cc own nL ret et F X) (hH : HP D Hs h H) (hm : CM l y (ws_ y bytes maxL none) F1 X1 inj (rv n :: As) D Hs h rr1) (hw : WI own idx y bytes maxL k) (hn : n ≠ 0) (hk : As.length = k) (hF : F1 + 1 ≤ F ∧ 8 + (maxL + 11) + X1 ≤ X) (hst : st0 = As.reverse ++ rv n :: rest) (hs : csum rest ≤ 8) (hl : ls.size = nL) (hdg : decode cc pc = .ok (.invokespecial idx, 3)) :
    ZRun p l e R s m args below meth c D Hs H locs (F0 m pc ls st0) rest inj rr1 := by
  intro w1 w2
  obtain ⟨hC, ⟨-, -, -, hT, -⟩, hR, r1, r2, r3, r4⟩ := C
  rw [rv_pos hn] at hm hst
  obtain ⟨g1, g2⟩ := hH.room
  subst hst
  obtain ⟨i1, i2, i3, i4, i5, i6, i7⟩ := hw
  exact ⟨_, vx_runI (As := As) (rest := rest) hC (hm H.size (tot H) g1 g2) (cwI k hC.2.2.2.2 i1 rfl rfl rfl (hC.2.2.2.2 _ i2) (hC.2.2.2.2 _ i3) (hC.2.2.2.2 _ i4) i5 ⟨i6.1, i6.2, i7⟩ (roomOK hR hF _ _)) ⟨Z_blind, Z_pre hT hH⟩ rfl hk hl rfl (lv_room hs) hdg (fitOK hR ⟨g1, g2⟩ w1 w2)⟩
theorem Z_runIN {As : List Value} {n k : Nat} {host : String} (C : CX p l R s m args meth c D Hs cc own nL ret et F X) (hH : HP D Hs h H) (hm : CM l y (ws_ y bytes maxL none) F1 X1 inj (rv n :: As) D Hs h rr1) (hw : WIN own idx y bytes maxL k host) (hn : n ≠ 0) (hk : As.length = k) (hF : F1 + 1 ≤ F ∧ 8 + (maxL + 11) + X1 ≤ X) (hst : st0 = As.reverse ++ rv n :: rest) (hs : csum rest ≤ 8) (hl : ls.size = nL) (hdg : decode cc pc = .ok (.invokespecial idx, 3)) :
    ZRun p l e R s m args below meth c D Hs H locs (F0 m pc ls st0) rest inj rr1 := by
  intro w1 w2
  obtain ⟨hC, ⟨-, -, -, hT, -⟩, hR, r1, r2, r3, r4⟩ := C
  rw [rv_pos hn] at hm hst
  obtain ⟨g1, g2⟩ := hH.room
  subst hst
  obtain ⟨i1, i2, i3, i4, i5, i6, i7⟩ := hw
  exact ⟨_, vx_runIN (As := As) (rest := rest) hC (hm H.size (tot H) g1 g2) ⟨va_cnB k hC.2.2.2.2 i1 rfl rfl rfl (hT.2.1 _ i3 rfl) (hC.2.2.2.2 _ i2) ⟨i6.1, i6.2, i7⟩ (roomOK hR hF _ _), i5, hC.2.2.2.2 _ i4⟩ ⟨Z_blind, Z_pre hT hH⟩ rfl hk hl rfl (lv_room hs) hdg (fitOK hR ⟨g1, g2⟩ w1 w2)⟩
/-! behind a call -/
theorem V_after {g : JFrame} (hr : ZRun p l e R s m args below meth c D Hs H locs (F0 m pc ls st0) rest inj rr1) (hL : LO Hs locs)
    (kk : ∀ (a : α) (H1 : Heap) (locs1 : List Loc) (cells1 slots1 : Nat), rr1.1 = .inl a → HP D Hs rr1.2 H1 → LO Hs locs1 → W p l e R s m args below meth c H1 locs1 cells1 slots1 Q (F0 m (pc + 3) ls ((inj a).toList ++ rest)))
    (kx : ∀ (x q : Nat) (ce : Cell) (H1 : Heap) (locs1 : List Loc) (cells1 slots1 : Nat), rr1.1 = .inr (x, q + 1) → HP D Hs rr1.2 H1 → LO Hs locs1 → H1[q]? = some ce → ce.vm = .none → s.vm.findClass (exN x) = some ce.cls → vx_W p l e R s m args below meth c H1 locs1 cells1 slots1 Q (F0 m pc ls rest) q) :
    W p l e R s m args below meth c H locs cells slots Q (F0 m pc ls st0) := by
  refine W.ex fun w1 w2 => ?_
  obtain ⟨arr, hrun⟩ := hr w1 w2
  intro T hT X
  rcases hrun T hT X with ⟨v, st₀, t, T', L, h0, X', hL', e1, e2, ⟨a, ha, hv, hp⟩, st⟩ | ⟨q, st₀, t, T', L, E, ce, h0, X', hL', e1, e2, ⟨x, hx, hE, hp⟩, hce, hcv, hcl, st⟩
  · cases hv
    have hLO : LO Hs (locs ++ L) := fun q hq => (List.mem_append.mp hq).elim (hL q) (hL' q)
    obtain ⟨t2, a1, b1⟩ := kk a T'.heap (locs ++ L) _ _ ha (by rw [e1]; exact hp) hLO T' rfl X'
    exact ⟨t2, st t2 a1, b1⟩
  · have hLO : LO Hs (locs ++ L) := fun q hq => (List.mem_append.mp hq).elim (hL q) (hL' q)
    obtain ⟨t2, a1, b1⟩ := kx x q ce T'.heap (locs ++ L) _ _ hx (by rw [e1]; exact hp) hLO (by rw [e1]; exact hce) hcv (by rw [← hE]; exact hcl) T' rfl X'
    exact ⟨t2, st.trans a1, b1⟩
theorem V_after5 (hr : ZRun5 p l e R s m args below meth c D Hs H locs (F0 m pc ls st0) rest inj rr1) (hL : LO Hs locs)
    (kk : ∀ (a : α) (H1 : Heap) (locs1 : List Loc) (cells1 slots1 : Nat), rr1.1 = .inl a → HP D Hs rr1.2 H1 → LO Hs locs1 → W p l e R s m args below meth c H1 locs1 cells1 slots1 Q (F0 m (pc + 5) ls ((inj a).toList ++ rest)))
    (kx : ∀ (x q : Nat) (ce : Cell) (H1 : Heap) (locs1 : List Loc) (cells1 slots1 : Nat), rr1.1 = .inr (x, q + 1) → HP D Hs rr1.2 H1 → LO Hs locs1 → H1[q]? = some ce → ce.vm = .none → s.vm.findClass (exN x) = some ce.cls → vx_W p l e R s m args below meth c H1 locs1 cells1 slots1 Q (F0 m pc ls rest) q) :
    W p l e R s m args below meth c H locs cells slots Q (F0 m pc ls st0) := by
  refine W.ex fun w1 w2 => ?_
  obtain ⟨arr, hrun⟩ := hr w1 w2
  intro T hT X
  rcases hrun T hT X with ⟨v, st₀, t, T', L, h0, X', hL', e1, e2, ⟨a, ha, hv, hp⟩, st⟩ | ⟨q, st₀, t, T', L, E, ce, h0, X', hL', e1, e2, ⟨x, hx, hE, hp⟩, hce, hcv, hcl, st⟩
  · cases hv
    have hLO : LO Hs (locs ++ L) := fun q hq => (List.mem_append.mp hq).elim (hL q) (hL' q)
    obtain ⟨t2, a1, b1⟩ := kk a T'.heap (locs ++ L) _ _ ha (by rw [e1]; exact hp) hLO T' rfl X'
    exact ⟨t2, st t2 a1, b1⟩
  · have hLO : LO Hs (locs ++ L) := fun q hq => (List.mem_append.mp hq).elim (hL q) (hL' q)
    obtain ⟨t2, a1, b1⟩ := kx x q ce T'.heap (locs ++ L) _ _ hx (by rw [e1]; exact hp) hLO (by rw [e1]; exact hce) hcv (by rw [← hE]; exact hcl) T' rfl X'
    exact ⟨t2, st.trans a1, b1⟩
/-- a throw that leaves the method -/
theorem V_out {γ : Type} {inj2 : γ → Option Value} {rr : (γ ⊕ Ex) × Hp} {x q : Nat} {ce : Cell} (C : CX p l R s m args meth c D Hs cc own nL ret et F X) (hH : HP D Hs h H) (hL : LO Hs locs) (hrr : rr = (.inr (x, q + 1), h)) (hnc : (tableOf et).all (fun z => !covers z pc) = true) (hc : H[q]? = some ce) (hv : ce.vm = .none) (hcl : s.vm.findClass (exN x) = some ce.cls) :
    vx_W p l e R s m args below meth c H locs cells slots (ZM D Hs inj2 rr below args s) (F0 m pc ls rest) q := by
  obtain ⟨g1, g2⟩ := hH.room
  obtain ⟨-, ⟨-, hlocks, -, -, hexc⟩, hR, r1, r2, r3, r4⟩ := C
  refine vx_re (Hs.size + 1200144 - s.heap.size) (tot Hs + 5496058 - tot s.heap) (by omega) (by omega) ?_
  refine vx_out (E := exN x) (fun z hz => ?_) hlocks hc hv hcl (fun t ht hal => ?_) hL (Nat.le_refl _) (Nat.le_refl _)
  · rw [hexc] at hz
    have h9 := List.all_eq_true.mp hnc z hz
    cases hcv : covers z pc with
    | false => rfl
    | true => rw [hcv] at h9; cases h9
  · subst hrr
    exact ⟨x, rfl, rfl, by rw [ht]; exact hH⟩
theorem V_bd {γ : Type} {inj2 : γ → Option Value} {rr : (γ ⊕ Ex) × Hp} {f : Rt α} {K : α → Hp → Rt γ} (C : CX p l R s m args meth c D Hs cc own nL ret et F X) (hL : LO Hs locs) (hnc : (tableOf et).all (fun z => !covers z pc) = true) (hrun : bd f K = some rr)
    (hr : ∀ rr1, f = some rr1 → ZRun p l e R s m args below meth c D Hs H locs (F0 m pc ls st0) rest inj rr1)
    (kk : ∀ (a : α) (h1 : Hp) (H1 : Heap) (locs1 : List Loc) (cells1 slots1 : Nat), HP D Hs h1 H1 → LO Hs locs1 → K a h1 = some rr → W p l e R s m args below meth c H1 locs1 cells1 slots1 (ZM D Hs inj2 rr below args s) (F0 m (pc + 3) ls ((inj a).toList ++ rest))) :
    W p l e R s m args below meth c H locs cells slots (ZM D Hs inj2 rr below args s) (F0 m pc ls st0) := by
  match f, hrun, hr with
  | none, hrun, _ => cases hrun
  | some (.inl a, h1), hrun, hr =>
    refine V_after (g := F0 m pc ls st0) (hr _ rfl) hL (fun a' H1 locs1 cells1 slots1 ha hH hL => ?_) (fun x q ce H1 locs1 cells1 slots1 hx => by cases hx)
    cases ha
    exact kk a h1 H1 locs1 _ _ hH hL hrun
  | some (.inr ex, h1), hrun, hr =>
    refine V_after (g := F0 m pc ls st0) (hr _ rfl) hL (fun a' H1 locs1 cells1 slots1 ha => by cases ha) (fun x q ce H1 locs1 cells1 slots1 hx hH hL hc hv hcl => ?_)
    refine V_out C hH hL ?_ hnc hc hv hcl
    have : (Sum.inr ex : α ⊕ Ex) = .inr (x, q + 1) := hx
    cases this
    exact (Option.some.inj hrun).symm
theorem V_bd5 {γ : Type} {inj2 : γ → Option Value} {rr : (γ ⊕ Ex) × Hp} {f : Rt α} {K : α → Hp → Rt γ} (C : CX p l R s m args meth c D Hs cc own nL ret et F X) (hL : LO Hs locs) (hnc : (tableOf et).all (fun z => !covers z pc) = true) (hrun : bd f K = some rr)
    (hr : ∀ rr1, f = some rr1 → ZRun5 p l e R s m args below meth c D Hs H locs (F0 m pc ls st0) rest inj rr1)
    (kk : ∀ (a : α) (h1 : Hp) (H1 : Heap) (locs1 : List Loc) (cells1 slots1 : Nat), HP D Hs h1 H1 → LO Hs locs1 → K a h1 = some rr → W p l e R s m args below meth c H1 locs1 cells1 slots1 (ZM D Hs inj2 rr below args s) (F0 m (pc + 5) ls ((inj a).toList ++ rest))) :
    W p l e R s m args below meth c H locs cells slots (ZM D Hs inj2 rr below args s) (F0 m pc ls st0) := by
  match f, hrun, hr with
  | none, hrun, _ => cases hrun
  | some (.inl a, h1), hrun, hr =>
    refine V_after5 (hr _ rfl) hL (fun a' H1 locs1 cells1 slots1 ha hH hL => ?_) (fun x q ce H1 locs1 cells1 slots1 hx => by cases hx)
    cases ha
    exact kk a h1 H1 locs1 _ _ hH hL hrun
  | some (.inr ex, h1), hrun, hr =>
    refine V_after5 (hr _ rfl) hL (fun a' H1 locs1 cells1 slots1 ha => by cases ha) (fun x q ce H1 locs1 cells1 slots1 hx hH hL hc hv hcl => ?_)
    refine V_out C hH hL ?_ hnc hc hv hcl
    have : (Sum.inr ex : α ⊕ Ex) = .inr (x, q + 1) := hx
    cases this
    exact (Option.some.inj hrun).symm
/-- a call under handlers: what is thrown goes to kx -/
theorem V_bdH {γ : Type} {rr : (γ ⊕ Ex) × Hp} {f : Rt α} {K : α → Hp → Rt γ} {KX : Ex → Hp → Rt γ} (hL : LO Hs locs) (hrun : bdH f K KX = some rr)
    (hr : ∀ rr1, f = some rr1 → ZRun p l e R s m args below meth c D Hs H locs (F0 m pc ls st0) rest inj rr1)
    (kk : ∀ (a : α) (h1 : Hp) (H1 : Heap) (locs1 : List Loc) (cells1 slots1 : Nat), HP D Hs h1 H1 → LO Hs locs1 → K a h1 = some rr → W p l e R s m args below meth c H1 locs1 cells1 slots1 Q (F0 m (pc + 3) ls ((inj a).toList ++ rest)))
    (kx : ∀ (x q : Nat) (ce : Cell) (h1 : Hp) (H1 : Heap) (locs1 : List Loc) (cells1 slots1 : Nat), HP D Hs h1 H1 → LO Hs locs1 → KX (x, q + 1) h1 = some rr → H1[q]? = some ce → ce.vm = .none → s.vm.findClass (exN x) = some ce.cls → vx_W p l e R s m args below meth c H1 locs1 cells1 slots1 Q (F0 m pc ls rest) q) :
    W p l e R s m args below meth c H locs cells slots Q (F0 m pc ls st0) := by
  match f, hrun, hr with
  | none, hrun, _ => cases hrun
  | some (.inl a, h1), hrun, hr =>
    refine V_after (g := F0 m pc ls st0) (hr _ rfl) hL (fun a' H1 locs1 cells1 slots1 ha hH hL => ?_) (fun x q ce H1 locs1 cells1 slots1 hx => by cases hx)
    cases ha
    exact kk a h1 H1 locs1 _ _ hH hL hrun
  | some (.inr ex, h1), hrun, hr =>
    refine V_after (g := F0 m pc ls st0) (hr _ rfl) hL (fun a' H1 locs1 cells1 slots1 ha => by cases ha) (fun x q ce H1 locs1 cells1 slots1 hx hH hL hc hv hcl => ?_)
    have : (Sum.inr ex : α ⊕ Ex) = .inr (x, q + 1) := hx
    cases this
    exact kx x q ce h1 H1 locs1 _ _ hH hL hrun hc hv hcl
/-! the ends -/
theorem V_end {inj2 : α → Option Value} {rr : (α ⊕ Ex) × Hp} {a : α} {g : JFrame} (C : CX p l R s m args meth c D Hs cc own nL ret et F X) (hH : HP D Hs h H) (hL : LO Hs locs) (hrun : (some (.inl a, h) : Rt α) = some rr)
    (k : (∀ t : State, t.heap = H → s.WarmedH t.vm → ZQ D Hs inj2 rr args s (.returned (inj2 a)) t) → (∀ q ∈ locs, oA Hs q.base) → W p l e R s m args below meth c H locs (Hs.size + 1200144 - s.heap.size) (tot Hs + 5496058 - tot s.heap) (MQ below (ZQ D Hs inj2 rr) args s (Hs.size + 1200144 - s.heap.size) (tot Hs + 5496058 - tot s.heap) (oA Hs)) g) :
    W p l e R s m args below meth c H locs cells slots (ZM D Hs inj2 rr below args s) g := by
  obtain ⟨g1, g2⟩ := hH.room
  obtain ⟨-, -, hR, r1, r2, r3, r4⟩ := C
  refine W.re (Hs.size + 1200144 - s.heap.size) (tot Hs + 5496058 - tot s.heap) (by omega) (by omega) (vx_ret (k (fun t ht _ => ?_) hL))
  cases hrun
  exact ⟨a, rfl, rfl, by rw [ht]; exact hH⟩
theorem V_iret {rr : (Int32 ⊕ Ex) × Hp} {v : Int32} (C : CX p l R s m args meth c D Hs cc own nL (some .int) et F X) (hH : HP D Hs h H) (hL : LO Hs locs) (hrun : (some (.inl v, h) : Rt Int32) = some rr) (hdg : decode cc pc = .ok (.ireturn, 1)) : W p l e R s m args below meth c H locs cells slots (ZM D Hs iI rr below args s) (F0 m pc ls [.int v]) :=
  V_end (inj2 := iI) C hH hL hrun (fun k1 k2 => W.iret C.1.1 C.1.2.1 C.2.1.1 k1 k2 hdg C.2.1.2.1)
theorem V_zret {rr : (Int32 ⊕ Ex) × Hp} {v : Int32} (C : CX p l R s m args meth c D Hs cc own nL (some .boolean) et F X) (hH : HP D Hs h H) (hL : LO Hs locs) (hv : b01 v) (hrun : (some (.inl v, h) : Rt Int32) = some rr) (hdg : decode cc pc = .ok (.ireturn, 1)) : W p l e R s m args below meth c H locs cells slots (ZM D Hs iI rr below args s) (F0 m pc ls [.int v]) :=
  V_end (inj2 := iI) C hH hL hrun (fun k1 k2 => W.zret C.1.1 C.1.2.1 C.2.1.1 (fok_z hv).1 k1 k2 hdg C.2.1.2.1)
theorem V_lret {rr : (Int64 ⊕ Ex) × Hp} {v : Int64} (C : CX p l R s m args meth c D Hs cc own nL (some .long) et F X) (hH : HP D Hs h H) (hL : LO Hs locs) (hrun : (some (.inl v, h) : Rt Int64) = some rr) (hdg : decode cc pc = .ok (.lreturn, 1)) : W p l e R s m args below meth c H locs cells slots (ZM D Hs iL rr below args s) (F0 m pc ls [.long v]) :=
  V_end (inj2 := iL) C hH hL hrun (fun k1 k2 => W.lret C.1.1 C.1.2.1 C.2.1.1 k1 k2 hdg C.2.1.2.1)
theorem V_dret {rr : (UInt64 ⊕ Ex) × Hp} {v : UInt64} (C : CX p l R s m args meth c D Hs cc own nL (some .double) et F X) (hH : HP D Hs h H) (hL : LO Hs locs) (hrun : (some (.inl v, h) : Rt UInt64) = some rr) (hdg : decode cc pc = .ok (.dreturn, 1)) : W p l e R s m args below meth c H locs cells slots (ZM D Hs iD rr below args s) (F0 m pc ls [.double v]) :=
  V_end (inj2 := iD) C hH hL hrun (fun k1 k2 => W.dret C.1.1 C.1.2.1 C.2.1.1 k1 k2 hdg C.2.1.2.1)
theorem V_vret {rr : (Unit ⊕ Ex) × Hp} (C : CX p l R s m args meth c D Hs cc own nL none et F X) (hH : HP D Hs h H) (hL : LO Hs locs) (hrun : (some (.inl (), h) : Rt Unit) = some rr) (hdg : decode cc pc = .ok (.return_, 1)) : W p l e R s m args below meth c H locs cells slots (ZM D Hs iV rr below args s) (F0 m pc ls []) :=
  V_end (inj2 := iV) C hH hL hrun (fun k1 k2 => W.vret C.1.1 C.1.2.1 C.2.1.1 k1 k2 hdg C.2.1.2.1)
theorem V_aret {rr : (Nat ⊕ Ex) × Hp} {v : Nat} {rt : FieldType} (C : CX p l R s m args meth c D Hs cc own nL (some rt) et F X) (hrt : (∃ n, rt = .object n) ∨ ∃ t, rt = .array t) (hH : HP D Hs h H) (hL : LO Hs locs) (hrun : (some (.inl v, h) : Rt Nat) = some rr) (hdg : decode cc pc = .ok (.areturn, 1)) : W p l e R s m args below meth c H locs cells slots (ZM D Hs iR rr below args s) (F0 m pc ls [rv v]) :=
  V_end (inj2 := iR) C hH hL hrun (fun k1 k2 => W.aret C.1.1 C.1.2.1 C.2.1.1 hrt (by cases v with
    | zero => exact Or.inl rfl
    | succ v => exact Or.inr ⟨_, rfl⟩) k1 k2 hdg C.2.1.2.1)
end VR4

section WK15
variable {p : Program} {l : Launch} {e : Env} {R : Room} {s : State} {m : MethodId} {args : Array Value} {below : List Frame} {meth : Method} {c : Code} {D : va_G} {Hs : Heap} {F X : Nat}
/-! Massclaim.pay()J -/
def f_X1_pay_173 (k58 : Nat → Int64 → Int64 → Int32 → Int64 → Int32 → Nat → Hp → Rt Int64) (x0 : Nat) (x1 : Int64) (x3 : Int64) (x5 : Int32) (x6 : Int64) (x8 : Int32) (x9 : Nat) (h : Hp) : Rt Int64 :=
  k58 x0 x1 x3 x5 x6 x8 x9 h
def f_X1_pay_145 (k58 : Nat → Int64 → Int64 → Int32 → Int64 → Int32 → Nat → Hp → Rt Int64) (x0 : Nat) (x1 : Int64) (x3 : Int64) (x5 : Int32) (x6 : Int64) (x9 : Nat) (x10 : Nat) (x13 : Int64) (y0 : Int32) (h : Hp) : Rt Int64 :=
  if x13 ≤ (0 : Int64) then
  (f_X1_pay_173 k58 x0 x1 x3 x5 x6 y0 x9 h)
  else
  (if y0 = 0 then
  (f_X1_pay_173 k58 x0 x1 x3 x5 x6 y0 x9 h)
  else
  (gd (kC h x10 = 12) <| bd (f_X12_gets x10 x13 h) fun _ h2 => vl (x6 + x13) fun v4 => f_X1_pay_173 k58 x0 x1 x3 x5 v4 y0 x9 h2))
def f_X1_pay_144 (k58 : Nat → Int64 → Int64 → Int32 → Int64 → Int32 → Nat → Hp → Rt Int64) (x0 : Nat) (x1 : Int64) (x3 : Int64) (x5 : Int32) (x6 : Int64) (x9 : Nat) (x10 : Nat) (x13 : Int64) (h : Hp) : Rt Int64 :=
  f_X1_pay_145 k58 x0 x1 x3 x5 x6 x9 x10 x13 (0 : Int32) h
def f_X1_pay_140 (k58 : Nat → Int64 → Int64 → Int32 → Int64 → Int32 → Nat → Hp → Rt Int64) (x0 : Nat) (x1 : Int64) (x3 : Int64) (x5 : Int32) (x6 : Int64) (x9 : Nat) (x10 : Nat) (x13 : Int64) (h : Hp) : Rt Int64 :=
  f_X1_pay_145 k58 x0 x1 x3 x5 x6 x9 x10 x13 (1 : Int32) h
def f_X1_pay_115 (k58 : Nat → Int64 → Int64 → Int32 → Int64 → Int32 → Nat → Hp → Rt Int64) (x0 : Nat) (x1 : Int64) (x3 : Int64) (x5 : Int32) (x6 : Int64) (x8 : Int32) (x9 : Nat) (x10 : Nat) (y0 : Int64) (h : Hp) : Rt Int64 :=
  if x8 = 0 then
  (f_X1_pay_144 k58 x0 x1 x3 x5 x6 x9 x10 y0 h)
  else
  (gd (kC h x0 = 1) <| if (kI h 15 x0) = (1 : Int32) then
  (f_X1_pay_140 k58 x0 x1 x3 x5 x6 x9 x10 y0 h)
  else
  (if (kL h 17 x0) < y0 then
  (f_X1_pay_144 k58 x0 x1 x3 x5 x6 x9 x10 y0 h)
  else
  (f_X1_pay_140 k58 x0 x1 x3 x5 x6 x9 x10 y0 h)))
def f_X1_pay_103 (k58 : Nat → Int64 → Int64 → Int32 → Int64 → Int32 → Nat → Hp → Rt Int64) (x0 : Nat) (x1 : Int64) (x3 : Int64) (x5 : Int32) (x6 : Int64) (x8 : Int32) (x9 : Nat) (x10 : Nat) (x11 : Int64) (h : Hp) : Rt Int64 :=
  f_X1_pay_115 k58 x0 x1 x3 x5 x6 x8 x9 x10 x11 h
def f_X1_pay_58  : Nat → Nat → Int64 → Int64 → Int32 → Int64 → Int32 → Nat → Hp → Rt Int64
  | 0, _, _, _, _, _, _, _, _ => none
  | n + 1, x0, x1, x3, x5, x6, x8, x9, h => gd (kC h x9 = 19) <| bd (f_J16_hasNext x9 h) fun v6 h7 => if v6 = 0 then
  (some (.inl x6, h7))
  else
  (gd (kC h7 x9 = 19) <| bd (f_J16_next x9 h7) fun v9 h10 => gd (v9 = 0 ∨ kC h10 v9 = 12) <| gd (kC h10 x0 = 1) <| gd (kC h10 v9 = 12) <| bd (f_X12_due v9 (kI h10 16 x0) h10) fun v14 h15 => if x5 = 0 then
  (gd (kC h15 x0 = 1) <| if (kI h15 15 x0) = 0 then
  (f_X1_pay_103 (f_X1_pay_58 n) x0 x1 x3 x5 x6 x8 x9 v9 v14 h15)
  else
  (bd (f_X1_part v14 x3 x1 h15) fun v18 h19 => f_X1_pay_115 (f_X1_pay_58 n) x0 x1 x3 x5 x6 x8 x9 v9 v18 h19))
  else
  (f_X1_pay_103 (f_X1_pay_58 n) x0 x1 x3 x5 x6 x8 x9 v9 v14 h15))
def f_X1_pay_41  (x0 : Nat) (x1 : Int64) (x3 : Int64) (y0 : Int32) (h : Hp) : Rt Int64 :=
  gd (kC h x0 = 1) <| gd (kC h (kR h 3 x0) = 2) <| bd (f_X2_iterator (kR h 3 x0) h) fun v21 h22 => f_X1_pay_58 FU x0 x1 x3 y0 (0 : Int64) (1 : Int32) v21 h22
def f_X1_pay_13  (x0 : Nat) (y0 : Int32) (h : Hp) : Rt Int64 :=
  bd (f_X1_requireState y0 h) fun _ h25 => gd (kC h25 x0 = 1) <| bd (f_X1_due x0 (kI h25 16 x0) h25) fun v27 h28 => gd (kC h28 x0 = 1) <| vl (kL h28 17 x0) fun v30 => if v30 < v27 then
  (f_X1_pay_41 x0 v27 v30 (0 : Int32) h28)
  else
  (f_X1_pay_41 x0 v27 v30 (1 : Int32) h28)
def f_X1_pay  (x0 : Nat) (h : Hp) : Rt Int64 :=
  gd (kC h x0 = 1) <| bd (f_X1_stage x0 h) fun v31 h32 => if v31 = (3 : Int32) then
  (f_X1_pay_13 x0 (1 : Int32) h32)
  else
  (f_X1_pay_13 x0 (0 : Int32) h32)
theorem b_X1_pay_173 {rr : (Int64 ⊕ Ex) × Hp} {k58 : Nat → Int64 → Int64 → Int32 → Int64 → Int32 → Nat → Hp → Rt Int64} (C : CX p l R s m args meth c D Hs cX1_pay "Massclaim" 15 (some .long) [] 11 407) (K58 : ∀ (x0 : Nat) (x1 : Int64) (x3 : Int64) (x5 : Int32) (x6 : Int64) (x8 : Int32) (x9 : Nat) (h : Hp) (H : Heap) (locs : List Loc) (cells slots : Nat) (ls : Array Slot), HP D Hs h H → LO Hs locs → lv_has ls 15 [(0, rv x0), (1, .long x1), (3, .long x3), (5, .int x5), (6, .long x6), (8, .int x8), (9, rv x9)] → k58 x0 x1 x3 x5 x6 x8 x9 h = some rr → W p l e R s m args below meth c H locs cells slots (ZM D Hs iL rr below args s) (F0 m 58 ls [])) : ∀ (x0 : Nat) (x1 : Int64) (x3 : Int64) (x5 : Int32) (x6 : Int64) (x8 : Int32) (x9 : Nat) (h : Hp) (H : Heap) (locs : List Loc) (cells slots : Nat) (ls : Array Slot), HP D Hs h H → LO Hs locs → lv_has ls 15 [(0, rv x0), (1, .long x1), (3, .long x3), (5, .int x5), (6, .long x6), (8, .int x8), (9, rv x9)] → f_X1_pay_173 k58 x0 x1 x3 x5 x6 x8 x9 h = some rr → W p l e R s m args below meth c H locs cells slots (ZM D Hs iL rr below args s) (F0 m 173 ls []) := by
  obtain ⟨⟨hx, hb, hml, hown, hts⟩, -⟩ := id C
  have hl9 := C.2.1.2.2.1
  intro x0 x1 x3 x5 x6 x8 x9 h H locs cells slots ls hH hL hl hrun
  unfold f_X1_pay_173 at hrun
  refine lv_goto (tgt := 58) (pc := 173) hx hb dX1_pay_173 (by decide) ?_
  exact K58 x0 x1 x3 x5 x6 x8 x9 h H locs cells slots ls hH hL (lv_sub hl [0, 1, 2, 3, 4, 5, 6] rfl) hrun

theorem b_X1_pay_145 {rr : (Int64 ⊕ Ex) × Hp} {k58 : Nat → Int64 → Int64 → Int32 → Int64 → Int32 → Nat → Hp → Rt Int64} (C : CX p l R s m args meth c D Hs cX1_pay "Massclaim" 15 (some .long) [] 11 407) (K58 : ∀ (x0 : Nat) (x1 : Int64) (x3 : Int64) (x5 : Int32) (x6 : Int64) (x8 : Int32) (x9 : Nat) (h : Hp) (H : Heap) (locs : List Loc) (cells slots : Nat) (ls : Array Slot), HP D Hs h H → LO Hs locs → lv_has ls 15 [(0, rv x0), (1, .long x1), (3, .long x3), (5, .int x5), (6, .long x6), (8, .int x8), (9, rv x9)] → k58 x0 x1 x3 x5 x6 x8 x9 h = some rr → W p l e R s m args below meth c H locs cells slots (ZM D Hs iL rr below args s) (F0 m 58 ls [])) : ∀ (x0 : Nat) (x1 : Int64) (x3 : Int64) (x5 : Int32) (x6 : Int64) (x9 : Nat) (x10 : Nat) (x13 : Int64) (y0 : Int32) (h : Hp) (H : Heap) (locs : List Loc) (cells slots : Nat) (ls : Array Slot), HP D Hs h H → LO Hs locs → lv_has ls 15 [(0, rv x0), (1, .long x1), (3, .long x3), (5, .int x5), (6, .long x6), (9, rv x9), (10, rv x10), (13, .long x13)] → f_X1_pay_145 k58 x0 x1 x3 x5 x6 x9 x10 x13 y0 h = some rr → W p l e R s m args below meth c H locs cells slots (ZM D Hs iL rr below args s) (F0 m 145 ls [.int y0]) := by
  obtain ⟨⟨hx, hb, hml, hown, hts⟩, -⟩ := id C
  have hl9 := C.2.1.2.2.1
  intro x0 x1 x3 x5 x6 x9 x10 x13 y0 h H locs cells slots ls hH hL hl hrun
  unfold f_X1_pay_145 at hrun
  refine lv_istore (i := 8) (lv' := [(8, .int y0), (0, rv x0), (1, .long x1), (3, .long x3), (5, .int x5), (6, .long x6), (9, rv x9), (10, rv x10), (13, .long x13)]) (pc := 145) hx hb dX1_pay_145 hl (by decide) rfl (fun ls hl => ?_)
  refine lv_lload (pc := 147) hx hb dX1_pay_147 (lv_at hl 8 rfl) ?_
  refine lv_lconst (v := (0 : Int64)) (pc := 149) hx hb dX1_pay_149 (by decide) ?_
  refine V_lcmp_le (tgt := 173) (pc := 150) hx hb dX1_pay_150 dX1_pay_151 (by decide) (fun c_ => ?_) (fun c_ => ?_)
  · have hrun := ite_t hrun c_
    exact b_X1_pay_173 C K58 x0 x1 x3 x5 x6 y0 x9 h H locs cells slots ls hH hL (lv_sub hl [1, 2, 3, 4, 5, 0, 6] rfl) hrun
  · have hrun := ite_f hrun c_
    refine lv_iload (pc := 154) hx hb dX1_pay_154 (lv_at hl 0 rfl) ?_
    refine lv_if_eq (tgt := 173) (pc := 156) hx hb dX1_pay_156 (by decide) (fun c_ => ?_) (fun c_ => ?_)
    · have hrun := ite_t hrun c_
      exact b_X1_pay_173 C K58 x0 x1 x3 x5 x6 y0 x9 h H locs cells slots ls hH hL (lv_sub hl [1, 2, 3, 4, 5, 0, 6] rfl) hrun
    · have hrun := ite_f hrun c_
      refine V_aload (pc := 159) hx hb dX1_pay_159 (lv_at hl 7 rfl) ?_
      refine lv_lload (pc := 161) hx hb dX1_pay_161 (lv_at hl 8 rfl) ?_
      obtain ⟨c3, hrun⟩ := gd_some hrun
      refine V_bd (pc := 163) C hL rfl hrun (fun rr1 e1 => Z_runV (rest := []) C hH (m_X12_gets hl9 e1) wV_X1_475 c3 rfl (by decide) rfl rfl ⟨by decide, by decide⟩ rfl (Nat.le_of_ble_eq_true rfl) hl.1 dX1_pay_163) (fun _ h2 H locs cells slots hH hL hrun => ?_)
      refine lv_lload (pc := 166) hx hb dX1_pay_166 (lv_at hl 5 rfl) ?_
      refine lv_lload (pc := 168) hx hb dX1_pay_168 (lv_at hl 8 rfl) ?_
      refine lv_ladd (pc := 170) hx hb dX1_pay_170 ?_
      refine lv_topl (fun v4 ev4 => ?_)
      have hrun := vl_at hrun v4 ev4
      refine lv_lstore (i := 6) (lv' := [(6, .long v4), (8, .int y0), (0, rv x0), (1, .long x1), (3, .long x3), (5, .int x5), (9, rv x9), (10, rv x10), (13, .long x13)]) (pc := 171) hx hb dX1_pay_171 hl (by decide) rfl (fun ls hl => ?_)
      exact b_X1_pay_173 C K58 x0 x1 x3 x5 v4 y0 x9 h2 H locs cells slots ls hH hL (lv_sub hl [2, 3, 4, 5, 0, 1, 6] rfl) hrun

theorem b_X1_pay_144 {rr : (Int64 ⊕ Ex) × Hp} {k58 : Nat → Int64 → Int64 → Int32 → Int64 → Int32 → Nat → Hp → Rt Int64} (C : CX p l R s m args meth c D Hs cX1_pay "Massclaim" 15 (some .long) [] 11 407) (K58 : ∀ (x0 : Nat) (x1 : Int64) (x3 : Int64) (x5 : Int32) (x6 : Int64) (x8 : Int32) (x9 : Nat) (h : Hp) (H : Heap) (locs : List Loc) (cells slots : Nat) (ls : Array Slot), HP D Hs h H → LO Hs locs → lv_has ls 15 [(0, rv x0), (1, .long x1), (3, .long x3), (5, .int x5), (6, .long x6), (8, .int x8), (9, rv x9)] → k58 x0 x1 x3 x5 x6 x8 x9 h = some rr → W p l e R s m args below meth c H locs cells slots (ZM D Hs iL rr below args s) (F0 m 58 ls [])) : ∀ (x0 : Nat) (x1 : Int64) (x3 : Int64) (x5 : Int32) (x6 : Int64) (x9 : Nat) (x10 : Nat) (x13 : Int64) (h : Hp) (H : Heap) (locs : List Loc) (cells slots : Nat) (ls : Array Slot), HP D Hs h H → LO Hs locs → lv_has ls 15 [(0, rv x0), (1, .long x1), (3, .long x3), (5, .int x5), (6, .long x6), (9, rv x9), (10, rv x10), (13, .long x13)] → f_X1_pay_144 k58 x0 x1 x3 x5 x6 x9 x10 x13 h = some rr → W p l e R s m args below meth c H locs cells slots (ZM D Hs iL rr below args s) (F0 m 144 ls []) := by
  obtain ⟨⟨hx, hb, hml, hown, hts⟩, -⟩ := id C
  have hl9 := C.2.1.2.2.1
  intro x0 x1 x3 x5 x6 x9 x10 x13 h H locs cells slots ls hH hL hl hrun
  unfold f_X1_pay_144 at hrun
  refine lv_iconst (v := (0 : Int32)) (pc := 144) hx hb dX1_pay_144 (by decide) ?_
  exact b_X1_pay_145 C K58 x0 x1 x3 x5 x6 x9 x10 x13 (0 : Int32) h H locs cells slots ls hH hL (lv_sub hl [0, 1, 2, 3, 4, 5, 6, 7] rfl) hrun

theorem b_X1_pay_140 {rr : (Int64 ⊕ Ex) × Hp} {k58 : Nat → Int64 → Int64 → Int32 → Int64 → Int32 → Nat → Hp → Rt Int64} (C : CX p l R s m args meth c D Hs cX1_pay "Massclaim" 15 (some .long) [] 11 407) (K58 : ∀ (x0 : Nat) (x1 : Int64) (x3 : Int64) (x5 : Int32) (x6 : Int64) (x8 : Int32) (x9 : Nat) (h : Hp) (H : Heap) (locs : List Loc) (cells slots : Nat) (ls : Array Slot), HP D Hs h H → LO Hs locs → lv_has ls 15 [(0, rv x0), (1, .long x1), (3, .long x3), (5, .int x5), (6, .long x6), (8, .int x8), (9, rv x9)] → k58 x0 x1 x3 x5 x6 x8 x9 h = some rr → W p l e R s m args below meth c H locs cells slots (ZM D Hs iL rr below args s) (F0 m 58 ls [])) : ∀ (x0 : Nat) (x1 : Int64) (x3 : Int64) (x5 : Int32) (x6 : Int64) (x9 : Nat) (x10 : Nat) (x13 : Int64) (h : Hp) (H : Heap) (locs : List Loc) (cells slots : Nat) (ls : Array Slot), HP D Hs h H → LO Hs locs → lv_has ls 15 [(0, rv x0), (1, .long x1), (3, .long x3), (5, .int x5), (6, .long x6), (9, rv x9), (10, rv x10), (13, .long x13)] → f_X1_pay_140 k58 x0 x1 x3 x5 x6 x9 x10 x13 h = some rr → W p l e R s m args below meth c H locs cells slots (ZM D Hs iL rr below args s) (F0 m 140 ls []) := by
  obtain ⟨⟨hx, hb, hml, hown, hts⟩, -⟩ := id C
  have hl9 := C.2.1.2.2.1
  intro x0 x1 x3 x5 x6 x9 x10 x13 h H locs cells slots ls hH hL hl hrun
  unfold f_X1_pay_140 at hrun
  refine lv_iconst (v := (1 : Int32)) (pc := 140) hx hb dX1_pay_140 (by decide) ?_
  refine lv_goto (tgt := 145) (pc := 141) hx hb dX1_pay_141 (by decide) ?_
  exact b_X1_pay_145 C K58 x0 x1 x3 x5 x6 x9 x10 x13 (1 : Int32) h H locs cells slots ls hH hL (lv_sub hl [0, 1, 2, 3, 4, 5, 6, 7] rfl) hrun

theorem b_X1_pay_115 {rr : (Int64 ⊕ Ex) × Hp} {k58 : Nat → Int64 → Int64 → Int32 → Int64 → Int32 → Nat → Hp → Rt Int64} (C : CX p l R s m args meth c D Hs cX1_pay "Massclaim" 15 (some .long) [] 11 407) (K58 : ∀ (x0 : Nat) (x1 : Int64) (x3 : Int64) (x5 : Int32) (x6 : Int64) (x8 : Int32) (x9 : Nat) (h : Hp) (H : Heap) (locs : List Loc) (cells slots : Nat) (ls : Array Slot), HP D Hs h H → LO Hs locs → lv_has ls 15 [(0, rv x0), (1, .long x1), (3, .long x3), (5, .int x5), (6, .long x6), (8, .int x8), (9, rv x9)] → k58 x0 x1 x3 x5 x6 x8 x9 h = some rr → W p l e R s m args below meth c H locs cells slots (ZM D Hs iL rr below args s) (F0 m 58 ls [])) : ∀ (x0 : Nat) (x1 : Int64) (x3 : Int64) (x5 : Int32) (x6 : Int64) (x8 : Int32) (x9 : Nat) (x10 : Nat) (y0 : Int64) (h : Hp) (H : Heap) (locs : List Loc) (cells slots : Nat) (ls : Array Slot), HP D Hs h H → LO Hs locs → lv_has ls 15 [(0, rv x0), (1, .long x1), (3, .long x3), (5, .int x5), (6, .long x6), (8, .int x8), (9, rv x9), (10, rv x10)] → f_X1_pay_115 k58 x0 x1 x3 x5 x6 x8 x9 x10 y0 h = some rr → W p l e R s m args below meth c H locs cells slots (ZM D Hs iL rr below args s) (F0 m 115 ls [.long y0]) := by
  obtain ⟨⟨hx, hb, hml, hown, hts⟩, -⟩ := id C
  have hl9 := C.2.1.2.2.1
  intro x0 x1 x3 x5 x6 x8 x9 x10 y0 h H locs cells slots ls hH hL hl hrun
  unfold f_X1_pay_115 at hrun
  refine lv_lstore (i := 13) (lv' := [(13, .long y0), (0, rv x0), (1, .long x1), (3, .long x3), (5, .int x5), (6, .long x6), (8, .int x8), (9, rv x9), (10, rv x10)]) (pc := 115) hx hb dX1_pay_115 hl (by decide) rfl (fun ls hl => ?_)
  refine lv_iload (pc := 117) hx hb dX1_pay_117 (lv_at hl 6 rfl) ?_
  refine lv_if_eq (tgt := 144) (pc := 119) hx hb dX1_pay_119 (by decide) (fun c_ => ?_) (fun c_ => ?_)
  · have hrun := ite_t hrun c_
    exact b_X1_pay_144 C K58 x0 x1 x3 x5 x6 x9 x10 y0 h H locs cells slots ls hH hL (lv_sub hl [1, 2, 3, 4, 5, 7, 8, 0] rfl) hrun
  · have hrun := ite_f hrun c_
    refine V_aload_n (pc := 122) hx hb dX1_pay_122 rfl (lv_at hl 1 rfl) ?_
    obtain ⟨c5, hrun⟩ := gd_some hrun
    refine V_getI (pc := 123) C hH fr_X1_105 dX1_pay_123 c5 rfl ?_
    refine lv_iconst (v := (1 : Int32)) (pc := 126) hx hb dX1_pay_126 (by decide) ?_
    refine lv_icmp_eq (tgt := 140) (pc := 127) hx hb dX1_pay_127 (by decide) (fun c_ => ?_) (fun c_ => ?_)
    · have hrun := ite_t hrun c_
      exact b_X1_pay_140 C K58 x0 x1 x3 x5 x6 x9 x10 y0 h H locs cells slots ls hH hL (lv_sub hl [1, 2, 3, 4, 5, 7, 8, 0] rfl) hrun
    · have hrun := ite_f hrun c_
      refine lv_lload (pc := 130) hx hb dX1_pay_130 (lv_at hl 0 rfl) ?_
      refine V_aload_n (pc := 132) hx hb dX1_pay_132 rfl (lv_at hl 1 rfl) ?_
      refine V_getL (pc := 133) C hH fr_X1_111 dX1_pay_133 c5 rfl ?_
      refine V_lcmp_gt (tgt := 144) (pc := 136) hx hb dX1_pay_136 dX1_pay_137 (by decide) (fun c_ => ?_) (fun c_ => ?_)
      · have hrun := ite_t hrun c_
        exact b_X1_pay_144 C K58 x0 x1 x3 x5 x6 x9 x10 y0 h H locs cells slots ls hH hL (lv_sub hl [1, 2, 3, 4, 5, 7, 8, 0] rfl) hrun
      · have hrun := ite_f hrun c_
        exact b_X1_pay_140 C K58 x0 x1 x3 x5 x6 x9 x10 y0 h H locs cells slots ls hH hL (lv_sub hl [1, 2, 3, 4, 5, 7, 8, 0] rfl) hrun

theorem b_X1_pay_103 {rr : (Int64 ⊕ Ex) × Hp} {k58 : Nat → Int64 → Int64 → Int32 → Int64 → Int32 → Nat → Hp → Rt Int64} (C : CX p l R s m args meth c D Hs cX1_pay "Massclaim" 15 (some .long) [] 11 407) (K58 : ∀ (x0 : Nat) (x1 : Int64) (x3 : Int64) (x5 : Int32) (x6 : Int64) (x8 : Int32) (x9 : Nat) (h : Hp) (H : Heap) (locs : List Loc) (cells slots : Nat) (ls : Array Slot), HP D Hs h H → LO Hs locs → lv_has ls 15 [(0, rv x0), (1, .long x1), (3, .long x3), (5, .int x5), (6, .long x6), (8, .int x8), (9, rv x9)] → k58 x0 x1 x3 x5 x6 x8 x9 h = some rr → W p l e R s m args below meth c H locs cells slots (ZM D Hs iL rr below args s) (F0 m 58 ls [])) : ∀ (x0 : Nat) (x1 : Int64) (x3 : Int64) (x5 : Int32) (x6 : Int64) (x8 : Int32) (x9 : Nat) (x10 : Nat) (x11 : Int64) (h : Hp) (H : Heap) (locs : List Loc) (cells slots : Nat) (ls : Array Slot), HP D Hs h H → LO Hs locs → lv_has ls 15 [(0, rv x0), (1, .long x1), (3, .long x3), (5, .int x5), (6, .long x6), (8, .int x8), (9, rv x9), (10, rv x10), (11, .long x11)] → f_X1_pay_103 k58 x0 x1 x3 x5 x6 x8 x9 x10 x11 h = some rr → W p l e R s m args below meth c H locs cells slots (ZM D Hs iL rr below args s) (F0 m 103 ls []) := by
  obtain ⟨⟨hx, hb, hml, hown, hts⟩, -⟩ := id C
  have hl9 := C.2.1.2.2.1
  intro x0 x1 x3 x5 x6 x8 x9 x10 x11 h H locs cells slots ls hH hL hl hrun
  unfold f_X1_pay_103 at hrun
  refine lv_lload (pc := 103) hx hb dX1_pay_103 (lv_at hl 8 rfl) ?_
  refine lv_goto (tgt := 115) (pc := 105) hx hb dX1_pay_105 (by decide) ?_
  exact b_X1_pay_115 C K58 x0 x1 x3 x5 x6 x8 x9 x10 x11 h H locs cells slots ls hH hL (lv_sub hl [0, 1, 2, 3, 4, 5, 6, 7] rfl) hrun

theorem b_X1_pay_58 {rr : (Int64 ⊕ Ex) × Hp}  (C : CX p l R s m args meth c D Hs cX1_pay "Massclaim" 15 (some .long) [] 11 407)  : ∀ (n : Nat) (x0 : Nat) (x1 : Int64) (x3 : Int64) (x5 : Int32) (x6 : Int64) (x8 : Int32) (x9 : Nat) (h : Hp) (H : Heap) (locs : List Loc) (cells slots : Nat) (ls : Array Slot), HP D Hs h H → LO Hs locs → lv_has ls 15 [(0, rv x0), (1, .long x1), (3, .long x3), (5, .int x5), (6, .long x6), (8, .int x8), (9, rv x9)] → f_X1_pay_58 n x0 x1 x3 x5 x6 x8 x9 h = some rr → W p l e R s m args below meth c H locs cells slots (ZM D Hs iL rr below args s) (F0 m 58 ls []) := by
  obtain ⟨⟨hx, hb, hml, hown, hts⟩, -⟩ := id C
  have hl9 := C.2.1.2.2.1
  intro n
  induction n with
  | zero =>
    intro x0 x1 x3 x5 x6 x8 x9 h H locs cells slots ls hH hL hl hrun
    cases (show (none : Option _) = some rr from hrun)
  | succ n ih =>
    intro x0 x1 x3 x5 x6 x8 x9 h H locs cells slots ls hH hL hl hrun
    rw [f_X1_pay_58] at hrun
    refine V_aload (pc := 58) hx hb dX1_pay_58 (lv_at hl 6 rfl) ?_
    obtain ⟨c8, hrun⟩ := gd_some hrun
    refine V_bd5 (pc := 60) C hL rfl hrun (fun rr1 e1 => Z_runF (rest := []) C hH (m_J16_hasNext hl9 e1) rfl wF_X1_212_J16 c8 (by decide) rfl ⟨by decide, by decide⟩ rfl (Nat.le_of_ble_eq_true rfl) hl.1 dX1_pay_60) (fun v6 h7 H locs cells slots hH hL hrun => ?_)
    refine lv_if_eq (tgt := 176) (pc := 65) hx hb dX1_pay_65 (by decide) (fun c_ => ?_) (fun c_ => ?_)
    · have hrun := ite_t hrun c_
      refine lv_lload (pc := 176) hx hb dX1_pay_176 (lv_at hl 4 rfl) ?_
      exact V_lret (pc := 178) C hH hL hrun dX1_pay_178
    · have hrun := ite_f hrun c_
      refine V_aload (pc := 68) hx hb dX1_pay_68 (lv_at hl 6 rfl) ?_
      obtain ⟨c11, hrun⟩ := gd_some hrun
      refine V_bd5 (pc := 70) C hL rfl hrun (fun rr1 e1 => Z_runF (rest := []) C hH (m_J16_next hl9 e1) rfl wF_X1_217_J16 c11 (by decide) rfl ⟨by decide, by decide⟩ rfl (Nat.le_of_ble_eq_true rfl) hl.1 dX1_pay_70) (fun v9 h10 H locs cells slots hH hL hrun => ?_)
      obtain ⟨c12, hrun⟩ := gd_some hrun
      refine V_castX (pc := 75) (ci := 11) C hH rfl (by decide) q403 dX1_pay_75 c12 ?_
      refine V_astore (i := 10) (lv' := [(10, rv v9), (0, rv x0), (1, .long x1), (3, .long x3), (5, .int x5), (6, .long x6), (8, .int x8), (9, rv x9)]) (pc := 78) hx hb dX1_pay_78 hl (by decide) (by simp [rv_cat, cat_i, cat_l, cat_f, cat_d]) (fun ls hl => ?_)
      refine V_aload (pc := 80) hx hb dX1_pay_80 (lv_at hl 0 rfl) ?_
      refine V_aload_n (pc := 82) hx hb dX1_pay_82 rfl (lv_at hl 1 rfl) ?_
      obtain ⟨c13, hrun⟩ := gd_some hrun
      refine V_getI (pc := 83) C hH fr_X1_108 dX1_pay_83 c13 rfl ?_
      obtain ⟨c16, hrun⟩ := gd_some hrun
      refine V_bd (pc := 86) C hL rfl hrun (fun rr1 e1 => Z_runV (rest := []) C hH (m_X12_due hl9 e1) wV_X1_443 c16 rfl (by decide) rfl rfl ⟨by decide, by decide⟩ rfl (Nat.le_of_ble_eq_true rfl) hl.1 dX1_pay_86) (fun v14 h15 H locs cells slots hH hL hrun => ?_)
      refine lv_lstore (i := 11) (lv' := [(11, .long v14), (10, rv v9), (0, rv x0), (1, .long x1), (3, .long x3), (5, .int x5), (6, .long x6), (8, .int x8), (9, rv x9)]) (pc := 89) hx hb dX1_pay_89 hl (by decide) (by simp [rv_cat, cat_i, cat_l, cat_f, cat_d]) (fun ls hl => ?_)
      refine lv_iload (pc := 91) hx hb dX1_pay_91 (lv_at hl 5 rfl) ?_
      refine lv_if_ne (tgt := 103) (pc := 93) hx hb dX1_pay_93 (by decide) (fun c_ => ?_) (fun c_ => ?_)
      · have hrun := ite_f hrun c_
        exact b_X1_pay_103 C ih x0 x1 x3 x5 x6 x8 x9 v9 v14 h15 H locs cells slots ls hH hL (lv_sub hl [2, 3, 4, 5, 6, 7, 8, 1, 0] rfl) hrun
      · have hrun := ite_t hrun c_
        refine V_aload_n (pc := 96) hx hb dX1_pay_96 rfl (lv_at hl 2 rfl) ?_
        obtain ⟨c17, hrun⟩ := gd_some hrun
        refine V_getI (pc := 97) C hH fr_X1_105 dX1_pay_97 c17 rfl ?_
        refine lv_if_ne (tgt := 108) (pc := 100) hx hb dX1_pay_100 (by decide) (fun c_ => ?_) (fun c_ => ?_)
        · have hrun := ite_f hrun c_
          refine lv_lload (pc := 108) hx hb dX1_pay_108 (lv_at hl 0 rfl) ?_
          refine lv_lload_n (pc := 110) hx hb dX1_pay_110 rfl (lv_at hl 4 rfl) ?_
          refine lv_lload_n (pc := 111) hx hb dX1_pay_111 rfl (lv_at hl 3 rfl) ?_
          refine V_bd (pc := 112) C hL rfl hrun (fun rr1 e1 => Z_runS (rest := []) C hH (m_X1_part hl9 e1) wS_X1_347 rfl ⟨by decide, by decide⟩ rfl (Nat.le_of_ble_eq_true rfl) hl.1 dX1_pay_112) (fun v18 h19 H locs cells slots hH hL hrun => ?_)
          exact b_X1_pay_115 C ih x0 x1 x3 x5 x6 x8 x9 v9 v18 h19 H locs cells slots ls hH hL (lv_sub hl [2, 3, 4, 5, 6, 7, 8, 1] rfl) hrun
        · have hrun := ite_t hrun c_
          exact b_X1_pay_103 C ih x0 x1 x3 x5 x6 x8 x9 v9 v14 h15 H locs cells slots ls hH hL (lv_sub hl [2, 3, 4, 5, 6, 7, 8, 1, 0] rfl) hrun

theorem b_X1_pay_41 {rr : (Int64 ⊕ Ex) × Hp}  (C : CX p l R s m args meth c D Hs cX1_pay "Massclaim" 15 (some .long) [] 11 407)  : ∀ (x0 : Nat) (x1 : Int64) (x3 : Int64) (y0 : Int32) (h : Hp) (H : Heap) (locs : List Loc) (cells slots : Nat) (ls : Array Slot), HP D Hs h H → LO Hs locs → lv_has ls 15 [(0, rv x0), (1, .long x1), (3, .long x3)] → f_X1_pay_41 x0 x1 x3 y0 h = some rr → W p l e R s m args below meth c H locs cells slots (ZM D Hs iL rr below args s) (F0 m 41 ls [.int y0]) := by
  obtain ⟨⟨hx, hb, hml, hown, hts⟩, -⟩ := id C
  have hl9 := C.2.1.2.2.1
  intro x0 x1 x3 y0 h H locs cells slots ls hH hL hl hrun
  unfold f_X1_pay_41 at hrun
  refine lv_istore (i := 5) (lv' := [(5, .int y0), (0, rv x0), (1, .long x1), (3, .long x3)]) (pc := 41) hx hb dX1_pay_41 hl (by decide) rfl (fun ls hl => ?_)
  refine lv_lconst (v := (0 : Int64)) (pc := 43) hx hb dX1_pay_43 (by decide) ?_
  refine lv_lstore (i := 6) (lv' := [(6, .long (0 : Int64)), (5, .int y0), (0, rv x0), (1, .long x1), (3, .long x3)]) (pc := 44) hx hb dX1_pay_44 hl (by decide) rfl (fun ls hl => ?_)
  refine lv_iconst (v := (1 : Int32)) (pc := 46) hx hb dX1_pay_46 (by decide) ?_
  refine lv_istore (i := 8) (lv' := [(8, .int (1 : Int32)), (6, .long (0 : Int64)), (5, .int y0), (0, rv x0), (1, .long x1), (3, .long x3)]) (pc := 47) hx hb dX1_pay_47 hl (by decide) rfl (fun ls hl => ?_)
  refine V_aload_n (pc := 49) hx hb dX1_pay_49 rfl (lv_at hl 3 rfl) ?_
  obtain ⟨c20, hrun⟩ := gd_some hrun
  refine V_getR (pc := 50) C hH fr_X1_52 dX1_pay_50 c20 rfl ?_
  obtain ⟨c23, hrun⟩ := gd_some hrun
  refine V_bd (pc := 53) C hL rfl hrun (fun rr1 e1 => Z_runV (rest := []) C hH (m_X2_iterator hl9 e1) wV_X1_208 c23 rfl (by decide) rfl rfl ⟨by decide, by decide⟩ rfl (Nat.le_of_ble_eq_true rfl) hl.1 dX1_pay_53) (fun v21 h22 H locs cells slots hH hL hrun => ?_)
  refine V_astore (i := 9) (lv' := [(9, rv v21), (8, .int (1 : Int32)), (6, .long (0 : Int64)), (5, .int y0), (0, rv x0), (1, .long x1), (3, .long x3)]) (pc := 56) hx hb dX1_pay_56 hl (by decide) rfl (fun ls hl => ?_)
  exact b_X1_pay_58 C FU x0 x1 x3 y0 (0 : Int64) (1 : Int32) v21 h22 H locs cells slots ls hH hL (lv_sub hl [4, 5, 6, 3, 2, 1, 0] rfl) hrun

theorem b_X1_pay_13 {rr : (Int64 ⊕ Ex) × Hp}  (C : CX p l R s m args meth c D Hs cX1_pay "Massclaim" 15 (some .long) [] 11 407)  : ∀ (x0 : Nat) (y0 : Int32) (h : Hp) (H : Heap) (locs : List Loc) (cells slots : Nat) (ls : Array Slot), HP D Hs h H → LO Hs locs → lv_has ls 15 [(0, rv x0)] → f_X1_pay_13 x0 y0 h = some rr → W p l e R s m args below meth c H locs cells slots (ZM D Hs iL rr below args s) (F0 m 13 ls [.int y0]) := by
  obtain ⟨⟨hx, hb, hml, hown, hts⟩, -⟩ := id C
  have hl9 := C.2.1.2.2.1
  intro x0 y0 h H locs cells slots ls hH hL hl hrun
  unfold f_X1_pay_13 at hrun
  refine V_bd (pc := 13) C hL rfl hrun (fun rr1 e1 => Z_runS (rest := []) C hH (m_X1_requireState hl9 e1) wS_X1_182 rfl ⟨by decide, by decide⟩ rfl (Nat.le_of_ble_eq_true rfl) hl.1 dX1_pay_13) (fun _ h25 H locs cells slots hH hL hrun => ?_)
  refine V_aload_n (pc := 16) hx hb dX1_pay_16 rfl (lv_at hl 0 rfl) ?_
  refine V_aload_n (pc := 17) hx hb dX1_pay_17 rfl (lv_at hl 0 rfl) ?_
  obtain ⟨c26, hrun⟩ := gd_some hrun
  refine V_getI (pc := 18) C hH fr_X1_108 dX1_pay_18 c26 rfl ?_
  refine V_bd (pc := 21) C hL rfl hrun (fun rr1 e1 => Z_runV (rest := []) C hH (m_X1_due hl9 e1) wV_X1_471 c26 rfl (by decide) rfl rfl ⟨by decide, by decide⟩ rfl (Nat.le_of_ble_eq_true rfl) hl.1 dX1_pay_21) (fun v27 h28 H locs cells slots hH hL hrun => ?_)
  refine lv_lstore_n (i := 1) (lv' := [(1, .long v27), (0, rv x0)]) (pc := 24) hx hb dX1_pay_24 rfl hl (by decide) (by simp [rv_cat, cat_i, cat_l, cat_f, cat_d]) (fun ls hl => ?_)
  refine V_aload_n (pc := 25) hx hb dX1_pay_25 rfl (lv_at hl 1 rfl) ?_
  obtain ⟨c29, hrun⟩ := gd_some hrun
  refine V_getL (pc := 26) C hH fr_X1_111 dX1_pay_26 c29 rfl ?_
  refine lv_topl (fun v30 ev30 => ?_)
  have hrun := vl_at hrun v30 ev30
  refine lv_lstore_n (i := 3) (lv' := [(3, .long v30), (1, .long v27), (0, rv x0)]) (pc := 29) hx hb dX1_pay_29 rfl hl (by decide) rfl (fun ls hl => ?_)
  refine lv_lload_n (pc := 30) hx hb dX1_pay_30 rfl (lv_at hl 0 rfl) ?_
  refine lv_lload_n (pc := 31) hx hb dX1_pay_31 rfl (lv_at hl 1 rfl) ?_
  refine V_lcmp_lt (tgt := 40) (pc := 32) hx hb dX1_pay_32 dX1_pay_33 (by decide) (fun c_ => ?_) (fun c_ => ?_)
  · have hrun := ite_t hrun c_
    refine lv_iconst (v := (0 : Int32)) (pc := 40) hx hb dX1_pay_40 (by decide) ?_
    exact b_X1_pay_41 C x0 v27 v30 (0 : Int32) h28 H locs cells slots ls hH hL (lv_sub hl [2, 1, 0] rfl) hrun
  · have hrun := ite_f hrun c_
    refine lv_iconst (v := (1 : Int32)) (pc := 36) hx hb dX1_pay_36 (by decide) ?_
    refine lv_goto (tgt := 41) (pc := 37) hx hb dX1_pay_37 (by decide) ?_
    exact b_X1_pay_41 C x0 v27 v30 (1 : Int32) h28 H locs cells slots ls hH hL (lv_sub hl [2, 1, 0] rfl) hrun

theorem b_X1_pay {rr : (Int64 ⊕ Ex) × Hp}  (C : CX p l R s m args meth c D Hs cX1_pay "Massclaim" 15 (some .long) [] 11 407)  : ∀ (x0 : Nat) (h : Hp) (H : Heap) (locs : List Loc) (cells slots : Nat) (ls : Array Slot), HP D Hs h H → LO Hs locs → lv_has ls 15 [(0, rv x0)] → f_X1_pay x0 h = some rr → W p l e R s m args below meth c H locs cells slots (ZM D Hs iL rr below args s) (F0 m 0 ls []) := by
  obtain ⟨⟨hx, hb, hml, hown, hts⟩, -⟩ := id C
  have hl9 := C.2.1.2.2.1
  intro x0 h H locs cells slots ls hH hL hl hrun
  unfold f_X1_pay at hrun
  refine V_aload_n (pc := 0) hx hb dX1_pay_0 rfl (lv_at hl 0 rfl) ?_
  obtain ⟨c33, hrun⟩ := gd_some hrun
  refine V_bd (pc := 1) C hL rfl hrun (fun rr1 e1 => Z_runV (rest := []) C hH (m_X1_stage hl9 e1) wV_X1_123 c33 rfl (by decide) rfl rfl ⟨by decide, by decide⟩ rfl (Nat.le_of_ble_eq_true rfl) hl.1 dX1_pay_1) (fun v31 h32 H locs cells slots hH hL hrun => ?_)
  refine lv_iconst (v := (3 : Int32)) (pc := 4) hx hb dX1_pay_4 (by decide) ?_
  refine lv_icmp_ne (tgt := 12) (pc := 5) hx hb dX1_pay_5 (by decide) (fun c_ => ?_) (fun c_ => ?_)
  · have hrun := ite_f hrun c_
    refine lv_iconst (v := (0 : Int32)) (pc := 12) hx hb dX1_pay_12 (by decide) ?_
    exact b_X1_pay_13 C x0 (0 : Int32) h32 H locs cells slots ls hH hL (lv_sub hl [0] rfl) hrun
  · have hrun := ite_t hrun c_
    refine lv_iconst (v := (1 : Int32)) (pc := 8) hx hb dX1_pay_8 (by decide) ?_
    refine lv_goto (tgt := 13) (pc := 9) hx hb dX1_pay_9 (by decide) ?_
    exact b_X1_pay_13 C x0 (1 : Int32) h32 H locs cells slots ls hH hL (lv_sub hl [0] rfl) hrun

theorem m_X1_pay {l : Launch} {D : va_G} {Hs : Heap} {h : Hp} {rr : (Int64 ⊕ Ex) × Hp} (hl9 : l.stackTraces = false) {x0 : Nat} (hrun : f_X1_pay x0 h = some rr) : CM l yX1_pay (ws_ yX1_pay cX1_pay 15 (some .long)) 11 407 iL [rv x0] D Hs h rr := by
  refine CM.of (lv := [(0, rv x0)]) (plainFor_of_name (by decide)) hl9 (by simp [lv_args, rv_cat, cat_i, cat_l, cat_f, cat_d]) (by simp [lg_sl, rv_cat, cat_i, cat_l, cat_f, cat_d]) ?_
  intro p e R s m args below meth c H ls C hH hl hin
  exact b_X1_pay C x0 _ H [] _ _ ls hH (fun _ q => nomatch q) (lv_sub hl [0] rfl) hrun

/-! MassclaimLaw.pay(LMassclaim;[J)I -/
def f_X0_pay_10  (y0 : Nat) (h : Hp) : Rt Int32 :=
  some (.inl (1 : Int32), h)
def f_X0_pay  (x0 : Nat) (x1 : Nat) (h : Hp) : Rt Int32 :=
  gd (kC h x0 = 1) <| bdH (f_X1_pay x0 h)
  (fun v1 h2 => gd (kC h2 x1 = 102 ∧ ixo (0 : Int32) (kN h2 x1)) <| vl (tL h2 x1 ((0 : Int32)).toNatClampNeg v1) fun h5 => some (.inl (0 : Int32), h5))
  (fun ex6 h7 => if ex6.1 = 903 then
  (f_X0_pay_10 ex6.2 h7)
  else
  none)
theorem b_X0_pay_10 {rr : (Int32 ⊕ Ex) × Hp}  (C : CX p l R s m args meth c D Hs cX0_pay "MassclaimLaw" 3 (some .int) [(0, 7, 10, 19)] 12 441)  : ∀ (y0 : Nat) (h : Hp) (H : Heap) (locs : List Loc) (cells slots : Nat) (ls : Array Slot), HP D Hs h H → LO Hs locs → lv_has ls 3 [] → f_X0_pay_10 y0 h = some rr → W p l e R s m args below meth c H locs cells slots (ZM D Hs iI rr below args s) (F0 m 10 ls [rv y0]) := by
  obtain ⟨⟨hx, hb, hml, hown, hts⟩, -⟩ := id C
  have hl9 := C.2.1.2.2.1
  intro y0 h H locs cells slots ls hH hL hl hrun
  unfold f_X0_pay_10 at hrun
  refine V_astore_n (i := 2) (lv' := [(2, rv y0)]) (pc := 10) hx hb dX0_pay_10 rfl hl (by decide) rfl (fun ls hl => ?_)
  refine lv_iconst (v := (1 : Int32)) (pc := 11) hx hb dX0_pay_11 (by decide) ?_
  exact V_iret (pc := 12) C hH hL hrun dX0_pay_12

theorem b_X0_pay {rr : (Int32 ⊕ Ex) × Hp}  (C : CX p l R s m args meth c D Hs cX0_pay "MassclaimLaw" 3 (some .int) [(0, 7, 10, 19)] 12 441)  : ∀ (x0 : Nat) (x1 : Nat) (h : Hp) (H : Heap) (locs : List Loc) (cells slots : Nat) (ls : Array Slot), HP D Hs h H → LO Hs locs → lv_has ls 3 [(0, rv x0), (1, rv x1)] → f_X0_pay x0 x1 h = some rr → W p l e R s m args below meth c H locs cells slots (ZM D Hs iI rr below args s) (F0 m 0 ls []) := by
  obtain ⟨⟨hx, hb, hml, hown, hts⟩, -⟩ := id C
  have hl9 := C.2.1.2.2.1
  intro x0 x1 h H locs cells slots ls hH hL hl hrun
  unfold f_X0_pay at hrun
  refine V_aload_n (pc := 0) hx hb dX0_pay_0 rfl (lv_at hl 1 rfl) ?_
  refine lv_iconst (v := (0 : Int32)) (pc := 1) hx hb dX0_pay_1 (by decide) ?_
  refine V_aload_n (pc := 2) hx hb dX0_pay_2 rfl (lv_at hl 0 rfl) ?_
  obtain ⟨c3, hrun⟩ := gd_some hrun
  refine V_bdH (pc := 3) hL hrun (fun rr1 e1 => Z_runV (rest := [.int (0 : Int32), rv x1]) C hH (m_X1_pay hl9 e1) wV_X0_134 c3 rfl (by decide) rfl rfl ⟨by decide, by decide⟩ rfl (by simp [csum, rv_cat, cat_i, cat_l, cat_f, cat_d]) hl.1 dX0_pay_3) (fun v1 h2 H locs cells slots hH hL hrun => ?_) (fun x_ q_ ce_ h7 H locs cells slots hH hL hrun hc_ hv_ hcl_ => ?_)
  · obtain ⟨c4, hrun⟩ := gd_some hrun
    refine V_last (pc := 6) C hH hL dX0_pay_6 c4 hrun (fun h5 H locs hH hL hrun => ?_)
    refine lv_goto (tgt := 13) (pc := 7) hx hb dX0_pay_7 (by decide) ?_
    refine lv_iconst (v := (0 : Int32)) (pc := 13) hx hb dX0_pay_13 (by decide) ?_
    exact V_iret (pc := 14) C hH hL hrun dX0_pay_14
  · by_cases n903 : x_ = 903
    · subst n903
      have hrun := ite_t hrun rfl
      refine vx_catch (E := "java/lang/IllegalStateException") (name := "java/lang/IllegalStateException") hown (tableOf []) ⟨0, 7, 10, 19⟩ (tableOf []) (by rw [C.2.1.2.2.2.2]; rfl) (fun z hz => nomatch hz) (by decide) (by decide) (hts _ q585) (va_Nw.use rfl (C.2.1.2.2.2.1.2.1 _ q702 rfl)) hc_ hv_ hcl_ ?_
      exact b_X0_pay_10 C (q_ + 1) h7 H locs cells slots ls hH hL (lv_sub hl [] rfl) hrun
    have hrun := ite_f hrun n903
    cases hrun

theorem m_X0_pay {l : Launch} {D : va_G} {Hs : Heap} {h : Hp} {rr : (Int32 ⊕ Ex) × Hp} (hl9 : l.stackTraces = false) {x0 : Nat} {x1 : Nat} (hrun : f_X0_pay x0 x1 h = some rr) : CM l yX0_pay (wsW_ yX0_pay cX0_pay 3 (some .int) [(0, 7, 10, 19)]) 12 441 iI [rv x0, rv x1] D Hs h rr := by
  refine CM.ofH (lv := [(0, rv x0), (1, rv x1)]) (plainFor_of_name (by decide)) hl9 (by simp [lv_args, rv_cat, cat_i, cat_l, cat_f, cat_d]) (by simp [lg_sl, rv_cat, cat_i, cat_l, cat_f, cat_d]) ?_
  intro p e R s m args below meth c H ls C hH hl hin
  exact b_X0_pay C x0 x1 _ H [] _ _ ls hH (fun _ q => nomatch q) (lv_sub hl [0, 1] rfl) hrun

/-! MassclaimModel.payLawyers(LMassclaimModel$Claim;J)V -/
def f_X4_payLawyers_130  (x0 : Nat) (x1 : Nat) (x6 : Int64) (h : Hp) : Rt Unit :=
  gd (kC h x0 = 4) <| gd (kC h x1 = 13) <| bd (f_X13_lawyer x1 h) fun v2 h3 => gd (kC h3 (kR h 325 x0) = 102 ∧ ixo v2 (kN h3 (kR h 325 x0))) <| gd (kC h3 (kR h 325 x0) = 102 ∧ ixo v2 (kN h3 (kR h 325 x0))) <| vl (tL h3 (kR h 325 x0) (v2).toNatClampNeg ((jL h3 (kR h 325 x0) (v2).toNatClampNeg) + x6)) fun h7 => some (.inl (), h7)
def f_X4_payLawyers_35  : Nat → Nat → Nat → Int64 → Int32 → Int32 → Int64 → Int32 → Hp → Rt Unit
  | 0, _, _, _, _, _, _, _, _ => none
  | n + 1, x0, x1, x2, x4, x5, x6, x8, h => if x4 ≤ (x8 + (1 : Int32)) then
  (f_X4_payLawyers_130 x0 x1 x6 h)
  else
  (if x5 ≤ 0 then
  (f_X4_payLawyers_130 x0 x1 x6 h)
  else
  (gd (kC h x1 = 13) <| gd (kC h (kR h 1209 x1) = 18) <| bd (f_J2_get (kR h 1209 x1) (x8 + (1 : Int32)) h) fun v9 h10 => gd (kC h10 v9 = 101) <| gd (kC h10 v9 = 101 ∧ ixo (1 : Int32) (kN h10 v9)) <| gd (kC h10 x1 = 13) <| gd (kC h10 (kR h10 1209 x1) = 18) <| bd (f_J2_get (kR h10 1209 x1) x8 h10) fun v15 h16 => gd (kC h16 v15 = 101) <| gd (kC h16 v15 = 101 ∧ ixo (1 : Int32) (kN h16 v15)) <| vl ((jI h10 v9 ((1 : Int32)).toNatClampNeg) - (jI h16 v15 ((1 : Int32)).toNatClampNeg)) fun v20 => gd (¬ (x5.toInt64) = 0) <| vl ((x2 * (v20.toInt64)) / (x5.toInt64)) fun v22 => gd (kC h16 x0 = 4) <| gd (kC h16 x1 = 13) <| gd (kC h16 (kR h16 1209 x1) = 18) <| bd (f_J2_get (kR h16 1209 x1) x8 h16) fun v25 h26 => gd (kC h26 v25 = 101) <| gd (kC h26 v25 = 101 ∧ ixo (0 : Int32) (kN h26 v25)) <| gd (kC h26 (kR h16 325 x0) = 102 ∧ ixo (jI h26 v25 ((0 : Int32)).toNatClampNeg) (kN h26 (kR h16 325 x0))) <| gd (kC h26 (kR h16 325 x0) = 102 ∧ ixo (jI h26 v25 ((0 : Int32)).toNatClampNeg) (kN h26 (kR h16 325 x0))) <| vl (tL h26 (kR h16 325 x0) ((jI h26 v25 ((0 : Int32)).toNatClampNeg)).toNatClampNeg ((jL h26 (kR h16 325 x0) ((jI h26 v25 ((0 : Int32)).toNatClampNeg)).toNatClampNeg) + v22)) fun h32 => vl (x6 - v22) fun v33 => vl (x8 + (1 : Int32)) fun v34 => f_X4_payLawyers_35 n x0 x1 x2 x4 x5 v33 v34 h32))
def f_X4_payLawyers  (x0 : Nat) (x1 : Nat) (x2 : Int64) (h : Hp) : Rt Unit :=
  gd (kC h x1 = 13) <| gd (kC h (kR h 1209 x1) = 18) <| bd (f_J2_size (kR h 1209 x1) h) fun v36 h37 => gd (kC h37 x0 = 4) <| gd (kC h37 x1 = 13) <| gd (kC h37 (kR h37 1209 x1) = 18) <| bd (f_J2_get (kR h37 1209 x1) (0 : Int32) h37) fun v41 h42 => gd (kC h42 v41 = 101) <| gd (kC h42 v41 = 101 ∧ ixo (1 : Int32) (kN h42 v41)) <| vl ((kI h37 301 x0) - (jI h42 v41 ((1 : Int32)).toNatClampNeg)) fun v46 => f_X4_payLawyers_35 FU x0 x1 x2 v36 v46 x2 (0 : Int32) h42
theorem b_X4_payLawyers_130 {rr : (Unit ⊕ Ex) × Hp}  (C : CX p l R s m args meth c D Hs cX4_payLawyers "MassclaimModel" 12 none [] 5 84)  : ∀ (x0 : Nat) (x1 : Nat) (x6 : Int64) (h : Hp) (H : Heap) (locs : List Loc) (cells slots : Nat) (ls : Array Slot), HP D Hs h H → LO Hs locs → lv_has ls 12 [(0, rv x0), (1, rv x1), (6, .long x6)] → f_X4_payLawyers_130 x0 x1 x6 h = some rr → W p l e R s m args below meth c H locs cells slots (ZM D Hs iV rr below args s) (F0 m 130 ls []) := by
  obtain ⟨⟨hx, hb, hml, hown, hts⟩, -⟩ := id C
  have hl9 := C.2.1.2.2.1
  intro x0 x1 x6 h H locs cells slots ls hH hL hl hrun
  unfold f_X4_payLawyers_130 at hrun
  refine V_aload_n (pc := 130) hx hb dX4_payLawyers_130 rfl (lv_at hl 0 rfl) ?_
  obtain ⟨c1, hrun⟩ := gd_some hrun
  refine V_getR (pc := 131) C hH fr_X4_36 dX4_payLawyers_131 c1 rfl ?_
  refine V_aload_n (pc := 134) hx hb dX4_payLawyers_134 rfl (lv_at hl 1 rfl) ?_
  obtain ⟨c4, hrun⟩ := gd_some hrun
  refine V_bd (pc := 135) C hL rfl hrun (fun rr1 e1 => Z_runV (rest := [rv (kR h 325 x0)]) C hH (m_X13_lawyer hl9 e1) wV_X4_395 c4 rfl (by decide) rfl rfl ⟨by decide, by decide⟩ rfl (by simp [csum, rv_cat, cat_i, cat_l, cat_f, cat_d]) hl.1 dX4_payLawyers_135) (fun v2 h3 H locs cells slots hH hL hrun => ?_)
  refine lv_dup2_11 (pc := 138) hx hb dX4_payLawyers_138 rfl (rv_cat _) ?_
  obtain ⟨c5, hrun⟩ := gd_some hrun
  refine V_lald (pc := 139) C hH dX4_payLawyers_139 c5 ?_
  refine lv_lload (pc := 140) hx hb dX4_payLawyers_140 (lv_at hl 2 rfl) ?_
  refine lv_ladd (pc := 142) hx hb dX4_payLawyers_142 ?_
  obtain ⟨c6, hrun⟩ := gd_some hrun
  refine V_last (pc := 143) C hH hL dX4_payLawyers_143 c6 hrun (fun h7 H locs hH hL hrun => ?_)
  exact V_vret (pc := 144) C hH hL hrun dX4_payLawyers_144

theorem b_X4_payLawyers_35 {rr : (Unit ⊕ Ex) × Hp}  (C : CX p l R s m args meth c D Hs cX4_payLawyers "MassclaimModel" 12 none [] 5 84)  : ∀ (n : Nat) (x0 : Nat) (x1 : Nat) (x2 : Int64) (x4 : Int32) (x5 : Int32) (x6 : Int64) (x8 : Int32) (h : Hp) (H : Heap) (locs : List Loc) (cells slots : Nat) (ls : Array Slot), HP D Hs h H → LO Hs locs → lv_has ls 12 [(0, rv x0), (1, rv x1), (2, .long x2), (4, .int x4), (5, .int x5), (6, .long x6), (8, .int x8)] → f_X4_payLawyers_35 n x0 x1 x2 x4 x5 x6 x8 h = some rr → W p l e R s m args below meth c H locs cells slots (ZM D Hs iV rr below args s) (F0 m 35 ls []) := by
  obtain ⟨⟨hx, hb, hml, hown, hts⟩, -⟩ := id C
  have hl9 := C.2.1.2.2.1
  intro n
  induction n with
  | zero =>
    intro x0 x1 x2 x4 x5 x6 x8 h H locs cells slots ls hH hL hl hrun
    cases (show (none : Option _) = some rr from hrun)
  | succ n ih =>
    intro x0 x1 x2 x4 x5 x6 x8 h H locs cells slots ls hH hL hl hrun
    rw [f_X4_payLawyers_35] at hrun
    refine lv_iload (pc := 35) hx hb dX4_payLawyers_35 (lv_at hl 6 rfl) ?_
    refine lv_iconst (v := (1 : Int32)) (pc := 37) hx hb dX4_payLawyers_37 (by decide) ?_
    refine lv_iadd (pc := 38) hx hb dX4_payLawyers_38 ?_
    refine lv_iload (pc := 39) hx hb dX4_payLawyers_39 (lv_at hl 3 rfl) ?_
    refine lv_icmp_ge (tgt := 130) (pc := 41) hx hb dX4_payLawyers_41 (by decide) (fun c_ => ?_) (fun c_ => ?_)
    · have hrun := ite_t hrun c_
      exact b_X4_payLawyers_130 C x0 x1 x6 h H locs cells slots ls hH hL (lv_sub hl [0, 1, 5] rfl) hrun
    · have hrun := ite_f hrun c_
      refine lv_iload (pc := 44) hx hb dX4_payLawyers_44 (lv_at hl 4 rfl) ?_
      refine lv_if_le (tgt := 130) (pc := 46) hx hb dX4_payLawyers_46 (by decide) (fun c_ => ?_) (fun c_ => ?_)
      · have hrun := ite_t hrun c_
        exact b_X4_payLawyers_130 C x0 x1 x6 h H locs cells slots ls hH hL (lv_sub hl [0, 1, 5] rfl) hrun
      · have hrun := ite_f hrun c_
        refine V_aload_n (pc := 49) hx hb dX4_payLawyers_49 rfl (lv_at hl 1 rfl) ?_
        obtain ⟨c8, hrun⟩ := gd_some hrun
        refine V_getR (pc := 50) C hH fr_X4_386 dX4_payLawyers_50 c8 rfl ?_
        refine lv_iload (pc := 53) hx hb dX4_payLawyers_53 (lv_at hl 6 rfl) ?_
        refine lv_iconst (v := (1 : Int32)) (pc := 55) hx hb dX4_payLawyers_55 (by decide) ?_
        refine lv_iadd (pc := 56) hx hb dX4_payLawyers_56 ?_
        obtain ⟨c11, hrun⟩ := gd_some hrun
        refine V_bd (pc := 57) C hL rfl hrun (fun rr1 e1 => Z_runV (rest := []) C hH (m_J2_get hl9 e1) wV_X4_108 c11 rfl (by decide) rfl rfl ⟨by decide, by decide⟩ rfl (Nat.le_of_ble_eq_true rfl) hl.1 dX4_payLawyers_57) (fun v9 h10 H locs cells slots hH hL hrun => ?_)
        obtain ⟨c12, hrun⟩ := gd_some hrun
        refine V_castI (pc := 60) C hH q2109 dX4_payLawyers_60 c12 ?_
        refine lv_iconst (v := (1 : Int32)) (pc := 63) hx hb dX4_payLawyers_63 (by decide) ?_
        obtain ⟨c13, hrun⟩ := gd_some hrun
        refine V_iald (pc := 64) C hH dX4_payLawyers_64 c13 ?_
        refine V_aload_n (pc := 65) hx hb dX4_payLawyers_65 rfl (lv_at hl 1 rfl) ?_
        obtain ⟨c14, hrun⟩ := gd_some hrun
        refine V_getR (pc := 66) C hH fr_X4_386 dX4_payLawyers_66 c14 rfl ?_
        refine lv_iload (pc := 69) hx hb dX4_payLawyers_69 (lv_at hl 6 rfl) ?_
        obtain ⟨c17, hrun⟩ := gd_some hrun
        refine V_bd (pc := 71) C hL rfl hrun (fun rr1 e1 => Z_runV (rest := [.int (jI h10 v9 ((1 : Int32)).toNatClampNeg)]) C hH (m_J2_get hl9 e1) wV_X4_108 c17 rfl (by decide) rfl rfl ⟨by decide, by decide⟩ rfl (Nat.le_of_ble_eq_true rfl) hl.1 dX4_payLawyers_71) (fun v15 h16 H locs cells slots hH hL hrun => ?_)
        obtain ⟨c18, hrun⟩ := gd_some hrun
        refine V_castI (pc := 74) C hH q2109 dX4_payLawyers_74 c18 ?_
        refine lv_iconst (v := (1 : Int32)) (pc := 77) hx hb dX4_payLawyers_77 (by decide) ?_
        obtain ⟨c19, hrun⟩ := gd_some hrun
        refine V_iald (pc := 78) C hH dX4_payLawyers_78 c19 ?_
        refine lv_isub (pc := 79) hx hb dX4_payLawyers_79 ?_
        refine lv_topi (fun v20 ev20 => ?_)
        have hrun := vl_at hrun v20 ev20
        refine lv_istore (i := 9) (lv' := [(9, .int v20), (0, rv x0), (1, rv x1), (2, .long x2), (4, .int x4), (5, .int x5), (6, .long x6), (8, .int x8)]) (pc := 80) hx hb dX4_payLawyers_80 hl (by decide) rfl (fun ls hl => ?_)
        refine lv_lload_n (pc := 82) hx hb dX4_payLawyers_82 rfl (lv_at hl 3 rfl) ?_
        refine lv_iload (pc := 83) hx hb dX4_payLawyers_83 (lv_at hl 0 rfl) ?_
        refine lv_i2l (pc := 85) hx hb dX4_payLawyers_85 rfl ?_
        refine lv_lmul (pc := 86) hx hb dX4_payLawyers_86 ?_
        refine lv_iload (pc := 87) hx hb dX4_payLawyers_87 (lv_at hl 5 rfl) ?_
        refine lv_i2l (pc := 89) hx hb dX4_payLawyers_89 rfl ?_
        obtain ⟨c21, hrun⟩ := gd_some hrun
        refine lv_ldiv (pc := 90) hx hb dX4_payLawyers_90 c21 ?_
        refine lv_topl (fun v22 ev22 => ?_)
        have hrun := vl_at hrun v22 ev22
        refine lv_lstore (i := 10) (lv' := [(10, .long v22), (9, .int v20), (0, rv x0), (1, rv x1), (2, .long x2), (4, .int x4), (5, .int x5), (6, .long x6), (8, .int x8)]) (pc := 91) hx hb dX4_payLawyers_91 hl (by decide) rfl (fun ls hl => ?_)
        refine V_aload_n (pc := 93) hx hb dX4_payLawyers_93 rfl (lv_at hl 2 rfl) ?_
        obtain ⟨c23, hrun⟩ := gd_some hrun
        refine V_getR (pc := 94) C hH fr_X4_36 dX4_payLawyers_94 c23 rfl ?_
        refine V_aload_n (pc := 97) hx hb dX4_payLawyers_97 rfl (lv_at hl 3 rfl) ?_
        obtain ⟨c24, hrun⟩ := gd_some hrun
        refine V_getR (pc := 98) C hH fr_X4_386 dX4_payLawyers_98 c24 rfl ?_
        refine lv_iload (pc := 101) hx hb dX4_payLawyers_101 (lv_at hl 8 rfl) ?_
        obtain ⟨c27, hrun⟩ := gd_some hrun
        refine V_bd (pc := 103) C hL rfl hrun (fun rr1 e1 => Z_runV (rest := [rv (kR h16 325 x0)]) C hH (m_J2_get hl9 e1) wV_X4_108 c27 rfl (by decide) rfl rfl ⟨by decide, by decide⟩ rfl (by simp [csum, rv_cat, cat_i, cat_l, cat_f, cat_d]) hl.1 dX4_payLawyers_103) (fun v25 h26 H locs cells slots hH hL hrun => ?_)
        obtain ⟨c28, hrun⟩ := gd_some hrun
        refine V_castI (pc := 106) C hH q2109 dX4_payLawyers_106 c28 ?_
        refine lv_iconst (v := (0 : Int32)) (pc := 109) hx hb dX4_payLawyers_109 (by decide) ?_
        obtain ⟨c29, hrun⟩ := gd_some hrun
        refine V_iald (pc := 110) C hH dX4_payLawyers_110 c29 ?_
        refine lv_dup2_11 (pc := 111) hx hb dX4_payLawyers_111 rfl (rv_cat _) ?_
        obtain ⟨c30, hrun⟩ := gd_some hrun
        refine V_lald (pc := 112) C hH dX4_payLawyers_112 c30 ?_
        refine lv_lload (pc := 113) hx hb dX4_payLawyers_113 (lv_at hl 0 rfl) ?_
        refine lv_ladd (pc := 115) hx hb dX4_payLawyers_115 ?_
        obtain ⟨c31, hrun⟩ := gd_some hrun
        refine V_last (pc := 116) C hH hL dX4_payLawyers_116 c31 hrun (fun h32 H locs hH hL hrun => ?_)
        refine lv_lload (pc := 117) hx hb dX4_payLawyers_117 (lv_at hl 7 rfl) ?_
        refine lv_lload (pc := 119) hx hb dX4_payLawyers_119 (lv_at hl 0 rfl) ?_
        refine lv_lsub (pc := 121) hx hb dX4_payLawyers_121 ?_
        refine lv_topl (fun v33 ev33 => ?_)
        have hrun := vl_at hrun v33 ev33
        refine lv_lstore (i := 6) (lv' := [(6, .long v33), (10, .long v22), (9, .int v20), (0, rv x0), (1, rv x1), (2, .long x2), (4, .int x4), (5, .int x5), (8, .int x8)]) (pc := 122) hx hb dX4_payLawyers_122 hl (by decide) rfl (fun ls hl => ?_)
        obtain ⟨v34, ev34⟩ : ∃ y : Int32, y = x8 + (1 : Int32) := ⟨_, rfl⟩
        have hrun := vl_at hrun v34 ev34
        refine lv_iinc (v := v34) (lv' := [(8, .int v34), (6, .long v33), (10, .long v22), (9, .int v20), (0, rv x0), (1, rv x1), (2, .long x2), (4, .int x4), (5, .int x5)]) (pc := 124) hx hb dX4_payLawyers_124 hl (k := 8) rfl (by rw [ev34]; rfl) (by decide) (by first | rfl | simp [rv_cat, cat_i, cat_l, cat_f, cat_d]) (fun ls hl => ?_)
        refine lv_goto (tgt := 35) (pc := 127) hx hb dX4_payLawyers_127 (by decide) ?_
        exact ih x0 x1 x2 x4 x5 v33 v34 h32 H locs cells slots ls hH hL (lv_sub hl [4, 5, 6, 7, 8, 1, 0] rfl) hrun

theorem b_X4_payLawyers {rr : (Unit ⊕ Ex) × Hp}  (C : CX p l R s m args meth c D Hs cX4_payLawyers "MassclaimModel" 12 none [] 5 84)  : ∀ (x0 : Nat) (x1 : Nat) (x2 : Int64) (h : Hp) (H : Heap) (locs : List Loc) (cells slots : Nat) (ls : Array Slot), HP D Hs h H → LO Hs locs → lv_has ls 12 [(0, rv x0), (1, rv x1), (2, .long x2)] → f_X4_payLawyers x0 x1 x2 h = some rr → W p l e R s m args below meth c H locs cells slots (ZM D Hs iV rr below args s) (F0 m 0 ls []) := by
  obtain ⟨⟨hx, hb, hml, hown, hts⟩, -⟩ := id C
  have hl9 := C.2.1.2.2.1
  intro x0 x1 x2 h H locs cells slots ls hH hL hl hrun
  unfold f_X4_payLawyers at hrun
  refine V_aload_n (pc := 0) hx hb dX4_payLawyers_0 rfl (lv_at hl 1 rfl) ?_
  obtain ⟨c35, hrun⟩ := gd_some hrun
  refine V_getR (pc := 1) C hH fr_X4_386 dX4_payLawyers_1 c35 rfl ?_
  obtain ⟨c38, hrun⟩ := gd_some hrun
  refine V_bd (pc := 4) C hL rfl hrun (fun rr1 e1 => Z_runV (rest := []) C hH (m_J2_size hl9 e1) wV_X4_94 c38 rfl (by decide) rfl rfl ⟨by decide, by decide⟩ rfl (Nat.le_of_ble_eq_true rfl) hl.1 dX4_payLawyers_4) (fun v36 h37 H locs cells slots hH hL hrun => ?_)
  refine lv_istore (i := 4) (lv' := [(4, .int v36), (0, rv x0), (1, rv x1), (2, .long x2)]) (pc := 7) hx hb dX4_payLawyers_7 hl (by decide) rfl (fun ls hl => ?_)
  refine V_aload_n (pc := 9) hx hb dX4_payLawyers_9 rfl (lv_at hl 1 rfl) ?_
  obtain ⟨c39, hrun⟩ := gd_some hrun
  refine V_getI (pc := 10) C hH fr_X4_43 dX4_payLawyers_10 c39 rfl ?_
  refine V_aload_n (pc := 13) hx hb dX4_payLawyers_13 rfl (lv_at hl 2 rfl) ?_
  obtain ⟨c40, hrun⟩ := gd_some hrun
  refine V_getR (pc := 14) C hH fr_X4_386 dX4_payLawyers_14 c40 rfl ?_
  refine lv_iconst (v := (0 : Int32)) (pc := 17) hx hb dX4_payLawyers_17 (by decide) ?_
  obtain ⟨c43, hrun⟩ := gd_some hrun
  refine V_bd (pc := 18) C hL rfl hrun (fun rr1 e1 => Z_runV (rest := [.int (kI h37 301 x0)]) C hH (m_J2_get hl9 e1) wV_X4_108 c43 rfl (by decide) rfl rfl ⟨by decide, by decide⟩ rfl (Nat.le_of_ble_eq_true rfl) hl.1 dX4_payLawyers_18) (fun v41 h42 H locs cells slots hH hL hrun => ?_)
  obtain ⟨c44, hrun⟩ := gd_some hrun
  refine V_castI (pc := 21) C hH q2109 dX4_payLawyers_21 c44 ?_
  refine lv_iconst (v := (1 : Int32)) (pc := 24) hx hb dX4_payLawyers_24 (by decide) ?_
  obtain ⟨c45, hrun⟩ := gd_some hrun
  refine V_iald (pc := 25) C hH dX4_payLawyers_25 c45 ?_
  refine lv_isub (pc := 26) hx hb dX4_payLawyers_26 ?_
  refine lv_topi (fun v46 ev46 => ?_)
  have hrun := vl_at hrun v46 ev46
  refine lv_istore (i := 5) (lv' := [(5, .int v46), (4, .int v36), (0, rv x0), (1, rv x1), (2, .long x2)]) (pc := 27) hx hb dX4_payLawyers_27 hl (by decide) rfl (fun ls hl => ?_)
  refine lv_lload_n (pc := 29) hx hb dX4_payLawyers_29 rfl (lv_at hl 4 rfl) ?_
  refine lv_lstore (i := 6) (lv' := [(6, .long x2), (5, .int v46), (4, .int v36), (0, rv x0), (1, rv x1), (2, .long x2)]) (pc := 30) hx hb dX4_payLawyers_30 hl (by decide) rfl (fun ls hl => ?_)
  refine lv_iconst (v := (0 : Int32)) (pc := 32) hx hb dX4_payLawyers_32 (by decide) ?_
  refine lv_istore (i := 8) (lv' := [(8, .int (0 : Int32)), (6, .long x2), (5, .int v46), (4, .int v36), (0, rv x0), (1, rv x1), (2, .long x2)]) (pc := 33) hx hb dX4_payLawyers_33 hl (by decide) rfl (fun ls hl => ?_)
  exact b_X4_payLawyers_35 C FU x0 x1 x2 v36 v46 x2 (0 : Int32) h42 H locs cells slots ls hH hL (lv_sub hl [4, 5, 6, 3, 2, 1, 0] rfl) hrun

theorem m_X4_payLawyers {l : Launch} {D : va_G} {Hs : Heap} {h : Hp} {rr : (Unit ⊕ Ex) × Hp} (hl9 : l.stackTraces = false) {x0 : Nat} {x1 : Nat} {x2 : Int64} (hrun : f_X4_payLawyers x0 x1 x2 h = some rr) : CM l yX4_payLawyers (ws_ yX4_payLawyers cX4_payLawyers 12 none) 5 84 iV [rv x0, rv x1, .long x2] D Hs h rr := by
  refine CM.of (lv := [(0, rv x0), (1, rv x1), (2, .long x2)]) (plainFor_of_name (by decide)) hl9 (by simp [lv_args, rv_cat, cat_i, cat_l, cat_f, cat_d]) (by simp [lg_sl, rv_cat, cat_i, cat_l, cat_f, cat_d]) ?_
  intro p e R s m args below meth c H ls C hH hl hin
  exact b_X4_payLawyers C x0 x1 x2 _ H [] _ _ ls hH (fun _ q => nomatch q) (lv_sub hl [0, 1, 2] rfl) hrun

/-! MassclaimModel.payLiens(LMassclaimModel$Person;J)J -/
def f_X4_payLiens_109 (k6 : Nat → Nat → Int64 → Int64 → Int32 → Hp → Rt Int64) (x0 : Nat) (x1 : Nat) (x2 : Int64) (x4 : Int64) (x6 : Int32) (h : Hp) : Rt Int64 :=
  vl (x6 + (1 : Int32)) fun v1 => k6 x0 x1 x2 x4 v1 h
def f_X4_payLiens_70 (k6 : Nat → Nat → Int64 → Int64 → Int32 → Hp → Rt Int64) (x0 : Nat) (x1 : Nat) (x2 : Int64) (x4 : Int64) (x6 : Int32) (x7 : Nat) (y0 : Int64) (y1 : Int64) (y2 : Int64) (h : Hp) : Rt Int64 :=
  bd (f_J10_min y1 y2 h) fun v2 h3 => bd (f_J10_min y0 v2 h3) fun v4 h5 => gd (kC h5 x7 = 17) <| vl (sI h5 1601 x7 ((kI h5 1601 x7) - (v4.toInt32))) fun h7 => gd (kC h7 x0 = 4) <| vl (sL h7 326 x0 ((kL h7 326 x0) + v4)) fun h9 => vl (x4 - v4) fun v10 => f_X4_payLiens_109 k6 x0 x1 x2 v10 x6 h9
def f_X4_payLiens_6  : Nat → Nat → Nat → Int64 → Int64 → Int32 → Hp → Rt Int64
  | 0, _, _, _, _, _, _ => none
  | n + 1, x0, x1, x2, x4, x6, h => gd (kC h x0 = 4) <| gd (kC h (kR h 321 x0) = 18) <| bd (f_J2_size (kR h 321 x0) h) fun v12 h13 => if v12 ≤ x6 then
  (some (.inl x4, h13))
  else
  (gd (kC h13 x0 = 4) <| gd (kC h13 (kR h13 321 x0) = 18) <| bd (f_J2_get (kR h13 321 x0) x6 h13) fun v16 h17 => gd (v16 = 0 ∨ kC h17 v16 = 17) <| gd (kC h17 v16 = 17) <| if (kR h17 1600 v16) = x1 then
  (if (kI h17 1602 v16) = 0 then
  (f_X4_payLiens_70 (f_X4_payLiens_6 n) x0 x1 x2 x4 x6 v16 x4 ((kI h17 1601 v16).toInt64) (x2 / (2 : Int64)) h17)
  else
  (f_X4_payLiens_70 (f_X4_payLiens_6 n) x0 x1 x2 x4 x6 v16 x4 ((kI h17 1601 v16).toInt64) (x2 / (3 : Int64)) h17))
  else
  (f_X4_payLiens_109 (f_X4_payLiens_6 n) x0 x1 x2 x4 x6 h17))
def f_X4_payLiens  (x0 : Nat) (x1 : Nat) (x2 : Int64) (h : Hp) : Rt Int64 :=
  f_X4_payLiens_6 FU x0 x1 x2 x2 (0 : Int32) h
theorem b_X4_payLiens_109 {rr : (Int64 ⊕ Ex) × Hp} {k6 : Nat → Nat → Int64 → Int64 → Int32 → Hp → Rt Int64} (C : CX p l R s m args meth c D Hs cX4_payLiens "MassclaimModel" 10 (some .long) [] 4 64) (K6 : ∀ (x0 : Nat) (x1 : Nat) (x2 : Int64) (x4 : Int64) (x6 : Int32) (h : Hp) (H : Heap) (locs : List Loc) (cells slots : Nat) (ls : Array Slot), HP D Hs h H → LO Hs locs → lv_has ls 10 [(0, rv x0), (1, rv x1), (2, .long x2), (4, .long x4), (6, .int x6)] → k6 x0 x1 x2 x4 x6 h = some rr → W p l e R s m args below meth c H locs cells slots (ZM D Hs iL rr below args s) (F0 m 6 ls [])) : ∀ (x0 : Nat) (x1 : Nat) (x2 : Int64) (x4 : Int64) (x6 : Int32) (h : Hp) (H : Heap) (locs : List Loc) (cells slots : Nat) (ls : Array Slot), HP D Hs h H → LO Hs locs → lv_has ls 10 [(0, rv x0), (1, rv x1), (2, .long x2), (4, .long x4), (6, .int x6)] → f_X4_payLiens_109 k6 x0 x1 x2 x4 x6 h = some rr → W p l e R s m args below meth c H locs cells slots (ZM D Hs iL rr below args s) (F0 m 109 ls []) := by
  obtain ⟨⟨hx, hb, hml, hown, hts⟩, -⟩ := id C
  have hl9 := C.2.1.2.2.1
  intro x0 x1 x2 x4 x6 h H locs cells slots ls hH hL hl hrun
  unfold f_X4_payLiens_109 at hrun
  obtain ⟨v1, ev1⟩ : ∃ y : Int32, y = x6 + (1 : Int32) := ⟨_, rfl⟩
  have hrun := vl_at hrun v1 ev1
  refine lv_iinc (v := v1) (lv' := [(6, .int v1), (0, rv x0), (1, rv x1), (2, .long x2), (4, .long x4)]) (pc := 109) hx hb dX4_payLiens_109 hl (k := 4) rfl (by rw [ev1]; rfl) (by decide) (by first | rfl | simp [rv_cat, cat_i, cat_l, cat_f, cat_d]) (fun ls hl => ?_)
  refine lv_goto (tgt := 6) (pc := 112) hx hb dX4_payLiens_112 (by decide) ?_
  exact K6 x0 x1 x2 x4 v1 h H locs cells slots ls hH hL (lv_sub hl [1, 2, 3, 4, 0] rfl) hrun

theorem b_X4_payLiens_70 {rr : (Int64 ⊕ Ex) × Hp} {k6 : Nat → Nat → Int64 → Int64 → Int32 → Hp → Rt Int64} (C : CX p l R s m args meth c D Hs cX4_payLiens "MassclaimModel" 10 (some .long) [] 4 64) (K6 : ∀ (x0 : Nat) (x1 : Nat) (x2 : Int64) (x4 : Int64) (x6 : Int32) (h : Hp) (H : Heap) (locs : List Loc) (cells slots : Nat) (ls : Array Slot), HP D Hs h H → LO Hs locs → lv_has ls 10 [(0, rv x0), (1, rv x1), (2, .long x2), (4, .long x4), (6, .int x6)] → k6 x0 x1 x2 x4 x6 h = some rr → W p l e R s m args below meth c H locs cells slots (ZM D Hs iL rr below args s) (F0 m 6 ls [])) : ∀ (x0 : Nat) (x1 : Nat) (x2 : Int64) (x4 : Int64) (x6 : Int32) (x7 : Nat) (y0 : Int64) (y1 : Int64) (y2 : Int64) (h : Hp) (H : Heap) (locs : List Loc) (cells slots : Nat) (ls : Array Slot), HP D Hs h H → LO Hs locs → lv_has ls 10 [(0, rv x0), (1, rv x1), (2, .long x2), (4, .long x4), (6, .int x6), (7, rv x7)] → f_X4_payLiens_70 k6 x0 x1 x2 x4 x6 x7 y0 y1 y2 h = some rr → W p l e R s m args below meth c H locs cells slots (ZM D Hs iL rr below args s) (F0 m 70 ls [.long y2, .long y1, .long y0]) := by
  obtain ⟨⟨hx, hb, hml, hown, hts⟩, -⟩ := id C
  have hl9 := C.2.1.2.2.1
  intro x0 x1 x2 x4 x6 x7 y0 y1 y2 h H locs cells slots ls hH hL hl hrun
  unfold f_X4_payLiens_70 at hrun
  refine V_bd (pc := 70) C hL rfl hrun (fun rr1 e1 => Z_runS (rest := [.long y0]) C hH (m_J10_min hl9 e1) wS_X4_320 rfl ⟨by decide, by decide⟩ rfl (Nat.le_of_ble_eq_true rfl) hl.1 dX4_payLiens_70) (fun v2 h3 H locs cells slots hH hL hrun => ?_)
  refine V_bd (pc := 73) C hL rfl hrun (fun rr1 e1 => Z_runS (rest := []) C hH (m_J10_min hl9 e1) wS_X4_320 rfl ⟨by decide, by decide⟩ rfl (Nat.le_of_ble_eq_true rfl) hl.1 dX4_payLiens_73) (fun v4 h5 H locs cells slots hH hL hrun => ?_)
  refine lv_lstore (i := 8) (lv' := [(8, .long v4), (0, rv x0), (1, rv x1), (2, .long x2), (4, .long x4), (6, .int x6), (7, rv x7)]) (pc := 76) hx hb dX4_payLiens_76 hl (by decide) (by simp [rv_cat, cat_i, cat_l, cat_f, cat_d]) (fun ls hl => ?_)
  refine V_aload (pc := 78) hx hb dX4_payLiens_78 (lv_at hl 6 rfl) ?_
  refine lv_dup (pc := 80) hx hb dX4_payLiens_80 (rv_cat _) ?_
  obtain ⟨c6, hrun⟩ := gd_some hrun
  refine V_getI (pc := 81) C hH fr_X4_262 dX4_payLiens_81 c6 rfl ?_
  refine lv_lload (pc := 84) hx hb dX4_payLiens_84 (lv_at hl 0 rfl) ?_
  refine lv_l2i (pc := 86) hx hb dX4_payLiens_86 rfl ?_
  refine lv_isub (pc := 87) hx hb dX4_payLiens_87 ?_
  refine V_putI (pc := 88) C hH hL fl_X4_262 dX4_payLiens_88 c6 (fok_i _) rfl (fun q => Bool.noConfusion q) hrun (fun h7 H locs hH hL hrun => ?_)
  refine V_aload_n (pc := 91) hx hb dX4_payLiens_91 rfl (lv_at hl 1 rfl) ?_
  refine lv_dup (pc := 92) hx hb dX4_payLiens_92 (rv_cat _) ?_
  obtain ⟨c8, hrun⟩ := gd_some hrun
  refine V_getL (pc := 93) C hH fr_X4_85 dX4_payLiens_93 c8 rfl ?_
  refine lv_lload (pc := 96) hx hb dX4_payLiens_96 (lv_at hl 0 rfl) ?_
  refine lv_ladd (pc := 98) hx hb dX4_payLiens_98 ?_
  refine V_putL (pc := 99) C hH hL fl_X4_85 dX4_payLiens_99 c8 (fok_l _) rfl (fun q => Bool.noConfusion q) hrun (fun h9 H locs hH hL hrun => ?_)
  refine lv_lload (pc := 102) hx hb dX4_payLiens_102 (lv_at hl 4 rfl) ?_
  refine lv_lload (pc := 104) hx hb dX4_payLiens_104 (lv_at hl 0 rfl) ?_
  refine lv_lsub (pc := 106) hx hb dX4_payLiens_106 ?_
  refine lv_topl (fun v10 ev10 => ?_)
  have hrun := vl_at hrun v10 ev10
  refine lv_lstore (i := 4) (lv' := [(4, .long v10), (8, .long v4), (0, rv x0), (1, rv x1), (2, .long x2), (6, .int x6), (7, rv x7)]) (pc := 107) hx hb dX4_payLiens_107 hl (by decide) rfl (fun ls hl => ?_)
  exact b_X4_payLiens_109 C K6 x0 x1 x2 v10 x6 h9 H locs cells slots ls hH hL (lv_sub hl [2, 3, 4, 0, 5] rfl) hrun

theorem b_X4_payLiens_6 {rr : (Int64 ⊕ Ex) × Hp}  (C : CX p l R s m args meth c D Hs cX4_payLiens "MassclaimModel" 10 (some .long) [] 4 64)  : ∀ (n : Nat) (x0 : Nat) (x1 : Nat) (x2 : Int64) (x4 : Int64) (x6 : Int32) (h : Hp) (H : Heap) (locs : List Loc) (cells slots : Nat) (ls : Array Slot), HP D Hs h H → LO Hs locs → lv_has ls 10 [(0, rv x0), (1, rv x1), (2, .long x2), (4, .long x4), (6, .int x6)] → f_X4_payLiens_6 n x0 x1 x2 x4 x6 h = some rr → W p l e R s m args below meth c H locs cells slots (ZM D Hs iL rr below args s) (F0 m 6 ls []) := by
  obtain ⟨⟨hx, hb, hml, hown, hts⟩, -⟩ := id C
  have hl9 := C.2.1.2.2.1
  intro n
  induction n with
  | zero =>
    intro x0 x1 x2 x4 x6 h H locs cells slots ls hH hL hl hrun
    cases (show (none : Option _) = some rr from hrun)
  | succ n ih =>
    intro x0 x1 x2 x4 x6 h H locs cells slots ls hH hL hl hrun
    rw [f_X4_payLiens_6] at hrun
    refine lv_iload (pc := 6) hx hb dX4_payLiens_6 (lv_at hl 4 rfl) ?_
    refine V_aload_n (pc := 8) hx hb dX4_payLiens_8 rfl (lv_at hl 0 rfl) ?_
    obtain ⟨c11, hrun⟩ := gd_some hrun
    refine V_getR (pc := 9) C hH fr_X4_33 dX4_payLiens_9 c11 rfl ?_
    obtain ⟨c14, hrun⟩ := gd_some hrun
    refine V_bd (pc := 12) C hL rfl hrun (fun rr1 e1 => Z_runV (rest := [.int x6]) C hH (m_J2_size hl9 e1) wV_X4_94 c14 rfl (by decide) rfl rfl ⟨by decide, by decide⟩ rfl (Nat.le_of_ble_eq_true rfl) hl.1 dX4_payLiens_12) (fun v12 h13 H locs cells slots hH hL hrun => ?_)
    refine lv_icmp_ge (tgt := 115) (pc := 15) hx hb dX4_payLiens_15 (by decide) (fun c_ => ?_) (fun c_ => ?_)
    · have hrun := ite_t hrun c_
      refine lv_lload (pc := 115) hx hb dX4_payLiens_115 (lv_at hl 3 rfl) ?_
      exact V_lret (pc := 117) C hH hL hrun dX4_payLiens_117
    · have hrun := ite_f hrun c_
      refine V_aload_n (pc := 18) hx hb dX4_payLiens_18 rfl (lv_at hl 0 rfl) ?_
      obtain ⟨c15, hrun⟩ := gd_some hrun
      refine V_getR (pc := 19) C hH fr_X4_33 dX4_payLiens_19 c15 rfl ?_
      refine lv_iload (pc := 22) hx hb dX4_payLiens_22 (lv_at hl 4 rfl) ?_
      obtain ⟨c18, hrun⟩ := gd_some hrun
      refine V_bd (pc := 24) C hL rfl hrun (fun rr1 e1 => Z_runV (rest := []) C hH (m_J2_get hl9 e1) wV_X4_108 c18 rfl (by decide) rfl rfl ⟨by decide, by decide⟩ rfl (Nat.le_of_ble_eq_true rfl) hl.1 dX4_payLiens_24) (fun v16 h17 H locs cells slots hH hL hrun => ?_)
      obtain ⟨c19, hrun⟩ := gd_some hrun
      refine V_castX (pc := 27) (ci := 16) C hH rfl (by decide) q2161 dX4_payLiens_27 c19 ?_
      refine V_astore (i := 7) (lv' := [(7, rv v16), (0, rv x0), (1, rv x1), (2, .long x2), (4, .long x4), (6, .int x6)]) (pc := 30) hx hb dX4_payLiens_30 hl (by decide) rfl (fun ls hl => ?_)
      refine V_aload (pc := 32) hx hb dX4_payLiens_32 (lv_at hl 0 rfl) ?_
      obtain ⟨c20, hrun⟩ := gd_some hrun
      refine V_getR (pc := 34) C hH fr_X4_258 dX4_payLiens_34 c20 rfl ?_
      refine V_aload_n (pc := 37) hx hb dX4_payLiens_37 rfl (lv_at hl 2 rfl) ?_
      refine V_acmp_ne (tgt := 109) (pc := 38) hx hb dX4_payLiens_38 (by decide) hrun (fun c_ hrun => ?_) (fun c_ hrun => ?_)
      · exact b_X4_payLiens_109 C ih x0 x1 x2 x4 x6 h17 H locs cells slots ls hH hL (lv_sub hl [1, 2, 3, 4, 5] rfl) hrun
      · refine lv_lload (pc := 41) hx hb dX4_payLiens_41 (lv_at hl 4 rfl) ?_
        refine V_aload (pc := 43) hx hb dX4_payLiens_43 (lv_at hl 0 rfl) ?_
        refine V_getI (pc := 45) C hH fr_X4_262 dX4_payLiens_45 c20 rfl ?_
        refine lv_i2l (pc := 48) hx hb dX4_payLiens_48 rfl ?_
        refine V_aload (pc := 49) hx hb dX4_payLiens_49 (lv_at hl 0 rfl) ?_
        refine V_getI (pc := 51) C hH fr_X4_455 dX4_payLiens_51 c20 rfl ?_
        refine lv_if_eq (tgt := 65) (pc := 54) hx hb dX4_payLiens_54 (by decide) (fun c_ => ?_) (fun c_ => ?_)
        · have hrun := ite_t hrun c_
          refine lv_lload_n (pc := 65) hx hb dX4_payLiens_65 rfl (lv_at hl 3 rfl) ?_
          refine lv_ldc2 (pc := 66) hx hb hown (hts _ q2170) dX4_payLiens_66 ?_
          refine lv_ldiv (pc := 69) hx hb dX4_payLiens_69 (by decide) ?_
          exact b_X4_payLiens_70 C ih x0 x1 x2 x4 x6 v16 x4 ((kI h17 1601 v16).toInt64) (x2 / (2 : Int64)) h17 H locs cells slots ls hH hL (lv_sub hl [1, 2, 3, 4, 5, 0] rfl) hrun
        · have hrun := ite_f hrun c_
          refine lv_lload_n (pc := 57) hx hb dX4_payLiens_57 rfl (lv_at hl 3 rfl) ?_
          refine lv_ldc2 (pc := 58) hx hb hown (hts _ q1978) dX4_payLiens_58 ?_
          refine lv_ldiv (pc := 61) hx hb dX4_payLiens_61 (by decide) ?_
          refine lv_goto (tgt := 70) (pc := 62) hx hb dX4_payLiens_62 (by decide) ?_
          exact b_X4_payLiens_70 C ih x0 x1 x2 x4 x6 v16 x4 ((kI h17 1601 v16).toInt64) (x2 / (3 : Int64)) h17 H locs cells slots ls hH hL (lv_sub hl [1, 2, 3, 4, 5, 0] rfl) hrun

theorem b_X4_payLiens {rr : (Int64 ⊕ Ex) × Hp}  (C : CX p l R s m args meth c D Hs cX4_payLiens "MassclaimModel" 10 (some .long) [] 4 64)  : ∀ (x0 : Nat) (x1 : Nat) (x2 : Int64) (h : Hp) (H : Heap) (locs : List Loc) (cells slots : Nat) (ls : Array Slot), HP D Hs h H → LO Hs locs → lv_has ls 10 [(0, rv x0), (1, rv x1), (2, .long x2)] → f_X4_payLiens x0 x1 x2 h = some rr → W p l e R s m args below meth c H locs cells slots (ZM D Hs iL rr below args s) (F0 m 0 ls []) := by
  obtain ⟨⟨hx, hb, hml, hown, hts⟩, -⟩ := id C
  have hl9 := C.2.1.2.2.1
  intro x0 x1 x2 h H locs cells slots ls hH hL hl hrun
  unfold f_X4_payLiens at hrun
  refine lv_lload_n (pc := 0) hx hb dX4_payLiens_0 rfl (lv_at hl 2 rfl) ?_
  refine lv_lstore (i := 4) (lv' := [(4, .long x2), (0, rv x0), (1, rv x1), (2, .long x2)]) (pc := 1) hx hb dX4_payLiens_1 hl (by decide) rfl (fun ls hl => ?_)
  refine lv_iconst (v := (0 : Int32)) (pc := 3) hx hb dX4_payLiens_3 (by decide) ?_
  refine lv_istore (i := 6) (lv' := [(6, .int (0 : Int32)), (4, .long x2), (0, rv x0), (1, rv x1), (2, .long x2)]) (pc := 4) hx hb dX4_payLiens_4 hl (by decide) rfl (fun ls hl => ?_)
  exact b_X4_payLiens_6 C FU x0 x1 x2 x2 (0 : Int32) h H locs cells slots ls hH hL (lv_sub hl [2, 3, 4, 1, 0] rfl) hrun

theorem m_X4_payLiens {l : Launch} {D : va_G} {Hs : Heap} {h : Hp} {rr : (Int64 ⊕ Ex) × Hp} (hl9 : l.stackTraces = false) {x0 : Nat} {x1 : Nat} {x2 : Int64} (hrun : f_X4_payLiens x0 x1 x2 h = some rr) : CM l yX4_payLiens (ws_ yX4_payLiens cX4_payLiens 10 (some .long)) 4 64 iL [rv x0, rv x1, .long x2] D Hs h rr := by
  refine CM.of (lv := [(0, rv x0), (1, rv x1), (2, .long x2)]) (plainFor_of_name (by decide)) hl9 (by simp [lv_args, rv_cat, cat_i, cat_l, cat_f, cat_d]) (by simp [lg_sl, rv_cat, cat_i, cat_l, cat_f, cat_d]) ?_
  intro p e R s m args below meth c H ls C hH hl hin
  exact b_X4_payLiens C x0 x1 x2 _ H [] _ _ ls hH (fun _ q => nomatch q) (lv_sub hl [0, 1, 2] rfl) hrun

/-! MassclaimModel$Row.<init>(JII)V -/
def f_X15_init  (x0 : Nat) (x1 : Int64) (x3 : Int32) (x4 : Int32) (h : Hp) : Rt Unit :=
  gd (kC h x0 = 15) <| vl (sL h 1400 x0 x1) fun h2 => gd (kC h2 x0 = 15) <| vl (sI h2 1401 x0 x3) fun h4 => gd (kC h4 x0 = 15) <| vl (sI h4 1402 x0 x4) fun h6 => some (.inl (), h6)
theorem b_X15_init {rr : (Unit ⊕ Ex) × Hp}  (C : CX p l R s m args meth c D Hs cX15_init "MassclaimModel$Row" 5 none [] 1 20) (hin : meth.name = "<init>")  : ∀ (x0 : Nat) (x1 : Int64) (x3 : Int32) (x4 : Int32) (h : Hp) (H : Heap) (locs : List Loc) (cells slots : Nat) (ls : Array Slot), HP D Hs h H → LO Hs locs → lv_has ls 5 [(0, rv x0), (1, .long x1), (3, .int x3), (4, .int x4)] → f_X15_init x0 x1 x3 x4 h = some rr → W p l e R s m args below meth c H locs cells slots (ZM D Hs iV rr below args s) (F0 m 0 ls []) := by
  obtain ⟨⟨hx, hb, hml, hown, hts⟩, -⟩ := id C
  have hl9 := C.2.1.2.2.1
  intro x0 x1 x3 x4 h H locs cells slots ls hH hL hl hrun
  unfold f_X15_init at hrun
  refine V_aload_n (pc := 0) hx hb dX15_init_0 rfl (lv_at hl 0 rfl) ?_
  obtain ⟨c1, hrun⟩ := gd_some hrun
  refine V_objInit (pc := 1) C q2450 q113 q114 (hH.pos c1) dX15_init_1 (by decide) (by simp [csum, rv_cat, cat_i, cat_l, cat_f, cat_d]) hl.1 ?_
  refine V_aload_n (pc := 4) hx hb dX15_init_4 rfl (lv_at hl 0 rfl) ?_
  refine lv_lload_n (pc := 5) hx hb dX15_init_5 rfl (lv_at hl 1 rfl) ?_
  refine V_putL (pc := 6) C hH hL fl_X15_7 dX15_init_6 c1 (fok_l _) rfl (fun q => Bool.noConfusion q) hrun (fun h2 H locs hH hL hrun => ?_)
  refine V_aload_n (pc := 9) hx hb dX15_init_9 rfl (lv_at hl 0 rfl) ?_
  refine lv_iload_n (pc := 10) hx hb dX15_init_10 rfl (lv_at hl 2 rfl) ?_
  obtain ⟨c3, hrun⟩ := gd_some hrun
  refine V_putI (pc := 11) C hH hL fl_X15_13 dX15_init_11 c3 (fok_i _) rfl (fun q => Bool.noConfusion q) hrun (fun h4 H locs hH hL hrun => ?_)
  refine V_aload_n (pc := 14) hx hb dX15_init_14 rfl (lv_at hl 0 rfl) ?_
  refine lv_iload (pc := 15) hx hb dX15_init_15 (lv_at hl 3 rfl) ?_
  obtain ⟨c5, hrun⟩ := gd_some hrun
  refine V_putI (pc := 17) C hH hL fl_X15_17 dX15_init_17 c5 (fok_i _) rfl (fun _ => hin) hrun (fun h6 H locs hH hL hrun => ?_)
  exact V_vret (pc := 20) C hH hL hrun dX15_init_20

theorem m_X15_init {l : Launch} {D : va_G} {Hs : Heap} {h : Hp} {rr : (Unit ⊕ Ex) × Hp} (hl9 : l.stackTraces = false) {x0 : Nat} {x1 : Int64} {x3 : Int32} {x4 : Int32} (hrun : f_X15_init x0 x1 x3 x4 h = some rr) : CM l yX15_init (ws_ yX15_init cX15_init 5 none) 1 20 iV [rv x0, .long x1, .int x3, .int x4] D Hs h rr := by
  refine CM.of (lv := [(0, rv x0), (1, .long x1), (3, .int x3), (4, .int x4)]) (plainFor_of_name (by decide)) hl9 (by simp [lv_args, rv_cat, cat_i, cat_l, cat_f, cat_d]) (by simp [lg_sl, rv_cat, cat_i, cat_l, cat_f, cat_d]) ?_
  intro p e R s m args below meth c H ls C hH hl hin
  exact b_X15_init C hin x0 x1 x3 x4 _ H [] _ _ ls hH (fun _ q => nomatch q) (lv_sub hl [0, 1, 2, 3] rfl) hrun

/-! MassclaimModel.deliver(LMassclaimModel$Claim;J)V -/
def f_X4_deliver_125  (h : Hp) : Rt Unit :=
  some (.inl (), h)
def f_X4_deliver  (x0 : Nat) (x1 : Nat) (x2 : Int64) (h : Hp) : Rt Unit :=
  gd (kC h x1 = 13) <| vl (kR h 1200 x1) fun v2 => gd (kC h v2 = 6) <| bd (f_X6_lives v2 h) fun v3 h4 => if v3 = 0 then
  (bd (f_X4_toHeirs v2 x2 h4) fun _ h31 => f_X4_deliver_125  h31)
  else
  (gd (kC h4 x0 = 4) <| gd (kC h4 v2 = 6) <| bd (f_X6_age v2 (kI h4 301 x0) h4) fun v7 h8 => if (18 : Int32) ≤ v7 then
  (gd (kC h8 x1 = 13) <| if (kI h8 1207 x1) ≤ (1 : Int32) then
  (gd (kC h8 v2 = 6) <| vl (sL h8 518 v2 ((kL h8 518 v2) + x2)) fun h12 => f_X4_deliver_125  h12)
  else
  (gd (kC h8 v2 = 6) <| gd (¬ ((kI h8 1207 x1).toInt64) = 0) <| vl (sL h8 518 v2 ((kL h8 518 v2) + (x2 / ((kI h8 1207 x1).toInt64)))) fun h15 => gd (kC h15 v2 = 6) <| nw h15 15 4 fun q17 h18 => gd (kC h18 x1 = 13) <| gd (¬ ((kI h18 1207 x1).toInt64) = 0) <| gd (kC h18 x0 = 4) <| gd (kC h18 q17 = 15) <| bd (f_X15_init q17 (x2 - (x2 / ((kI h18 1207 x1).toInt64))) ((kI h18 1207 x1) - (1 : Int32)) (kI h18 301 x0) h18) fun _ h23 => gd (kC h23 (kR h15 521 v2) = 18) <| bd (f_J2_add (kR h15 521 v2) q17 h23) fun v25 h26 => f_X4_deliver_125  h26))
  else
  (gd (kC h8 v2 = 6) <| vl (sL h8 519 v2 ((kL h8 519 v2) + x2)) fun h29 => f_X4_deliver_125  h29))
theorem b_X4_deliver_125 {rr : (Unit ⊕ Ex) × Hp}  (C : CX p l R s m args meth c D Hs cX4_deliver "MassclaimModel" 5 none [] 8 331)  : ∀ (h : Hp) (H : Heap) (locs : List Loc) (cells slots : Nat) (ls : Array Slot), HP D Hs h H → LO Hs locs → lv_has ls 5 [] → f_X4_deliver_125 h = some rr → W p l e R s m args below meth c H locs cells slots (ZM D Hs iV rr below args s) (F0 m 125 ls []) := by
  obtain ⟨⟨hx, hb, hml, hown, hts⟩, -⟩ := id C
  have hl9 := C.2.1.2.2.1
  intro h H locs cells slots ls hH hL hl hrun
  unfold f_X4_deliver_125 at hrun
  exact V_vret (pc := 125) C hH hL hrun dX4_deliver_125

theorem b_X4_deliver {rr : (Unit ⊕ Ex) × Hp}  (C : CX p l R s m args meth c D Hs cX4_deliver "MassclaimModel" 5 none [] 8 331)  : ∀ (x0 : Nat) (x1 : Nat) (x2 : Int64) (h : Hp) (H : Heap) (locs : List Loc) (cells slots : Nat) (ls : Array Slot), HP D Hs h H → LO Hs locs → lv_has ls 5 [(0, rv x0), (1, rv x1), (2, .long x2)] → f_X4_deliver x0 x1 x2 h = some rr → W p l e R s m args below meth c H locs cells slots (ZM D Hs iV rr below args s) (F0 m 0 ls []) := by
  obtain ⟨⟨hx, hb, hml, hown, hts⟩, -⟩ := id C
  have hl9 := C.2.1.2.2.1
  intro x0 x1 x2 h H locs cells slots ls hH hL hl hrun
  unfold f_X4_deliver at hrun
  refine V_aload_n (pc := 0) hx hb dX4_deliver_0 rfl (lv_at hl 1 rfl) ?_
  obtain ⟨c1, hrun⟩ := gd_some hrun
  refine V_getR (pc := 1) C hH fr_X4_368 dX4_deliver_1 c1 rfl ?_
  refine V_topr (fun v2 ev2 => ?_)
  have hrun := vl_at hrun v2 ev2
  refine V_astore (i := 4) (lv' := [(4, rv v2), (0, rv x0), (1, rv x1), (2, .long x2)]) (pc := 4) hx hb dX4_deliver_4 hl (by decide) rfl (fun ls hl => ?_)
  refine V_aload (pc := 6) hx hb dX4_deliver_6 (lv_at hl 0 rfl) ?_
  obtain ⟨c5, hrun⟩ := gd_some hrun
  refine V_bd (pc := 8) C hL rfl hrun (fun rr1 e1 => Z_runV (rest := []) C hH (m_X6_lives hl9 e1) wV_X4_136 c5 rfl (by decide) rfl rfl ⟨by decide, by decide⟩ rfl (Nat.le_of_ble_eq_true rfl) hl.1 dX4_deliver_8) (fun v3 h4 H locs cells slots hH hL hrun => ?_)
  refine lv_if_ne (tgt := 23) (pc := 11) hx hb dX4_deliver_11 (by decide) (fun c_ => ?_) (fun c_ => ?_)
  · have hrun := ite_f hrun c_
    refine V_aload (pc := 23) hx hb dX4_deliver_23 (lv_at hl 0 rfl) ?_
    refine V_aload_n (pc := 25) hx hb dX4_deliver_25 rfl (lv_at hl 1 rfl) ?_
    obtain ⟨c6, hrun⟩ := gd_some hrun
    refine V_getI (pc := 26) C hH fr_X4_43 dX4_deliver_26 c6 rfl ?_
    obtain ⟨c9, hrun⟩ := gd_some hrun
    refine V_bd (pc := 29) C hL rfl hrun (fun rr1 e1 => Z_runV (rest := []) C hH (m_X6_age hl9 e1) wV_X4_143 c9 rfl (by decide) rfl rfl ⟨by decide, by decide⟩ rfl (Nat.le_of_ble_eq_true rfl) hl.1 dX4_deliver_29) (fun v7 h8 H locs cells slots hH hL hrun => ?_)
    refine lv_bipush (v := (18 : Int32)) (pc := 32) hx hb dX4_deliver_32 (by decide) ?_
    refine lv_icmp_ge (tgt := 51) (pc := 34) hx hb dX4_deliver_34 (by decide) (fun c_ => ?_) (fun c_ => ?_)
    · have hrun := ite_t hrun c_
      refine V_aload_n (pc := 51) hx hb dX4_deliver_51 rfl (lv_at hl 2 rfl) ?_
      obtain ⟨c10, hrun⟩ := gd_some hrun
      refine V_getI (pc := 52) C hH fr_X4_423 dX4_deliver_52 c10 rfl ?_
      refine lv_iconst (v := (1 : Int32)) (pc := 55) hx hb dX4_deliver_55 (by decide) ?_
      refine lv_icmp_le (tgt := 114) (pc := 56) hx hb dX4_deliver_56 (by decide) (fun c_ => ?_) (fun c_ => ?_)
      · have hrun := ite_t hrun c_
        refine V_aload (pc := 114) hx hb dX4_deliver_114 (lv_at hl 0 rfl) ?_
        refine lv_dup (pc := 116) hx hb dX4_deliver_116 (rv_cat _) ?_
        obtain ⟨c11, hrun⟩ := gd_some hrun
        refine V_getL (pc := 117) C hH fr_X4_147 dX4_deliver_117 c11 rfl ?_
        refine lv_lload_n (pc := 120) hx hb dX4_deliver_120 rfl (lv_at hl 3 rfl) ?_
        refine lv_ladd (pc := 121) hx hb dX4_deliver_121 ?_
        refine V_putL (pc := 122) C hH hL fl_X4_147 dX4_deliver_122 c11 (fok_l _) rfl (fun q => Bool.noConfusion q) hrun (fun h12 H locs hH hL hrun => ?_)
        exact b_X4_deliver_125 C h12 H locs cells slots ls hH hL (lv_sub hl [] rfl) hrun
      · have hrun := ite_f hrun c_
        refine V_aload (pc := 59) hx hb dX4_deliver_59 (lv_at hl 0 rfl) ?_
        refine lv_dup (pc := 61) hx hb dX4_deliver_61 (rv_cat _) ?_
        obtain ⟨c13, hrun⟩ := gd_some hrun
        refine V_getL (pc := 62) C hH fr_X4_147 dX4_deliver_62 c13 rfl ?_
        refine lv_lload_n (pc := 65) hx hb dX4_deliver_65 rfl (lv_at hl 3 rfl) ?_
        refine V_aload_n (pc := 66) hx hb dX4_deliver_66 rfl (lv_at hl 2 rfl) ?_
        refine V_getI (pc := 67) C hH fr_X4_423 dX4_deliver_67 c10 rfl ?_
        refine lv_i2l (pc := 70) hx hb dX4_deliver_70 rfl ?_
        obtain ⟨c14, hrun⟩ := gd_some hrun
        refine lv_ldiv (pc := 71) hx hb dX4_deliver_71 c14 ?_
        refine lv_ladd (pc := 72) hx hb dX4_deliver_72 ?_
        refine V_putL (pc := 73) C hH hL fl_X4_147 dX4_deliver_73 c13 (fok_l _) rfl (fun q => Bool.noConfusion q) hrun (fun h15 H locs hH hL hrun => ?_)
        refine V_aload (pc := 76) hx hb dX4_deliver_76 (lv_at hl 0 rfl) ?_
        obtain ⟨c16, hrun⟩ := gd_some hrun
        refine V_getR (pc := 78) C hH fr_X4_150 dX4_deliver_78 c16 rfl ?_
        refine V_new (pc := 81) C hH nl_X4_153 dX4_deliver_81 hrun (fun q17 h18 H cells slots hH hrun => ?_)
        refine lv_dup (pc := 84) hx hb dX4_deliver_84 (rv_cat _) ?_
        refine lv_lload_n (pc := 85) hx hb dX4_deliver_85 rfl (lv_at hl 3 rfl) ?_
        refine lv_lload_n (pc := 86) hx hb dX4_deliver_86 rfl (lv_at hl 3 rfl) ?_
        refine V_aload_n (pc := 87) hx hb dX4_deliver_87 rfl (lv_at hl 2 rfl) ?_
        obtain ⟨c19, hrun⟩ := gd_some hrun
        refine V_getI (pc := 88) C hH fr_X4_423 dX4_deliver_88 c19 rfl ?_
        refine lv_i2l (pc := 91) hx hb dX4_deliver_91 rfl ?_
        obtain ⟨c20, hrun⟩ := gd_some hrun
        refine lv_ldiv (pc := 92) hx hb dX4_deliver_92 c20 ?_
        refine lv_lsub (pc := 93) hx hb dX4_deliver_93 ?_
        refine V_aload_n (pc := 94) hx hb dX4_deliver_94 rfl (lv_at hl 2 rfl) ?_
        refine V_getI (pc := 95) C hH fr_X4_423 dX4_deliver_95 c19 rfl ?_
        refine lv_iconst (v := (1 : Int32)) (pc := 98) hx hb dX4_deliver_98 (by decide) ?_
        refine lv_isub (pc := 99) hx hb dX4_deliver_99 ?_
        refine V_aload_n (pc := 100) hx hb dX4_deliver_100 rfl (lv_at hl 1 rfl) ?_
        obtain ⟨c21, hrun⟩ := gd_some hrun
        refine V_getI (pc := 101) C hH fr_X4_43 dX4_deliver_101 c21 rfl ?_
        obtain ⟨c24, hrun⟩ := gd_some hrun
        refine V_bd (pc := 104) C hL rfl hrun (fun rr1 e1 => Z_runI (rest := [rv q17, rv (kR h15 521 v2)]) C hH (m_X15_init hl9 e1) wI_X4_458 (hH.pos c24) rfl ⟨by decide, by decide⟩ rfl (by simp [csum, rv_cat, cat_i, cat_l, cat_f, cat_d]) hl.1 dX4_deliver_104) (fun _ h23 H locs cells slots hH hL hrun => ?_)
        obtain ⟨c27, hrun⟩ := gd_some hrun
        refine V_bd (pc := 107) C hL rfl hrun (fun rr1 e1 => Z_runV (rest := []) C hH (m_J2_add hl9 e1) wV_X4_186 c27 rfl (by decide) rfl rfl ⟨by decide, by decide⟩ rfl (Nat.le_of_ble_eq_true rfl) hl.1 dX4_deliver_107) (fun v25 h26 H locs cells slots hH hL hrun => ?_)
        refine lv_pop (pc := 110) hx hb dX4_deliver_110 rfl ?_
        refine lv_goto (tgt := 125) (pc := 111) hx hb dX4_deliver_111 (by decide) ?_
        exact b_X4_deliver_125 C h26 H locs cells slots ls hH hL (lv_sub hl [] rfl) hrun
    · have hrun := ite_f hrun c_
      refine V_aload (pc := 37) hx hb dX4_deliver_37 (lv_at hl 0 rfl) ?_
      refine lv_dup (pc := 39) hx hb dX4_deliver_39 (rv_cat _) ?_
      obtain ⟨c28, hrun⟩ := gd_some hrun
      refine V_getL (pc := 40) C hH fr_X4_140 dX4_deliver_40 c28 rfl ?_
      refine lv_lload_n (pc := 43) hx hb dX4_deliver_43 rfl (lv_at hl 3 rfl) ?_
      refine lv_ladd (pc := 44) hx hb dX4_deliver_44 ?_
      refine V_putL (pc := 45) C hH hL fl_X4_140 dX4_deliver_45 c28 (fok_l _) rfl (fun q => Bool.noConfusion q) hrun (fun h29 H locs hH hL hrun => ?_)
      refine lv_goto (tgt := 125) (pc := 48) hx hb dX4_deliver_48 (by decide) ?_
      exact b_X4_deliver_125 C h29 H locs cells slots ls hH hL (lv_sub hl [] rfl) hrun
  · have hrun := ite_t hrun c_
    refine V_aload (pc := 14) hx hb dX4_deliver_14 (lv_at hl 0 rfl) ?_
    refine lv_lload_n (pc := 16) hx hb dX4_deliver_16 rfl (lv_at hl 3 rfl) ?_
    refine V_bd (pc := 17) C hL rfl hrun (fun rr1 e1 => Z_runS (rest := []) C hH (m_X4_toHeirs hl9 e1) wS_X4_206 rfl ⟨by decide, by decide⟩ rfl (Nat.le_of_ble_eq_true rfl) hl.1 dX4_deliver_17) (fun _ h31 H locs cells slots hH hL hrun => ?_)
    refine lv_goto (tgt := 125) (pc := 20) hx hb dX4_deliver_20 (by decide) ?_
    exact b_X4_deliver_125 C h31 H locs cells slots ls hH hL (lv_sub hl [] rfl) hrun

theorem m_X4_deliver {l : Launch} {D : va_G} {Hs : Heap} {h : Hp} {rr : (Unit ⊕ Ex) × Hp} (hl9 : l.stackTraces = false) {x0 : Nat} {x1 : Nat} {x2 : Int64} (hrun : f_X4_deliver x0 x1 x2 h = some rr) : CM l yX4_deliver (ws_ yX4_deliver cX4_deliver 5 none) 8 331 iV [rv x0, rv x1, .long x2] D Hs h rr := by
  refine CM.of (lv := [(0, rv x0), (1, rv x1), (2, .long x2)]) (plainFor_of_name (by decide)) hl9 (by simp [lv_args, rv_cat, cat_i, cat_l, cat_f, cat_d]) (by simp [lg_sl, rv_cat, cat_i, cat_l, cat_f, cat_d]) ?_
  intro p e R s m args below meth c H ls C hH hl hin
  exact b_X4_deliver C x0 x1 x2 _ H [] _ _ ls hH (fun _ q => nomatch q) (lv_sub hl [0, 1, 2] rfl) hrun

/-! MassclaimModel.freeHeld(LMassclaimModel$Person;)V -/
def f_X4_freeHeld_25  (h : Hp) : Rt Unit :=
  some (.inl (), h)
def f_X4_freeHeld  (x0 : Nat) (x1 : Nat) (h : Hp) : Rt Unit :=
  gd (kC h x1 = 6) <| vl (kL h 520 x1) fun v2 => if v2 ≤ (0 : Int64) then
  (f_X4_freeHeld_25  h)
  else
  (vl (sL h 520 x1 (0 : Int64)) fun h3 => gd (kC h3 x1 = 6) <| gd (kC h3 x0 = 4) <| bd (f_X4_deliver x0 (kR h3 517 x1) v2 h3) fun _ h6 => f_X4_freeHeld_25  h6)
theorem b_X4_freeHeld_25 {rr : (Unit ⊕ Ex) × Hp}  (C : CX p l R s m args meth c D Hs cX4_freeHeld "MassclaimModel" 4 none [] 9 355)  : ∀ (h : Hp) (H : Heap) (locs : List Loc) (cells slots : Nat) (ls : Array Slot), HP D Hs h H → LO Hs locs → lv_has ls 4 [] → f_X4_freeHeld_25 h = some rr → W p l e R s m args below meth c H locs cells slots (ZM D Hs iV rr below args s) (F0 m 25 ls []) := by
  obtain ⟨⟨hx, hb, hml, hown, hts⟩, -⟩ := id C
  have hl9 := C.2.1.2.2.1
  intro h H locs cells slots ls hH hL hl hrun
  unfold f_X4_freeHeld_25 at hrun
  exact V_vret (pc := 25) C hH hL hrun dX4_freeHeld_25

theorem b_X4_freeHeld {rr : (Unit ⊕ Ex) × Hp}  (C : CX p l R s m args meth c D Hs cX4_freeHeld "MassclaimModel" 4 none [] 9 355)  : ∀ (x0 : Nat) (x1 : Nat) (h : Hp) (H : Heap) (locs : List Loc) (cells slots : Nat) (ls : Array Slot), HP D Hs h H → LO Hs locs → lv_has ls 4 [(0, rv x0), (1, rv x1)] → f_X4_freeHeld x0 x1 h = some rr → W p l e R s m args below meth c H locs cells slots (ZM D Hs iV rr below args s) (F0 m 0 ls []) := by
  obtain ⟨⟨hx, hb, hml, hown, hts⟩, -⟩ := id C
  have hl9 := C.2.1.2.2.1
  intro x0 x1 h H locs cells slots ls hH hL hl hrun
  unfold f_X4_freeHeld at hrun
  refine V_aload_n (pc := 0) hx hb dX4_freeHeld_0 rfl (lv_at hl 1 rfl) ?_
  obtain ⟨c1, hrun⟩ := gd_some hrun
  refine V_getL (pc := 1) C hH fr_X4_267 dX4_freeHeld_1 c1 rfl ?_
  refine lv_topl (fun v2 ev2 => ?_)
  have hrun := vl_at hrun v2 ev2
  refine lv_lstore_n (i := 2) (lv' := [(2, .long v2), (0, rv x0), (1, rv x1)]) (pc := 4) hx hb dX4_freeHeld_4 rfl hl (by decide) (by simp [rv_cat, cat_i, cat_l, cat_f, cat_d]) (fun ls hl => ?_)
  refine lv_lload_n (pc := 5) hx hb dX4_freeHeld_5 rfl (lv_at hl 0 rfl) ?_
  refine lv_lconst (v := (0 : Int64)) (pc := 6) hx hb dX4_freeHeld_6 (by decide) ?_
  refine V_lcmp_le (tgt := 25) (pc := 7) hx hb dX4_freeHeld_7 dX4_freeHeld_8 (by decide) (fun c_ => ?_) (fun c_ => ?_)
  · have hrun := ite_t hrun c_
    exact b_X4_freeHeld_25 C h H locs cells slots ls hH hL (lv_sub hl [] rfl) hrun
  · have hrun := ite_f hrun c_
    refine V_aload_n (pc := 11) hx hb dX4_freeHeld_11 rfl (lv_at hl 2 rfl) ?_
    refine lv_lconst (v := (0 : Int64)) (pc := 12) hx hb dX4_freeHeld_12 (by decide) ?_
    refine V_putL (pc := 13) C hH hL fl_X4_267 dX4_freeHeld_13 c1 (fok_l _) rfl (fun q => Bool.noConfusion q) hrun (fun h3 H locs hH hL hrun => ?_)
    refine V_aload_n (pc := 16) hx hb dX4_freeHeld_16 rfl (lv_at hl 1 rfl) ?_
    refine V_aload_n (pc := 17) hx hb dX4_freeHeld_17 rfl (lv_at hl 2 rfl) ?_
    obtain ⟨c4, hrun⟩ := gd_some hrun
    refine V_getR (pc := 18) C hH fr_X4_248 dX4_freeHeld_18 c4 rfl ?_
    refine lv_lload_n (pc := 21) hx hb dX4_freeHeld_21 rfl (lv_at hl 0 rfl) ?_
    obtain ⟨c7, hrun⟩ := gd_some hrun
    refine V_bd (pc := 22) C hL rfl hrun (fun rr1 e1 => Z_runV (rest := []) C hH (m_X4_deliver hl9 e1) wV_X4_449 c7 rfl (by decide) rfl rfl ⟨by decide, by decide⟩ rfl (Nat.le_of_ble_eq_true rfl) hl.1 dX4_freeHeld_22) (fun _ h6 H locs cells slots hH hL hrun => ?_)
    exact b_X4_freeHeld_25 C h6 H locs cells slots ls hH hL (lv_sub hl [] rfl) hrun

theorem m_X4_freeHeld {l : Launch} {D : va_G} {Hs : Heap} {h : Hp} {rr : (Unit ⊕ Ex) × Hp} (hl9 : l.stackTraces = false) {x0 : Nat} {x1 : Nat} (hrun : f_X4_freeHeld x0 x1 h = some rr) : CM l yX4_freeHeld (ws_ yX4_freeHeld cX4_freeHeld 4 none) 9 355 iV [rv x0, rv x1] D Hs h rr := by
  refine CM.of (lv := [(0, rv x0), (1, rv x1)]) (plainFor_of_name (by decide)) hl9 (by simp [lv_args, rv_cat, cat_i, cat_l, cat_f, cat_d]) (by simp [lg_sl, rv_cat, cat_i, cat_l, cat_f, cat_d]) ?_
  intro p e R s m args below meth c H ls C hH hl hin
  exact b_X4_freeHeld C x0 x1 _ H [] _ _ ls hH (fun _ q => nomatch q) (lv_sub hl [0, 1] rfl) hrun

/-! MassclaimModel.payOut(LMassclaimModel$Claim;J)V -/
def f_X4_payOut_152  (h : Hp) : Rt Unit :=
  some (.inl (), h)
def f_X4_payOut  (x0 : Nat) (x1 : Nat) (x2 : Int64) (h : Hp) : Rt Unit :=
  if x2 = (0 : Int64) then
  (some (.inl (), h))
  else
  (gd (kC h x1 = 13) <| vl (sL h 1208 x1 ((kL h 1208 x1) + x2)) fun h2 => gd (kC h2 x0 = 4) <| vl (sL h2 322 x0 ((kL h2 322 x0) - x2)) fun h4 => vl ((x2 * (6 : Int64)) / (100 : Int64)) fun v5 => gd (kC h4 x0 = 4) <| vl (sL h4 324 x0 ((kL h4 324 x0) + v5)) fun h7 => vl (x2 - v5) fun v8 => gd (kC h7 x1 = 13) <| vl ((v8 * ((kI h7 1202 x1).toInt64)) / (100 : Int64)) fun v10 => gd (kC h7 x0 = 4) <| bd (f_X4_payLawyers x0 x1 v10 h7) fun _ h12 => gd (kC h12 x1 = 13) <| gd (kC h12 x0 = 4) <| bd (f_X4_payLiens x0 (kR h12 1200 x1) (v8 - v10) h12) fun v15 h16 => gd (kC h16 x1 = 13) <| gd (kC h16 x0 = 4) <| bd (f_X4_openOf x0 (kR h16 1200 x1) h16) fun v19 h20 => if v19 ≤ 0 then
  (gd (kC h20 x0 = 4) <| bd (f_X4_deliver x0 x1 v15 h20) fun _ h23 => gd (kC h23 x1 = 13) <| gd (kC h23 x0 = 4) <| bd (f_X4_freeHeld x0 (kR h23 1200 x1) h23) fun _ h27 => f_X4_payOut_152  h27)
  else
  (gd (kC h20 x1 = 13) <| gd (kC h20 (kR h20 1200 x1) = 6) <| vl (sL h20 520 (kR h20 1200 x1) ((kL h20 520 (kR h20 1200 x1)) + (v15 / (5 : Int64)))) fun h31 => gd (kC h31 x0 = 4) <| bd (f_X4_deliver x0 x1 (v15 - (v15 / (5 : Int64))) h31) fun _ h33 => f_X4_payOut_152  h33))
theorem b_X4_payOut_152 {rr : (Unit ⊕ Ex) × Hp}  (C : CX p l R s m args meth c D Hs cX4_payOut "MassclaimModel" 12 none [] 10 378)  : ∀ (h : Hp) (H : Heap) (locs : List Loc) (cells slots : Nat) (ls : Array Slot), HP D Hs h H → LO Hs locs → lv_has ls 12 [] → f_X4_payOut_152 h = some rr → W p l e R s m args below meth c H locs cells slots (ZM D Hs iV rr below args s) (F0 m 152 ls []) := by
  obtain ⟨⟨hx, hb, hml, hown, hts⟩, -⟩ := id C
  have hl9 := C.2.1.2.2.1
  intro h H locs cells slots ls hH hL hl hrun
  unfold f_X4_payOut_152 at hrun
  exact V_vret (pc := 152) C hH hL hrun dX4_payOut_152

theorem b_X4_payOut {rr : (Unit ⊕ Ex) × Hp}  (C : CX p l R s m args meth c D Hs cX4_payOut "MassclaimModel" 12 none [] 10 378)  : ∀ (x0 : Nat) (x1 : Nat) (x2 : Int64) (h : Hp) (H : Heap) (locs : List Loc) (cells slots : Nat) (ls : Array Slot), HP D Hs h H → LO Hs locs → lv_has ls 12 [(0, rv x0), (1, rv x1), (2, .long x2)] → f_X4_payOut x0 x1 x2 h = some rr → W p l e R s m args below meth c H locs cells slots (ZM D Hs iV rr below args s) (F0 m 0 ls []) := by
  obtain ⟨⟨hx, hb, hml, hown, hts⟩, -⟩ := id C
  have hl9 := C.2.1.2.2.1
  intro x0 x1 x2 h H locs cells slots ls hH hL hl hrun
  unfold f_X4_payOut at hrun
  refine lv_lload_n (pc := 0) hx hb dX4_payOut_0 rfl (lv_at hl 2 rfl) ?_
  refine lv_lconst (v := (0 : Int64)) (pc := 1) hx hb dX4_payOut_1 (by decide) ?_
  refine V_lcmp_ne (tgt := 7) (pc := 2) hx hb dX4_payOut_2 dX4_payOut_3 (by decide) (fun c_ => ?_) (fun c_ => ?_)
  · have hrun := ite_f hrun c_
    refine V_aload_n (pc := 7) hx hb dX4_payOut_7 rfl (lv_at hl 1 rfl) ?_
    refine lv_dup (pc := 8) hx hb dX4_payOut_8 (rv_cat _) ?_
    obtain ⟨c1, hrun⟩ := gd_some hrun
    refine V_getL (pc := 9) C hH fr_X4_406 dX4_payOut_9 c1 rfl ?_
    refine lv_lload_n (pc := 12) hx hb dX4_payOut_12 rfl (lv_at hl 2 rfl) ?_
    refine lv_ladd (pc := 13) hx hb dX4_payOut_13 ?_
    refine V_putL (pc := 14) C hH hL fl_X4_406 dX4_payOut_14 c1 (fok_l _) rfl (fun q => Bool.noConfusion q) hrun (fun h2 H locs hH hL hrun => ?_)
    refine V_aload_n (pc := 17) hx hb dX4_payOut_17 rfl (lv_at hl 0 rfl) ?_
    refine lv_dup (pc := 18) hx hb dX4_payOut_18 (rv_cat _) ?_
    obtain ⟨c3, hrun⟩ := gd_some hrun
    refine V_getL (pc := 19) C hH fr_X4_76 dX4_payOut_19 c3 rfl ?_
    refine lv_lload_n (pc := 22) hx hb dX4_payOut_22 rfl (lv_at hl 2 rfl) ?_
    refine lv_lsub (pc := 23) hx hb dX4_payOut_23 ?_
    refine V_putL (pc := 24) C hH hL fl_X4_76 dX4_payOut_24 c3 (fok_l _) rfl (fun q => Bool.noConfusion q) hrun (fun h4 H locs hH hL hrun => ?_)
    refine lv_lload_n (pc := 27) hx hb dX4_payOut_27 rfl (lv_at hl 2 rfl) ?_
    refine lv_ldc2 (pc := 28) hx hb hown (hts _ q2433) dX4_payOut_28 ?_
    refine lv_lmul (pc := 31) hx hb dX4_payOut_31 ?_
    refine lv_ldc2 (pc := 32) hx hb hown (hts _ q2205) dX4_payOut_32 ?_
    refine lv_ldiv (pc := 35) hx hb dX4_payOut_35 (by decide) ?_
    refine lv_topl (fun v5 ev5 => ?_)
    have hrun := vl_at hrun v5 ev5
    refine lv_lstore (i := 4) (lv' := [(4, .long v5), (0, rv x0), (1, rv x1), (2, .long x2)]) (pc := 36) hx hb dX4_payOut_36 hl (by decide) rfl (fun ls hl => ?_)
    refine V_aload_n (pc := 38) hx hb dX4_payOut_38 rfl (lv_at hl 1 rfl) ?_
    refine lv_dup (pc := 39) hx hb dX4_payOut_39 (rv_cat _) ?_
    obtain ⟨c6, hrun⟩ := gd_some hrun
    refine V_getL (pc := 40) C hH fr_X4_82 dX4_payOut_40 c6 rfl ?_
    refine lv_lload (pc := 43) hx hb dX4_payOut_43 (lv_at hl 0 rfl) ?_
    refine lv_ladd (pc := 45) hx hb dX4_payOut_45 ?_
    refine V_putL (pc := 46) C hH hL fl_X4_82 dX4_payOut_46 c6 (fok_l _) rfl (fun q => Bool.noConfusion q) hrun (fun h7 H locs hH hL hrun => ?_)
    refine lv_lload_n (pc := 49) hx hb dX4_payOut_49 rfl (lv_at hl 3 rfl) ?_
    refine lv_lload (pc := 50) hx hb dX4_payOut_50 (lv_at hl 0 rfl) ?_
    refine lv_lsub (pc := 52) hx hb dX4_payOut_52 ?_
    refine lv_topl (fun v8 ev8 => ?_)
    have hrun := vl_at hrun v8 ev8
    refine lv_lstore (i := 6) (lv' := [(6, .long v8), (4, .long v5), (0, rv x0), (1, rv x1), (2, .long x2)]) (pc := 53) hx hb dX4_payOut_53 hl (by decide) rfl (fun ls hl => ?_)
    refine lv_lload (pc := 55) hx hb dX4_payOut_55 (lv_at hl 0 rfl) ?_
    refine V_aload_n (pc := 57) hx hb dX4_payOut_57 rfl (lv_at hl 3 rfl) ?_
    obtain ⟨c9, hrun⟩ := gd_some hrun
    refine V_getI (pc := 58) C hH fr_X4_383 dX4_payOut_58 c9 rfl ?_
    refine lv_i2l (pc := 61) hx hb dX4_payOut_61 rfl ?_
    refine lv_lmul (pc := 62) hx hb dX4_payOut_62 ?_
    refine lv_ldc2 (pc := 63) hx hb hown (hts _ q2205) dX4_payOut_63 ?_
    refine lv_ldiv (pc := 66) hx hb dX4_payOut_66 (by decide) ?_
    refine lv_topl (fun v10 ev10 => ?_)
    have hrun := vl_at hrun v10 ev10
    refine lv_lstore (i := 8) (lv' := [(8, .long v10), (6, .long v8), (4, .long v5), (0, rv x0), (1, rv x1), (2, .long x2)]) (pc := 67) hx hb dX4_payOut_67 hl (by decide) rfl (fun ls hl => ?_)
    refine V_aload_n (pc := 69) hx hb dX4_payOut_69 rfl (lv_at hl 3 rfl) ?_
    refine V_aload_n (pc := 70) hx hb dX4_payOut_70 rfl (lv_at hl 4 rfl) ?_
    refine lv_lload (pc := 71) hx hb dX4_payOut_71 (lv_at hl 0 rfl) ?_
    obtain ⟨c13, hrun⟩ := gd_some hrun
    refine V_bd (pc := 73) C hL rfl hrun (fun rr1 e1 => Z_runV (rest := []) C hH (m_X4_payLawyers hl9 e1) wV_X4_442 c13 rfl (by decide) rfl rfl ⟨by decide, by decide⟩ rfl (Nat.le_of_ble_eq_true rfl) hl.1 dX4_payOut_73) (fun _ h12 H locs cells slots hH hL hrun => ?_)
    refine V_aload_n (pc := 76) hx hb dX4_payOut_76 rfl (lv_at hl 3 rfl) ?_
    refine V_aload_n (pc := 77) hx hb dX4_payOut_77 rfl (lv_at hl 4 rfl) ?_
    obtain ⟨c14, hrun⟩ := gd_some hrun
    refine V_getR (pc := 78) C hH fr_X4_368 dX4_payOut_78 c14 rfl ?_
    refine lv_lload (pc := 81) hx hb dX4_payOut_81 (lv_at hl 1 rfl) ?_
    refine lv_lload (pc := 83) hx hb dX4_payOut_83 (lv_at hl 0 rfl) ?_
    refine lv_lsub (pc := 85) hx hb dX4_payOut_85 ?_
    obtain ⟨c17, hrun⟩ := gd_some hrun
    refine V_bd (pc := 86) C hL rfl hrun (fun rr1 e1 => Z_runV (rest := []) C hH (m_X4_payLiens hl9 e1) wV_X4_445 c17 rfl (by decide) rfl rfl ⟨by decide, by decide⟩ rfl (Nat.le_of_ble_eq_true rfl) hl.1 dX4_payOut_86) (fun v15 h16 H locs cells slots hH hL hrun => ?_)
    refine lv_lstore (i := 10) (lv' := [(10, .long v15), (8, .long v10), (6, .long v8), (4, .long v5), (0, rv x0), (1, rv x1), (2, .long x2)]) (pc := 89) hx hb dX4_payOut_89 hl (by decide) rfl (fun ls hl => ?_)
    refine V_aload_n (pc := 91) hx hb dX4_payOut_91 rfl (lv_at hl 4 rfl) ?_
    refine V_aload_n (pc := 92) hx hb dX4_payOut_92 rfl (lv_at hl 5 rfl) ?_
    obtain ⟨c18, hrun⟩ := gd_some hrun
    refine V_getR (pc := 93) C hH fr_X4_368 dX4_payOut_93 c18 rfl ?_
    obtain ⟨c21, hrun⟩ := gd_some hrun
    refine V_bd (pc := 96) C hL rfl hrun (fun rr1 e1 => Z_runV (rest := []) C hH (m_X4_openOf hl9 e1) wV_X4_270 c21 rfl (by decide) rfl rfl ⟨by decide, by decide⟩ rfl (Nat.le_of_ble_eq_true rfl) hl.1 dX4_payOut_96) (fun v19 h20 H locs cells slots hH hL hrun => ?_)
    refine lv_if_le (tgt := 137) (pc := 99) hx hb dX4_payOut_99 (by decide) (fun c_ => ?_) (fun c_ => ?_)
    · have hrun := ite_t hrun c_
      refine V_aload_n (pc := 137) hx hb dX4_payOut_137 rfl (lv_at hl 4 rfl) ?_
      refine V_aload_n (pc := 138) hx hb dX4_payOut_138 rfl (lv_at hl 5 rfl) ?_
      refine lv_lload (pc := 139) hx hb dX4_payOut_139 (lv_at hl 0 rfl) ?_
      obtain ⟨c24, hrun⟩ := gd_some hrun
      refine V_bd (pc := 141) C hL rfl hrun (fun rr1 e1 => Z_runV (rest := []) C hH (m_X4_deliver hl9 e1) wV_X4_449 c24 rfl (by decide) rfl rfl ⟨by decide, by decide⟩ rfl (Nat.le_of_ble_eq_true rfl) hl.1 dX4_payOut_141) (fun _ h23 H locs cells slots hH hL hrun => ?_)
      refine V_aload_n (pc := 144) hx hb dX4_payOut_144 rfl (lv_at hl 4 rfl) ?_
      refine V_aload_n (pc := 145) hx hb dX4_payOut_145 rfl (lv_at hl 5 rfl) ?_
      obtain ⟨c25, hrun⟩ := gd_some hrun
      refine V_getR (pc := 146) C hH fr_X4_368 dX4_payOut_146 c25 rfl ?_
      obtain ⟨c28, hrun⟩ := gd_some hrun
      refine V_bd (pc := 149) C hL rfl hrun (fun rr1 e1 => Z_runV (rest := []) C hH (m_X4_freeHeld hl9 e1) wV_X4_452 c28 rfl (by decide) rfl rfl ⟨by decide, by decide⟩ rfl (Nat.le_of_ble_eq_true rfl) hl.1 dX4_payOut_149) (fun _ h27 H locs cells slots hH hL hrun => ?_)
      exact b_X4_payOut_152 C h27 H locs cells slots ls hH hL (lv_sub hl [] rfl) hrun
    · have hrun := ite_f hrun c_
      refine V_aload_n (pc := 102) hx hb dX4_payOut_102 rfl (lv_at hl 5 rfl) ?_
      obtain ⟨c29, hrun⟩ := gd_some hrun
      refine V_getR (pc := 103) C hH fr_X4_368 dX4_payOut_103 c29 rfl ?_
      refine lv_dup (pc := 106) hx hb dX4_payOut_106 (rv_cat _) ?_
      obtain ⟨c30, hrun⟩ := gd_some hrun
      refine V_getL (pc := 107) C hH fr_X4_267 dX4_payOut_107 c30 rfl ?_
      refine lv_lload (pc := 110) hx hb dX4_payOut_110 (lv_at hl 0 rfl) ?_
      refine lv_ldc2 (pc := 112) hx hb hown (hts _ q2071) dX4_payOut_112 ?_
      refine lv_ldiv (pc := 115) hx hb dX4_payOut_115 (by decide) ?_
      refine lv_ladd (pc := 116) hx hb dX4_payOut_116 ?_
      refine V_putL (pc := 117) C hH hL fl_X4_267 dX4_payOut_117 c30 (fok_l _) rfl (fun q => Bool.noConfusion q) hrun (fun h31 H locs hH hL hrun => ?_)
      refine V_aload_n (pc := 120) hx hb dX4_payOut_120 rfl (lv_at hl 4 rfl) ?_
      refine V_aload_n (pc := 121) hx hb dX4_payOut_121 rfl (lv_at hl 5 rfl) ?_
      refine lv_lload (pc := 122) hx hb dX4_payOut_122 (lv_at hl 0 rfl) ?_
      refine lv_lload (pc := 124) hx hb dX4_payOut_124 (lv_at hl 0 rfl) ?_
      refine lv_ldc2 (pc := 126) hx hb hown (hts _ q2071) dX4_payOut_126 ?_
      refine lv_ldiv (pc := 129) hx hb dX4_payOut_129 (by decide) ?_
      refine lv_lsub (pc := 130) hx hb dX4_payOut_130 ?_
      obtain ⟨c34, hrun⟩ := gd_some hrun
      refine V_bd (pc := 131) C hL rfl hrun (fun rr1 e1 => Z_runV (rest := []) C hH (m_X4_deliver hl9 e1) wV_X4_449 c34 rfl (by decide) rfl rfl ⟨by decide, by decide⟩ rfl (Nat.le_of_ble_eq_true rfl) hl.1 dX4_payOut_131) (fun _ h33 H locs cells slots hH hL hrun => ?_)
      refine lv_goto (tgt := 152) (pc := 134) hx hb dX4_payOut_134 (by decide) ?_
      exact b_X4_payOut_152 C h33 H locs cells slots ls hH hL (lv_sub hl [] rfl) hrun
  · have hrun := ite_t hrun c_
    exact V_vret (pc := 6) C hH hL hrun dX4_payOut_6

theorem m_X4_payOut {l : Launch} {D : va_G} {Hs : Heap} {h : Hp} {rr : (Unit ⊕ Ex) × Hp} (hl9 : l.stackTraces = false) {x0 : Nat} {x1 : Nat} {x2 : Int64} (hrun : f_X4_payOut x0 x1 x2 h = some rr) : CM l yX4_payOut (ws_ yX4_payOut cX4_payOut 12 none) 10 378 iV [rv x0, rv x1, .long x2] D Hs h rr := by
  refine CM.of (lv := [(0, rv x0), (1, rv x1), (2, .long x2)]) (plainFor_of_name (by decide)) hl9 (by simp [lv_args, rv_cat, cat_i, cat_l, cat_f, cat_d]) (by simp [lg_sl, rv_cat, cat_i, cat_l, cat_f, cat_d]) ?_
  intro p e R s m args below meth c H ls C hH hl hin
  exact b_X4_payOut C x0 x1 x2 _ H [] _ _ ls hH (fun _ q => nomatch q) (lv_sub hl [0, 1, 2] rfl) hrun

/-! MassclaimModel.pay()J -/
def f_X4_pay_161  (x0 : Nat) (x1 : Int64) (h : Hp) : Rt Int64 :=
  gd (kC h x0 = 4) <| some (.inl (x1 - (kL h 322 x0)), h)
def f_X4_pay_155 (k43 : Nat → Int64 → Int64 → Int32 → Int32 → Hp → Rt Int64) (x0 : Nat) (x1 : Int64) (x3 : Int64) (x5 : Int32) (x6 : Int32) (h : Hp) : Rt Int64 :=
  vl (x6 + (1 : Int32)) fun v2 => k43 x0 x1 x3 x5 v2 h
def f_X4_pay_121 (k43 : Nat → Int64 → Int64 → Int32 → Int32 → Hp → Rt Int64) (x0 : Nat) (x1 : Int64) (x3 : Int64) (x5 : Int32) (x6 : Int32) (x7 : Int64) (h : Hp) : Rt Int64 :=
  gd (kC h x0 = 4) <| if x7 ≤ (kL h 322 x0) then
  (gd (kC h (kR h 320 x0) = 18) <| bd (f_J2_get (kR h 320 x0) x6 h) fun v4 h5 => gd (v4 = 0 ∨ kC h5 v4 = 13) <| gd (kC h5 x0 = 4) <| bd (f_X4_payOut x0 v4 x7 h5) fun _ h9 => f_X4_pay_155 k43 x0 x1 x3 x5 x6 h9)
  else
  (f_X4_pay_155 k43 x0 x1 x3 (0 : Int32) x6 h)
def f_X4_pay_43  : Nat → Nat → Int64 → Int64 → Int32 → Int32 → Hp → Rt Int64
  | 0, _, _, _, _, _, _ => none
  | n + 1, x0, x1, x3, x5, x6, h => gd (kC h x0 = 4) <| gd (kC h (kR h 320 x0) = 18) <| bd (f_J2_size (kR h 320 x0) h) fun v12 h13 => if v12 ≤ x6 then
  (f_X4_pay_161 x0 x1 h13)
  else
  (if x5 = 0 then
  (f_X4_pay_161 x0 x1 h13)
  else
  (gd (kC h13 x0 = 4) <| gd (kC h13 (kR h13 320 x0) = 18) <| bd (f_J2_get (kR h13 320 x0) x6 h13) fun v16 h17 => gd (v16 = 0 ∨ kC h17 v16 = 13) <| gd (kC h17 x0 = 4) <| bd (f_X4_due x0 v16 (kI h17 319 x0) h17) fun v21 h22 => if x3 ≤ x1 then
  (f_X4_pay_121 (f_X4_pay_43 n) x0 x1 x3 x5 x6 v21 h22)
  else
  (gd (kC h22 x0 = 4) <| if (kI h22 318 x0) = (1 : Int32) then
  (gd (kC h22 (kR h22 320 x0) = 18) <| bd (f_J2_get (kR h22 320 x0) x6 h22) fun v24 h25 => gd (v24 = 0 ∨ kC h25 v24 = 13) <| gd (¬ x3 = 0) <| gd (kC h25 x0 = 4) <| bd (f_X4_payOut x0 v24 ((v21 * x1) / x3) h25) fun _ h30 => f_X4_pay_155 (f_X4_pay_43 n) x0 x1 x3 x5 x6 h30)
  else
  (f_X4_pay_121 (f_X4_pay_43 n) x0 x1 x3 x5 x6 v21 h22))))
def f_X4_pay_14  (x0 : Nat) (y0 : Nat) (y1 : Int32) (h : Hp) : Rt Int64 :=
  gd (kC h y0 = 4) <| bd (f_X4_isGood y0 y1 (1 : Int32) h) fun v32 h33 => if v32 = 0 then
  (some (.inl (0 : Int64), h33))
  else
  (gd (kC h33 x0 = 4) <| vl (kL h33 322 x0) fun v36 => bd (f_X4_allDue x0 (kI h33 319 x0) h33) fun v37 h38 => f_X4_pay_43 FU x0 v36 v37 (1 : Int32) (0 : Int32) h38)
def f_X4_pay  (x0 : Nat) (h : Hp) : Rt Int64 :=
  gd (kC h x0 = 4) <| if (kI h 309 x0) = (3 : Int32) then
  (f_X4_pay_14 x0 x0 (1 : Int32) h)
  else
  (f_X4_pay_14 x0 x0 (0 : Int32) h)
theorem b_X4_pay_161 {rr : (Int64 ⊕ Ex) × Hp}  (C : CX p l R s m args meth c D Hs cX4_pay "MassclaimModel" 9 (some .long) [] 11 409)  : ∀ (x0 : Nat) (x1 : Int64) (h : Hp) (H : Heap) (locs : List Loc) (cells slots : Nat) (ls : Array Slot), HP D Hs h H → LO Hs locs → lv_has ls 9 [(0, rv x0), (1, .long x1)] → f_X4_pay_161 x0 x1 h = some rr → W p l e R s m args below meth c H locs cells slots (ZM D Hs iL rr below args s) (F0 m 161 ls []) := by
  obtain ⟨⟨hx, hb, hml, hown, hts⟩, -⟩ := id C
  have hl9 := C.2.1.2.2.1
  intro x0 x1 h H locs cells slots ls hH hL hl hrun
  unfold f_X4_pay_161 at hrun
  refine lv_lload_n (pc := 161) hx hb dX4_pay_161 rfl (lv_at hl 1 rfl) ?_
  refine V_aload_n (pc := 162) hx hb dX4_pay_162 rfl (lv_at hl 0 rfl) ?_
  obtain ⟨c1, hrun⟩ := gd_some hrun
  refine V_getL (pc := 163) C hH fr_X4_76 dX4_pay_163 c1 rfl ?_
  refine lv_lsub (pc := 166) hx hb dX4_pay_166 ?_
  exact V_lret (pc := 167) C hH hL hrun dX4_pay_167

theorem b_X4_pay_155 {rr : (Int64 ⊕ Ex) × Hp} {k43 : Nat → Int64 → Int64 → Int32 → Int32 → Hp → Rt Int64} (C : CX p l R s m args meth c D Hs cX4_pay "MassclaimModel" 9 (some .long) [] 11 409) (K43 : ∀ (x0 : Nat) (x1 : Int64) (x3 : Int64) (x5 : Int32) (x6 : Int32) (h : Hp) (H : Heap) (locs : List Loc) (cells slots : Nat) (ls : Array Slot), HP D Hs h H → LO Hs locs → lv_has ls 9 [(0, rv x0), (1, .long x1), (3, .long x3), (5, .int x5), (6, .int x6)] → k43 x0 x1 x3 x5 x6 h = some rr → W p l e R s m args below meth c H locs cells slots (ZM D Hs iL rr below args s) (F0 m 43 ls [])) : ∀ (x0 : Nat) (x1 : Int64) (x3 : Int64) (x5 : Int32) (x6 : Int32) (h : Hp) (H : Heap) (locs : List Loc) (cells slots : Nat) (ls : Array Slot), HP D Hs h H → LO Hs locs → lv_has ls 9 [(0, rv x0), (1, .long x1), (3, .long x3), (5, .int x5), (6, .int x6)] → f_X4_pay_155 k43 x0 x1 x3 x5 x6 h = some rr → W p l e R s m args below meth c H locs cells slots (ZM D Hs iL rr below args s) (F0 m 155 ls []) := by
  obtain ⟨⟨hx, hb, hml, hown, hts⟩, -⟩ := id C
  have hl9 := C.2.1.2.2.1
  intro x0 x1 x3 x5 x6 h H locs cells slots ls hH hL hl hrun
  unfold f_X4_pay_155 at hrun
  obtain ⟨v2, ev2⟩ : ∃ y : Int32, y = x6 + (1 : Int32) := ⟨_, rfl⟩
  have hrun := vl_at hrun v2 ev2
  refine lv_iinc (v := v2) (lv' := [(6, .int v2), (0, rv x0), (1, .long x1), (3, .long x3), (5, .int x5)]) (pc := 155) hx hb dX4_pay_155 hl (k := 4) rfl (by rw [ev2]; rfl) (by decide) (by first | rfl | simp [rv_cat, cat_i, cat_l, cat_f, cat_d]) (fun ls hl => ?_)
  refine lv_goto (tgt := 43) (pc := 158) hx hb dX4_pay_158 (by decide) ?_
  exact K43 x0 x1 x3 x5 v2 h H locs cells slots ls hH hL (lv_sub hl [1, 2, 3, 4, 0] rfl) hrun

theorem b_X4_pay_121 {rr : (Int64 ⊕ Ex) × Hp} {k43 : Nat → Int64 → Int64 → Int32 → Int32 → Hp → Rt Int64} (C : CX p l R s m args meth c D Hs cX4_pay "MassclaimModel" 9 (some .long) [] 11 409) (K43 : ∀ (x0 : Nat) (x1 : Int64) (x3 : Int64) (x5 : Int32) (x6 : Int32) (h : Hp) (H : Heap) (locs : List Loc) (cells slots : Nat) (ls : Array Slot), HP D Hs h H → LO Hs locs → lv_has ls 9 [(0, rv x0), (1, .long x1), (3, .long x3), (5, .int x5), (6, .int x6)] → k43 x0 x1 x3 x5 x6 h = some rr → W p l e R s m args below meth c H locs cells slots (ZM D Hs iL rr below args s) (F0 m 43 ls [])) : ∀ (x0 : Nat) (x1 : Int64) (x3 : Int64) (x5 : Int32) (x6 : Int32) (x7 : Int64) (h : Hp) (H : Heap) (locs : List Loc) (cells slots : Nat) (ls : Array Slot), HP D Hs h H → LO Hs locs → lv_has ls 9 [(0, rv x0), (1, .long x1), (3, .long x3), (5, .int x5), (6, .int x6), (7, .long x7)] → f_X4_pay_121 k43 x0 x1 x3 x5 x6 x7 h = some rr → W p l e R s m args below meth c H locs cells slots (ZM D Hs iL rr below args s) (F0 m 121 ls []) := by
  obtain ⟨⟨hx, hb, hml, hown, hts⟩, -⟩ := id C
  have hl9 := C.2.1.2.2.1
  intro x0 x1 x3 x5 x6 x7 h H locs cells slots ls hH hL hl hrun
  unfold f_X4_pay_121 at hrun
  refine lv_lload (pc := 121) hx hb dX4_pay_121 (lv_at hl 5 rfl) ?_
  refine V_aload_n (pc := 123) hx hb dX4_pay_123 rfl (lv_at hl 0 rfl) ?_
  obtain ⟨c3, hrun⟩ := gd_some hrun
  refine V_getL (pc := 124) C hH fr_X4_76 dX4_pay_124 c3 rfl ?_
  refine V_lcmp_le (tgt := 137) (pc := 127) hx hb dX4_pay_127 dX4_pay_128 (by decide) (fun c_ => ?_) (fun c_ => ?_)
  · have hrun := ite_t hrun c_
    refine V_aload_n (pc := 137) hx hb dX4_pay_137 rfl (lv_at hl 0 rfl) ?_
    refine V_aload_n (pc := 138) hx hb dX4_pay_138 rfl (lv_at hl 0 rfl) ?_
    refine V_getR (pc := 139) C hH fr_X4_30 dX4_pay_139 c3 rfl ?_
    refine lv_iload (pc := 142) hx hb dX4_pay_142 (lv_at hl 4 rfl) ?_
    obtain ⟨c6, hrun⟩ := gd_some hrun
    refine V_bd (pc := 144) C hL rfl hrun (fun rr1 e1 => Z_runV (rest := [rv x0]) C hH (m_J2_get hl9 e1) wV_X4_108 c6 rfl (by decide) rfl rfl ⟨by decide, by decide⟩ rfl (by simp [csum, rv_cat, cat_i, cat_l, cat_f, cat_d]) hl.1 dX4_pay_144) (fun v4 h5 H locs cells slots hH hL hrun => ?_)
    obtain ⟨c7, hrun⟩ := gd_some hrun
    refine V_castX (pc := 147) (ci := 12) C hH rfl (by decide) q1955 dX4_pay_147 c7 ?_
    refine lv_lload (pc := 150) hx hb dX4_pay_150 (lv_at hl 5 rfl) ?_
    obtain ⟨c10, hrun⟩ := gd_some hrun
    refine V_bd (pc := 152) C hL rfl hrun (fun rr1 e1 => Z_runV (rest := []) C hH (m_X4_payOut hl9 e1) wV_X4_436 c10 rfl (by decide) rfl rfl ⟨by decide, by decide⟩ rfl (Nat.le_of_ble_eq_true rfl) hl.1 dX4_pay_152) (fun _ h9 H locs cells slots hH hL hrun => ?_)
    exact b_X4_pay_155 C K43 x0 x1 x3 x5 x6 h9 H locs cells slots ls hH hL (lv_sub hl [0, 1, 2, 3, 4] rfl) hrun
  · have hrun := ite_f hrun c_
    refine lv_iconst (v := (0 : Int32)) (pc := 131) hx hb dX4_pay_131 (by decide) ?_
    refine lv_istore (i := 5) (lv' := [(5, .int (0 : Int32)), (0, rv x0), (1, .long x1), (3, .long x3), (6, .int x6), (7, .long x7)]) (pc := 132) hx hb dX4_pay_132 hl (by decide) rfl (fun ls hl => ?_)
    refine lv_goto (tgt := 155) (pc := 134) hx hb dX4_pay_134 (by decide) ?_
    exact b_X4_pay_155 C K43 x0 x1 x3 (0 : Int32) x6 h H locs cells slots ls hH hL (lv_sub hl [1, 2, 3, 0, 4] rfl) hrun

theorem b_X4_pay_43 {rr : (Int64 ⊕ Ex) × Hp}  (C : CX p l R s m args meth c D Hs cX4_pay "MassclaimModel" 9 (some .long) [] 11 409)  : ∀ (n : Nat) (x0 : Nat) (x1 : Int64) (x3 : Int64) (x5 : Int32) (x6 : Int32) (h : Hp) (H : Heap) (locs : List Loc) (cells slots : Nat) (ls : Array Slot), HP D Hs h H → LO Hs locs → lv_has ls 9 [(0, rv x0), (1, .long x1), (3, .long x3), (5, .int x5), (6, .int x6)] → f_X4_pay_43 n x0 x1 x3 x5 x6 h = some rr → W p l e R s m args below meth c H locs cells slots (ZM D Hs iL rr below args s) (F0 m 43 ls []) := by
  obtain ⟨⟨hx, hb, hml, hown, hts⟩, -⟩ := id C
  have hl9 := C.2.1.2.2.1
  intro n
  induction n with
  | zero =>
    intro x0 x1 x3 x5 x6 h H locs cells slots ls hH hL hl hrun
    cases (show (none : Option _) = some rr from hrun)
  | succ n ih =>
    intro x0 x1 x3 x5 x6 h H locs cells slots ls hH hL hl hrun
    rw [f_X4_pay_43] at hrun
    refine lv_iload (pc := 43) hx hb dX4_pay_43 (lv_at hl 4 rfl) ?_
    refine V_aload_n (pc := 45) hx hb dX4_pay_45 rfl (lv_at hl 0 rfl) ?_
    obtain ⟨c11, hrun⟩ := gd_some hrun
    refine V_getR (pc := 46) C hH fr_X4_30 dX4_pay_46 c11 rfl ?_
    obtain ⟨c14, hrun⟩ := gd_some hrun
    refine V_bd (pc := 49) C hL rfl hrun (fun rr1 e1 => Z_runV (rest := [.int x6]) C hH (m_J2_size hl9 e1) wV_X4_94 c14 rfl (by decide) rfl rfl ⟨by decide, by decide⟩ rfl (Nat.le_of_ble_eq_true rfl) hl.1 dX4_pay_49) (fun v12 h13 H locs cells slots hH hL hrun => ?_)
    refine lv_icmp_ge (tgt := 161) (pc := 52) hx hb dX4_pay_52 (by decide) (fun c_ => ?_) (fun c_ => ?_)
    · have hrun := ite_t hrun c_
      exact b_X4_pay_161 C x0 x1 h13 H locs cells slots ls hH hL (lv_sub hl [0, 1] rfl) hrun
    · have hrun := ite_f hrun c_
      refine lv_iload (pc := 55) hx hb dX4_pay_55 (lv_at hl 3 rfl) ?_
      refine lv_if_eq (tgt := 161) (pc := 57) hx hb dX4_pay_57 (by decide) (fun c_ => ?_) (fun c_ => ?_)
      · have hrun := ite_t hrun c_
        exact b_X4_pay_161 C x0 x1 h13 H locs cells slots ls hH hL (lv_sub hl [0, 1] rfl) hrun
      · have hrun := ite_f hrun c_
        refine V_aload_n (pc := 60) hx hb dX4_pay_60 rfl (lv_at hl 0 rfl) ?_
        refine V_aload_n (pc := 61) hx hb dX4_pay_61 rfl (lv_at hl 0 rfl) ?_
        obtain ⟨c15, hrun⟩ := gd_some hrun
        refine V_getR (pc := 62) C hH fr_X4_30 dX4_pay_62 c15 rfl ?_
        refine lv_iload (pc := 65) hx hb dX4_pay_65 (lv_at hl 4 rfl) ?_
        obtain ⟨c18, hrun⟩ := gd_some hrun
        refine V_bd (pc := 67) C hL rfl hrun (fun rr1 e1 => Z_runV (rest := [rv x0]) C hH (m_J2_get hl9 e1) wV_X4_108 c18 rfl (by decide) rfl rfl ⟨by decide, by decide⟩ rfl (by simp [csum, rv_cat, cat_i, cat_l, cat_f, cat_d]) hl.1 dX4_pay_67) (fun v16 h17 H locs cells slots hH hL hrun => ?_)
        obtain ⟨c19, hrun⟩ := gd_some hrun
        refine V_castX (pc := 70) (ci := 12) C hH rfl (by decide) q1955 dX4_pay_70 c19 ?_
        refine V_aload_n (pc := 73) hx hb dX4_pay_73 rfl (lv_at hl 0 rfl) ?_
        obtain ⟨c20, hrun⟩ := gd_some hrun
        refine V_getI (pc := 74) C hH fr_X4_73 dX4_pay_74 c20 rfl ?_
        refine V_bd (pc := 77) C hL rfl hrun (fun rr1 e1 => Z_runV (rest := []) C hH (m_X4_due hl9 e1) wV_X4_412 c20 rfl (by decide) rfl rfl ⟨by decide, by decide⟩ rfl (Nat.le_of_ble_eq_true rfl) hl.1 dX4_pay_77) (fun v21 h22 H locs cells slots hH hL hrun => ?_)
        refine lv_lstore (i := 7) (lv' := [(7, .long v21), (0, rv x0), (1, .long x1), (3, .long x3), (5, .int x5), (6, .int x6)]) (pc := 80) hx hb dX4_pay_80 hl (by decide) rfl (fun ls hl => ?_)
        refine lv_lload_n (pc := 82) hx hb dX4_pay_82 rfl (lv_at hl 3 rfl) ?_
        refine lv_lload_n (pc := 83) hx hb dX4_pay_83 rfl (lv_at hl 2 rfl) ?_
        refine V_lcmp_le (tgt := 121) (pc := 84) hx hb dX4_pay_84 dX4_pay_85 (by decide) (fun c_ => ?_) (fun c_ => ?_)
        · have hrun := ite_t hrun c_
          exact b_X4_pay_121 C ih x0 x1 x3 x5 x6 v21 h22 H locs cells slots ls hH hL (lv_sub hl [1, 2, 3, 4, 5, 0] rfl) hrun
        · have hrun := ite_f hrun c_
          refine V_aload_n (pc := 88) hx hb dX4_pay_88 rfl (lv_at hl 1 rfl) ?_
          obtain ⟨c23, hrun⟩ := gd_some hrun
          refine V_getI (pc := 89) C hH fr_X4_70 dX4_pay_89 c23 rfl ?_
          refine lv_iconst (v := (1 : Int32)) (pc := 92) hx hb dX4_pay_92 (by decide) ?_
          refine lv_icmp_ne (tgt := 121) (pc := 93) hx hb dX4_pay_93 (by decide) (fun c_ => ?_) (fun c_ => ?_)
          · have hrun := ite_f hrun c_
            exact b_X4_pay_121 C ih x0 x1 x3 x5 x6 v21 h22 H locs cells slots ls hH hL (lv_sub hl [1, 2, 3, 4, 5, 0] rfl) hrun
          · have hrun := ite_t hrun c_
            refine V_aload_n (pc := 96) hx hb dX4_pay_96 rfl (lv_at hl 1 rfl) ?_
            refine V_aload_n (pc := 97) hx hb dX4_pay_97 rfl (lv_at hl 1 rfl) ?_
            refine V_getR (pc := 98) C hH fr_X4_30 dX4_pay_98 c23 rfl ?_
            refine lv_iload (pc := 101) hx hb dX4_pay_101 (lv_at hl 5 rfl) ?_
            obtain ⟨c26, hrun⟩ := gd_some hrun
            refine V_bd (pc := 103) C hL rfl hrun (fun rr1 e1 => Z_runV (rest := [rv x0]) C hH (m_J2_get hl9 e1) wV_X4_108 c26 rfl (by decide) rfl rfl ⟨by decide, by decide⟩ rfl (by simp [csum, rv_cat, cat_i, cat_l, cat_f, cat_d]) hl.1 dX4_pay_103) (fun v24 h25 H locs cells slots hH hL hrun => ?_)
            obtain ⟨c27, hrun⟩ := gd_some hrun
            refine V_castX (pc := 106) (ci := 12) C hH rfl (by decide) q1955 dX4_pay_106 c27 ?_
            refine lv_lload (pc := 109) hx hb dX4_pay_109 (lv_at hl 0 rfl) ?_
            refine lv_lload_n (pc := 111) hx hb dX4_pay_111 rfl (lv_at hl 2 rfl) ?_
            refine lv_lmul (pc := 112) hx hb dX4_pay_112 ?_
            refine lv_lload_n (pc := 113) hx hb dX4_pay_113 rfl (lv_at hl 3 rfl) ?_
            obtain ⟨c28, hrun⟩ := gd_some hrun
            refine lv_ldiv (pc := 114) hx hb dX4_pay_114 c28 ?_
            obtain ⟨c31, hrun⟩ := gd_some hrun
            refine V_bd (pc := 115) C hL rfl hrun (fun rr1 e1 => Z_runV (rest := []) C hH (m_X4_payOut hl9 e1) wV_X4_436 c31 rfl (by decide) rfl rfl ⟨by decide, by decide⟩ rfl (Nat.le_of_ble_eq_true rfl) hl.1 dX4_pay_115) (fun _ h30 H locs cells slots hH hL hrun => ?_)
            refine lv_goto (tgt := 155) (pc := 118) hx hb dX4_pay_118 (by decide) ?_
            exact b_X4_pay_155 C ih x0 x1 x3 x5 x6 h30 H locs cells slots ls hH hL (lv_sub hl [1, 2, 3, 4, 5] rfl) hrun

theorem b_X4_pay_14 {rr : (Int64 ⊕ Ex) × Hp}  (C : CX p l R s m args meth c D Hs cX4_pay "MassclaimModel" 9 (some .long) [] 11 409)  : ∀ (x0 : Nat) (y0 : Nat) (y1 : Int32) (h : Hp) (H : Heap) (locs : List Loc) (cells slots : Nat) (ls : Array Slot), HP D Hs h H → LO Hs locs → lv_has ls 9 [(0, rv x0)] → f_X4_pay_14 x0 y0 y1 h = some rr → W p l e R s m args below meth c H locs cells slots (ZM D Hs iL rr below args s) (F0 m 14 ls [.int y1, rv y0]) := by
  obtain ⟨⟨hx, hb, hml, hown, hts⟩, -⟩ := id C
  have hl9 := C.2.1.2.2.1
  intro x0 y0 y1 h H locs cells slots ls hH hL hl hrun
  unfold f_X4_pay_14 at hrun
  refine lv_iconst (v := (1 : Int32)) (pc := 14) hx hb dX4_pay_14 (by decide) ?_
  obtain ⟨c34, hrun⟩ := gd_some hrun
  refine V_bd (pc := 15) C hL rfl hrun (fun rr1 e1 => Z_runV (rest := []) C hH (m_X4_isGood hl9 e1) wV_X4_104 c34 rfl (by decide) rfl rfl ⟨by decide, by decide⟩ rfl (Nat.le_of_ble_eq_true rfl) hl.1 dX4_pay_15) (fun v32 h33 H locs cells slots hH hL hrun => ?_)
  refine lv_if_ne (tgt := 23) (pc := 18) hx hb dX4_pay_18 (by decide) (fun c_ => ?_) (fun c_ => ?_)
  · have hrun := ite_f hrun c_
    refine V_aload_n (pc := 23) hx hb dX4_pay_23 rfl (lv_at hl 0 rfl) ?_
    obtain ⟨c35, hrun⟩ := gd_some hrun
    refine V_getL (pc := 24) C hH fr_X4_76 dX4_pay_24 c35 rfl ?_
    refine lv_topl (fun v36 ev36 => ?_)
    have hrun := vl_at hrun v36 ev36
    refine lv_lstore_n (i := 1) (lv' := [(1, .long v36), (0, rv x0)]) (pc := 27) hx hb dX4_pay_27 rfl hl (by decide) (by simp [rv_cat, cat_i, cat_l, cat_f, cat_d]) (fun ls hl => ?_)
    refine V_aload_n (pc := 28) hx hb dX4_pay_28 rfl (lv_at hl 1 rfl) ?_
    refine V_aload_n (pc := 29) hx hb dX4_pay_29 rfl (lv_at hl 1 rfl) ?_
    refine V_getI (pc := 30) C hH fr_X4_73 dX4_pay_30 c35 rfl ?_
    refine V_bd (pc := 33) C hL rfl hrun (fun rr1 e1 => Z_runV (rest := []) C hH (m_X4_allDue hl9 e1) wV_X4_429 c35 rfl (by decide) rfl rfl ⟨by decide, by decide⟩ rfl (Nat.le_of_ble_eq_true rfl) hl.1 dX4_pay_33) (fun v37 h38 H locs cells slots hH hL hrun => ?_)
    refine lv_lstore_n (i := 3) (lv' := [(3, .long v37), (1, .long v36), (0, rv x0)]) (pc := 36) hx hb dX4_pay_36 rfl hl (by decide) rfl (fun ls hl => ?_)
    refine lv_iconst (v := (1 : Int32)) (pc := 37) hx hb dX4_pay_37 (by decide) ?_
    refine lv_istore (i := 5) (lv' := [(5, .int (1 : Int32)), (3, .long v37), (1, .long v36), (0, rv x0)]) (pc := 38) hx hb dX4_pay_38 hl (by decide) rfl (fun ls hl => ?_)
    refine lv_iconst (v := (0 : Int32)) (pc := 40) hx hb dX4_pay_40 (by decide) ?_
    refine lv_istore (i := 6) (lv' := [(6, .int (0 : Int32)), (5, .int (1 : Int32)), (3, .long v37), (1, .long v36), (0, rv x0)]) (pc := 41) hx hb dX4_pay_41 hl (by decide) rfl (fun ls hl => ?_)
    exact b_X4_pay_43 C FU x0 v36 v37 (1 : Int32) (0 : Int32) h38 H locs cells slots ls hH hL (lv_sub hl [4, 3, 2, 1, 0] rfl) hrun
  · have hrun := ite_t hrun c_
    refine lv_lconst (v := (0 : Int64)) (pc := 21) hx hb dX4_pay_21 (by decide) ?_
    exact V_lret (pc := 22) C hH hL hrun dX4_pay_22

theorem b_X4_pay {rr : (Int64 ⊕ Ex) × Hp}  (C : CX p l R s m args meth c D Hs cX4_pay "MassclaimModel" 9 (some .long) [] 11 409)  : ∀ (x0 : Nat) (h : Hp) (H : Heap) (locs : List Loc) (cells slots : Nat) (ls : Array Slot), HP D Hs h H → LO Hs locs → lv_has ls 9 [(0, rv x0)] → f_X4_pay x0 h = some rr → W p l e R s m args below meth c H locs cells slots (ZM D Hs iL rr below args s) (F0 m 0 ls []) := by
  obtain ⟨⟨hx, hb, hml, hown, hts⟩, -⟩ := id C
  have hl9 := C.2.1.2.2.1
  intro x0 h H locs cells slots ls hH hL hl hrun
  unfold f_X4_pay at hrun
  refine V_aload_n (pc := 0) hx hb dX4_pay_0 rfl (lv_at hl 0 rfl) ?_
  refine V_aload_n (pc := 1) hx hb dX4_pay_1 rfl (lv_at hl 0 rfl) ?_
  obtain ⟨c39, hrun⟩ := gd_some hrun
  refine V_getI (pc := 2) C hH fr_X4_53 dX4_pay_2 c39 rfl ?_
  refine lv_iconst (v := (3 : Int32)) (pc := 5) hx hb dX4_pay_5 (by decide) ?_
  refine lv_icmp_ne (tgt := 13) (pc := 6) hx hb dX4_pay_6 (by decide) (fun c_ => ?_) (fun c_ => ?_)
  · have hrun := ite_f hrun c_
    refine lv_iconst (v := (0 : Int32)) (pc := 13) hx hb dX4_pay_13 (by decide) ?_
    exact b_X4_pay_14 C x0 x0 (0 : Int32) h H locs cells slots ls hH hL (lv_sub hl [0] rfl) hrun
  · have hrun := ite_t hrun c_
    refine lv_iconst (v := (1 : Int32)) (pc := 9) hx hb dX4_pay_9 (by decide) ?_
    refine lv_goto (tgt := 14) (pc := 10) hx hb dX4_pay_10 (by decide) ?_
    exact b_X4_pay_14 C x0 x0 (1 : Int32) h H locs cells slots ls hH hL (lv_sub hl [0] rfl) hrun

theorem m_X4_pay {l : Launch} {D : va_G} {Hs : Heap} {h : Hp} {rr : (Int64 ⊕ Ex) × Hp} (hl9 : l.stackTraces = false) {x0 : Nat} (hrun : f_X4_pay x0 h = some rr) : CM l yX4_pay (ws_ yX4_pay cX4_pay 9 (some .long)) 11 409 iL [rv x0] D Hs h rr := by
  refine CM.of (lv := [(0, rv x0)]) (plainFor_of_name (by decide)) hl9 (by simp [lv_args, rv_cat, cat_i, cat_l, cat_f, cat_d]) (by simp [lg_sl, rv_cat, cat_i, cat_l, cat_f, cat_d]) ?_
  intro p e R s m args below meth c H ls C hH hl hin
  exact b_X4_pay C x0 _ H [] _ _ ls hH (fun _ q => nomatch q) (lv_sub hl [0] rfl) hrun

/-! Massclaim$Lien.<init>(ILMassclaim$Person;IZ)V -/
def f_X16_init  (x0 : Nat) (x1 : Int32) (x2 : Nat) (x3 : Int32) (x4 : Int32) (h : Hp) : Rt Unit :=
  gd (kC h x0 = 16) <| vl (sI h 1500 x0 x1) fun h2 => gd (kC h2 x0 = 16) <| vl (sR h2 1501 x0 x2) fun h4 => gd (kC h4 x0 = 16) <| vl (sI h4 1503 x0 x3) fun h6 => gd (kC h6 x0 = 16) <| gd (b01 x4) <| vl (sI h6 1502 x0 x4) fun h9 => some (.inl (), h9)
theorem b_X16_init {rr : (Unit ⊕ Ex) × Hp}  (C : CX p l R s m args meth c D Hs cX16_init "Massclaim$Lien" 5 none [] 1 20) (hin : meth.name = "<init>")  : ∀ (x0 : Nat) (x1 : Int32) (x2 : Nat) (x3 : Int32) (x4 : Int32) (h : Hp) (H : Heap) (locs : List Loc) (cells slots : Nat) (ls : Array Slot), HP D Hs h H → LO Hs locs → lv_has ls 5 [(0, rv x0), (1, .int x1), (2, rv x2), (3, .int x3), (4, .int x4)] → f_X16_init x0 x1 x2 x3 x4 h = some rr → W p l e R s m args below meth c H locs cells slots (ZM D Hs iV rr below args s) (F0 m 0 ls []) := by
  obtain ⟨⟨hx, hb, hml, hown, hts⟩, -⟩ := id C
  have hl9 := C.2.1.2.2.1
  intro x0 x1 x2 x3 x4 h H locs cells slots ls hH hL hl hrun
  unfold f_X16_init at hrun
  refine V_aload_n (pc := 0) hx hb dX16_init_0 rfl (lv_at hl 0 rfl) ?_
  obtain ⟨c1, hrun⟩ := gd_some hrun
  refine V_objInit (pc := 1) C q1752 q113 q114 (hH.pos c1) dX16_init_1 (by decide) (by simp [csum, rv_cat, cat_i, cat_l, cat_f, cat_d]) hl.1 ?_
  refine V_aload_n (pc := 4) hx hb dX16_init_4 rfl (lv_at hl 0 rfl) ?_
  refine lv_iload_n (pc := 5) hx hb dX16_init_5 rfl (lv_at hl 1 rfl) ?_
  refine V_putI (pc := 6) C hH hL fl_X16_7 dX16_init_6 c1 (fok_i _) rfl (fun _ => hin) hrun (fun h2 H locs hH hL hrun => ?_)
  refine V_aload_n (pc := 9) hx hb dX16_init_9 rfl (lv_at hl 0 rfl) ?_
  refine V_aload_n (pc := 10) hx hb dX16_init_10 rfl (lv_at hl 2 rfl) ?_
  obtain ⟨c3, hrun⟩ := gd_some hrun
  refine V_putR (pc := 11) C hH hL fl_X16_13 dX16_init_11 c3 (fok_o _ _) rfl (fun _ => hin) hrun (fun h4 H locs hH hL hrun => ?_)
  refine V_aload_n (pc := 14) hx hb dX16_init_14 rfl (lv_at hl 0 rfl) ?_
  refine lv_iload_n (pc := 15) hx hb dX16_init_15 rfl (lv_at hl 3 rfl) ?_
  obtain ⟨c5, hrun⟩ := gd_some hrun
  refine V_putI (pc := 16) C hH hL fl_X16_17 dX16_init_16 c5 (fok_i _) rfl (fun q => Bool.noConfusion q) hrun (fun h6 H locs hH hL hrun => ?_)
  refine V_aload_n (pc := 19) hx hb dX16_init_19 rfl (lv_at hl 0 rfl) ?_
  refine lv_iload (pc := 20) hx hb dX16_init_20 (lv_at hl 4 rfl) ?_
  obtain ⟨c7, hrun⟩ := gd_some hrun
  obtain ⟨c8, hrun⟩ := gd_some hrun
  refine V_putI (pc := 22) C hH hL fl_X16_20 dX16_init_22 c7 (fok_z c8) rfl (fun _ => hin) hrun (fun h9 H locs hH hL hrun => ?_)
  exact V_vret (pc := 25) C hH hL hrun dX16_init_25

theorem m_X16_init {l : Launch} {D : va_G} {Hs : Heap} {h : Hp} {rr : (Unit ⊕ Ex) × Hp} (hl9 : l.stackTraces = false) {x0 : Nat} {x1 : Int32} {x2 : Nat} {x3 : Int32} {x4 : Int32} (hrun : f_X16_init x0 x1 x2 x3 x4 h = some rr) : CM l yX16_init (ws_ yX16_init cX16_init 5 none) 1 20 iV [rv x0, .int x1, rv x2, .int x3, .int x4] D Hs h rr := by
  refine CM.of (lv := [(0, rv x0), (1, .int x1), (2, rv x2), (3, .int x3), (4, .int x4)]) (plainFor_of_name (by decide)) hl9 (by simp [lv_args, rv_cat, cat_i, cat_l, cat_f, cat_d]) (by simp [lg_sl, rv_cat, cat_i, cat_l, cat_f, cat_d]) ?_
  intro p e R s m args below meth c H ls C hH hl hin
  exact b_X16_init C hin x0 x1 x2 x3 x4 _ H [] _ _ ls hH (fun _ q => nomatch q) (lv_sub hl [0, 1, 2, 3, 4] rfl) hrun

/-! Massclaim.lien(IIZ)I -/
def f_X1_lien  (x0 : Nat) (x1 : Int32) (x2 : Int32) (x3 : Int32) (h : Hp) : Rt Int32 :=
  gd (kC h x0 = 1) <| gd (kC h (kR h 0 x0) = 2) <| bd (f_X2_at (kR h 0 x0) x1 h) fun v2 h3 => gd (v2 = 0 ∨ kC h3 v2 = 5) <| bd (f_X1_isIn (x2.toInt64) (1 : Int64) (1000000 : Int64) h3) fun v6 h7 => bd (f_X1_requireArgument v6 h7) fun _ h9 => gd (kC h9 x0 = 1) <| nw h9 16 4 fun q11 h12 => gd (kC h12 x0 = 1) <| gd (kC h12 (kR h12 4 x0) = 2) <| bd (f_X2_size (kR h12 4 x0) h12) fun v14 h15 => gd (kC h15 q11 = 16) <| bd (f_X16_init q11 v14 v2 x2 x3 h15) fun _ h18 => gd (kC h18 (kR h9 4 x0) = 2) <| bd (f_X2_add (kR h9 4 x0) q11 h18) fun v20 h21 => some (.inl v20, h21)
theorem b_X1_lien {rr : (Int32 ⊕ Ex) × Hp}  (C : CX p l R s m args meth c D Hs cX1_lien "Massclaim" 5 (some .int) [] 9 353)  : ∀ (x0 : Nat) (x1 : Int32) (x2 : Int32) (x3 : Int32) (h : Hp) (H : Heap) (locs : List Loc) (cells slots : Nat) (ls : Array Slot), HP D Hs h H → LO Hs locs → lv_has ls 5 [(0, rv x0), (1, .int x1), (2, .int x2), (3, .int x3)] → f_X1_lien x0 x1 x2 x3 h = some rr → W p l e R s m args below meth c H locs cells slots (ZM D Hs iI rr below args s) (F0 m 0 ls []) := by
  obtain ⟨⟨hx, hb, hml, hown, hts⟩, -⟩ := id C
  have hl9 := C.2.1.2.2.1
  intro x0 x1 x2 x3 h H locs cells slots ls hH hL hl hrun
  unfold f_X1_lien at hrun
  refine V_aload_n (pc := 0) hx hb dX1_lien_0 rfl (lv_at hl 0 rfl) ?_
  obtain ⟨c1, hrun⟩ := gd_some hrun
  refine V_getR (pc := 1) C hH fr_X1_42 dX1_lien_1 c1 rfl ?_
  refine lv_iload_n (pc := 4) hx hb dX1_lien_4 rfl (lv_at hl 1 rfl) ?_
  obtain ⟨c4, hrun⟩ := gd_some hrun
  refine V_bd (pc := 5) C hL rfl hrun (fun rr1 e1 => Z_runV (rest := []) C hH (m_X2_at hl9 e1) wV_X1_136 c4 rfl (by decide) rfl rfl ⟨by decide, by decide⟩ rfl (Nat.le_of_ble_eq_true rfl) hl.1 dX1_lien_5) (fun v2 h3 H locs cells slots hH hL hrun => ?_)
  obtain ⟨c5, hrun⟩ := gd_some hrun
  refine V_castX (pc := 8) (ci := 4) C hH rfl (by decide) q376 dX1_lien_8 c5 ?_
  refine V_astore (i := 4) (lv' := [(4, rv v2), (0, rv x0), (1, .int x1), (2, .int x2), (3, .int x3)]) (pc := 11) hx hb dX1_lien_11 hl (by decide) rfl (fun ls hl => ?_)
  refine lv_iload_n (pc := 13) hx hb dX1_lien_13 rfl (lv_at hl 3 rfl) ?_
  refine lv_i2l (pc := 14) hx hb dX1_lien_14 rfl ?_
  refine lv_lconst (v := (1 : Int64)) (pc := 15) hx hb dX1_lien_15 (by decide) ?_
  refine lv_ldc2 (pc := 16) hx hb hown (hts _ q1513) dX1_lien_16 ?_
  refine V_bd (pc := 19) C hL rfl hrun (fun rr1 e1 => Z_runS (rest := []) C hH (m_X1_isIn hl9 e1) wS_X1_127 rfl ⟨by decide, by decide⟩ rfl (Nat.le_of_ble_eq_true rfl) hl.1 dX1_lien_19) (fun v6 h7 H locs cells slots hH hL hrun => ?_)
  refine V_bd (pc := 22) C hL rfl hrun (fun rr1 e1 => Z_runS (rest := []) C hH (m_X1_requireArgument hl9 e1) wS_X1_131 rfl ⟨by decide, by decide⟩ rfl (Nat.le_of_ble_eq_true rfl) hl.1 dX1_lien_22) (fun _ h9 H locs cells slots hH hL hrun => ?_)
  refine V_aload_n (pc := 25) hx hb dX1_lien_25 rfl (lv_at hl 1 rfl) ?_
  obtain ⟨c10, hrun⟩ := gd_some hrun
  refine V_getR (pc := 26) C hH fr_X1_55 dX1_lien_26 c10 rfl ?_
  refine V_new (pc := 29) C hH nl_X1_476 dX1_lien_29 hrun (fun q11 h12 H cells slots hH hrun => ?_)
  refine lv_dup (pc := 32) hx hb dX1_lien_32 (rv_cat _) ?_
  refine V_aload_n (pc := 33) hx hb dX1_lien_33 rfl (lv_at hl 1 rfl) ?_
  obtain ⟨c13, hrun⟩ := gd_some hrun
  refine V_getR (pc := 34) C hH fr_X1_55 dX1_lien_34 c13 rfl ?_
  obtain ⟨c16, hrun⟩ := gd_some hrun
  refine V_bd (pc := 37) C hL rfl hrun (fun rr1 e1 => Z_runV (rest := [rv q11, rv q11, rv (kR h9 4 x0)]) C hH (m_X2_size hl9 e1) wV_X1_135 c16 rfl (by decide) rfl rfl ⟨by decide, by decide⟩ rfl (by simp [csum, rv_cat, cat_i, cat_l, cat_f, cat_d]) hl.1 dX1_lien_37) (fun v14 h15 H locs cells slots hH hL hrun => ?_)
  refine V_aload (pc := 40) hx hb dX1_lien_40 (lv_at hl 0 rfl) ?_
  refine lv_iload_n (pc := 42) hx hb dX1_lien_42 rfl (lv_at hl 3 rfl) ?_
  refine lv_iload_n (pc := 43) hx hb dX1_lien_43 rfl (lv_at hl 4 rfl) ?_
  obtain ⟨c19, hrun⟩ := gd_some hrun
  refine V_bd (pc := 44) C hL rfl hrun (fun rr1 e1 => Z_runI (rest := [rv q11, rv (kR h9 4 x0)]) C hH (m_X16_init hl9 e1) wI_X1_478 (hH.pos c19) rfl ⟨by decide, by decide⟩ rfl (by simp [csum, rv_cat, cat_i, cat_l, cat_f, cat_d]) hl.1 dX1_lien_44) (fun _ h18 H locs cells slots hH hL hrun => ?_)
  obtain ⟨c22, hrun⟩ := gd_some hrun
  refine V_bd (pc := 47) C hL rfl hrun (fun rr1 e1 => Z_runV (rest := []) C hH (m_X2_add hl9 e1) wV_X1_174 c22 rfl (by decide) rfl rfl ⟨by decide, by decide⟩ rfl (Nat.le_of_ble_eq_true rfl) hl.1 dX1_lien_47) (fun v20 h21 H locs cells slots hH hL hrun => ?_)
  exact V_iret (pc := 50) C hH hL hrun dX1_lien_50

theorem m_X1_lien {l : Launch} {D : va_G} {Hs : Heap} {h : Hp} {rr : (Int32 ⊕ Ex) × Hp} (hl9 : l.stackTraces = false) {x0 : Nat} {x1 : Int32} {x2 : Int32} {x3 : Int32} (hrun : f_X1_lien x0 x1 x2 x3 h = some rr) : CM l yX1_lien (ws_ yX1_lien cX1_lien 5 (some .int)) 9 353 iI [rv x0, .int x1, .int x2, .int x3] D Hs h rr := by
  refine CM.of (lv := [(0, rv x0), (1, .int x1), (2, .int x2), (3, .int x3)]) (plainFor_of_name (by decide)) hl9 (by simp [lv_args, rv_cat, cat_i, cat_l, cat_f, cat_d]) (by simp [lg_sl, rv_cat, cat_i, cat_l, cat_f, cat_d]) ?_
  intro p e R s m args below meth c H ls C hH hl hin
  exact b_X1_lien C x0 x1 x2 x3 _ H [] _ _ ls hH (fun _ q => nomatch q) (lv_sub hl [0, 1, 2, 3] rfl) hrun

/-! MassclaimLaw.lien(LMassclaim;IIZ[J)I -/
def f_X0_lien_15  (y0 : Nat) (h : Hp) : Rt Int32 :=
  some (.inl (1 : Int32), h)
def f_X0_lien_19  (y0 : Nat) (h : Hp) : Rt Int32 :=
  some (.inl (2 : Int32), h)
def f_X0_lien_23  (y0 : Nat) (h : Hp) : Rt Int32 :=
  some (.inl (3 : Int32), h)
def f_X0_lien  (x0 : Nat) (x1 : Int32) (x2 : Int32) (x3 : Int32) (x4 : Nat) (h : Hp) : Rt Int32 :=
  gd (kC h x0 = 1) <| bdH (f_X1_lien x0 x1 x2 x3 h)
  (fun v1 h2 => gd (kC h2 x4 = 102 ∧ ixo (0 : Int32) (kN h2 x4)) <| vl (tL h2 x4 ((0 : Int32)).toNatClampNeg (v1.toInt64)) fun h5 => some (.inl (0 : Int32), h5))
  (fun ex6 h7 => if ex6.1 = 901 then
  (f_X0_lien_15 ex6.2 h7)
  else
  if ex6.1 = 902 then
  (f_X0_lien_19 ex6.2 h7)
  else
  if ex6.1 = 903 then
  (f_X0_lien_23 ex6.2 h7)
  else
  none)
theorem b_X0_lien_15 {rr : (Int32 ⊕ Ex) × Hp}  (C : CX p l R s m args meth c D Hs cX0_lien "MassclaimLaw" 6 (some .int) [(0, 12, 15, 25), (0, 12, 19, 13), (0, 12, 23, 19)] 10 377)  : ∀ (y0 : Nat) (h : Hp) (H : Heap) (locs : List Loc) (cells slots : Nat) (ls : Array Slot), HP D Hs h H → LO Hs locs → lv_has ls 6 [] → f_X0_lien_15 y0 h = some rr → W p l e R s m args below meth c H locs cells slots (ZM D Hs iI rr below args s) (F0 m 15 ls [rv y0]) := by
  obtain ⟨⟨hx, hb, hml, hown, hts⟩, -⟩ := id C
  have hl9 := C.2.1.2.2.1
  intro y0 h H locs cells slots ls hH hL hl hrun
  unfold f_X0_lien_15 at hrun
  refine V_astore (i := 5) (lv' := [(5, rv y0)]) (pc := 15) hx hb dX0_lien_15 hl (by decide) rfl (fun ls hl => ?_)
  refine lv_iconst (v := (1 : Int32)) (pc := 17) hx hb dX0_lien_17 (by decide) ?_
  exact V_iret (pc := 18) C hH hL hrun dX0_lien_18

theorem b_X0_lien_19 {rr : (Int32 ⊕ Ex) × Hp}  (C : CX p l R s m args meth c D Hs cX0_lien "MassclaimLaw" 6 (some .int) [(0, 12, 15, 25), (0, 12, 19, 13), (0, 12, 23, 19)] 10 377)  : ∀ (y0 : Nat) (h : Hp) (H : Heap) (locs : List Loc) (cells slots : Nat) (ls : Array Slot), HP D Hs h H → LO Hs locs → lv_has ls 6 [] → f_X0_lien_19 y0 h = some rr → W p l e R s m args below meth c H locs cells slots (ZM D Hs iI rr below args s) (F0 m 19 ls [rv y0]) := by
  obtain ⟨⟨hx, hb, hml, hown, hts⟩, -⟩ := id C
  have hl9 := C.2.1.2.2.1
  intro y0 h H locs cells slots ls hH hL hl hrun
  unfold f_X0_lien_19 at hrun
  refine V_astore (i := 5) (lv' := [(5, rv y0)]) (pc := 19) hx hb dX0_lien_19 hl (by decide) rfl (fun ls hl => ?_)
  refine lv_iconst (v := (2 : Int32)) (pc := 21) hx hb dX0_lien_21 (by decide) ?_
  exact V_iret (pc := 22) C hH hL hrun dX0_lien_22

theorem b_X0_lien_23 {rr : (Int32 ⊕ Ex) × Hp}  (C : CX p l R s m args meth c D Hs cX0_lien "MassclaimLaw" 6 (some .int) [(0, 12, 15, 25), (0, 12, 19, 13), (0, 12, 23, 19)] 10 377)  : ∀ (y0 : Nat) (h : Hp) (H : Heap) (locs : List Loc) (cells slots : Nat) (ls : Array Slot), HP D Hs h H → LO Hs locs → lv_has ls 6 [] → f_X0_lien_23 y0 h = some rr → W p l e R s m args below meth c H locs cells slots (ZM D Hs iI rr below args s) (F0 m 23 ls [rv y0]) := by
  obtain ⟨⟨hx, hb, hml, hown, hts⟩, -⟩ := id C
  have hl9 := C.2.1.2.2.1
  intro y0 h H locs cells slots ls hH hL hl hrun
  unfold f_X0_lien_23 at hrun
  refine V_astore (i := 5) (lv' := [(5, rv y0)]) (pc := 23) hx hb dX0_lien_23 hl (by decide) rfl (fun ls hl => ?_)
  refine lv_iconst (v := (3 : Int32)) (pc := 25) hx hb dX0_lien_25 (by decide) ?_
  exact V_iret (pc := 26) C hH hL hrun dX0_lien_26

theorem b_X0_lien {rr : (Int32 ⊕ Ex) × Hp}  (C : CX p l R s m args meth c D Hs cX0_lien "MassclaimLaw" 6 (some .int) [(0, 12, 15, 25), (0, 12, 19, 13), (0, 12, 23, 19)] 10 377)  : ∀ (x0 : Nat) (x1 : Int32) (x2 : Int32) (x3 : Int32) (x4 : Nat) (h : Hp) (H : Heap) (locs : List Loc) (cells slots : Nat) (ls : Array Slot), HP D Hs h H → LO Hs locs → lv_has ls 6 [(0, rv x0), (1, .int x1), (2, .int x2), (3, .int x3), (4, rv x4)] → f_X0_lien x0 x1 x2 x3 x4 h = some rr → W p l e R s m args below meth c H locs cells slots (ZM D Hs iI rr below args s) (F0 m 0 ls []) := by
  obtain ⟨⟨hx, hb, hml, hown, hts⟩, -⟩ := id C
  have hl9 := C.2.1.2.2.1
  intro x0 x1 x2 x3 x4 h H locs cells slots ls hH hL hl hrun
  unfold f_X0_lien at hrun
  refine V_aload (pc := 0) hx hb dX0_lien_0 (lv_at hl 4 rfl) ?_
  refine lv_iconst (v := (0 : Int32)) (pc := 2) hx hb dX0_lien_2 (by decide) ?_
  refine V_aload_n (pc := 3) hx hb dX0_lien_3 rfl (lv_at hl 0 rfl) ?_
  refine lv_iload_n (pc := 4) hx hb dX0_lien_4 rfl (lv_at hl 1 rfl) ?_
  refine lv_iload_n (pc := 5) hx hb dX0_lien_5 rfl (lv_at hl 2 rfl) ?_
  refine lv_iload_n (pc := 6) hx hb dX0_lien_6 rfl (lv_at hl 3 rfl) ?_
  obtain ⟨c3, hrun⟩ := gd_some hrun
  refine V_bdH (pc := 7) hL hrun (fun rr1 e1 => Z_runV (rest := [.int (0 : Int32), rv x4]) C hH (m_X1_lien hl9 e1) wV_X0_138 c3 rfl (by decide) rfl rfl ⟨by decide, by decide⟩ rfl (by simp [csum, rv_cat, cat_i, cat_l, cat_f, cat_d]) hl.1 dX0_lien_7) (fun v1 h2 H locs cells slots hH hL hrun => ?_) (fun x_ q_ ce_ h7 H locs cells slots hH hL hrun hc_ hv_ hcl_ => ?_)
  · refine lv_i2l (pc := 10) hx hb dX0_lien_10 rfl ?_
    obtain ⟨c4, hrun⟩ := gd_some hrun
    refine V_last (pc := 11) C hH hL dX0_lien_11 c4 hrun (fun h5 H locs hH hL hrun => ?_)
    refine lv_goto (tgt := 27) (pc := 12) hx hb dX0_lien_12 (by decide) ?_
    refine lv_iconst (v := (0 : Int32)) (pc := 27) hx hb dX0_lien_27 (by decide) ?_
    exact V_iret (pc := 28) C hH hL hrun dX0_lien_28
  · by_cases n901 : x_ = 901
    · subst n901
      have hrun := ite_t hrun rfl
      refine vx_catch (E := "java/lang/IndexOutOfBoundsException") (name := "java/lang/IndexOutOfBoundsException") hown (tableOf []) ⟨0, 12, 15, 25⟩ (tableOf [(0, 12, 19, 13), (0, 12, 23, 19)]) (by rw [C.2.1.2.2.2.2]; rfl) (fun z hz => nomatch hz) (by decide) (by decide) (hts _ q829) (va_Nw.use rfl (C.2.1.2.2.2.1.2.1 _ q537 rfl)) hc_ hv_ hcl_ ?_
      exact b_X0_lien_15 C (q_ + 1) h7 H locs cells slots ls hH hL (lv_sub hl [] rfl) hrun
    have hrun := ite_f hrun n901
    by_cases n902 : x_ = 902
    · subst n902
      have hrun := ite_t hrun rfl
      refine vx_catch (E := "java/lang/IllegalArgumentException") (name := "java/lang/IllegalArgumentException") hown (tableOf [(0, 12, 15, 25)]) ⟨0, 12, 19, 13⟩ (tableOf [(0, 12, 23, 19)]) (by rw [C.2.1.2.2.2.2]; rfl) (fun z hz => by simp only [tableOf, List.map, List.mem_cons, List.not_mem_nil, or_false] at hz; rcases hz with rfl <;> first | exact Or.inr ⟨by decide, "java/lang/IndexOutOfBoundsException", hts _ q829, nc_at C (by decide)⟩) (by decide) (by decide) (hts _ q449) (va_Nw.use rfl (C.2.1.2.2.2.1.2.1 _ q463 rfl)) hc_ hv_ hcl_ ?_
      exact b_X0_lien_19 C (q_ + 1) h7 H locs cells slots ls hH hL (lv_sub hl [] rfl) hrun
    have hrun := ite_f hrun n902
    by_cases n903 : x_ = 903
    · subst n903
      have hrun := ite_t hrun rfl
      refine vx_catch (E := "java/lang/IllegalStateException") (name := "java/lang/IllegalStateException") hown (tableOf [(0, 12, 15, 25), (0, 12, 19, 13)]) ⟨0, 12, 23, 19⟩ (tableOf []) (by rw [C.2.1.2.2.2.2]; rfl) (fun z hz => by simp only [tableOf, List.map, List.mem_cons, List.not_mem_nil, or_false] at hz; rcases hz with rfl | rfl <;> first | exact Or.inr ⟨by decide, "java/lang/IndexOutOfBoundsException", hts _ q829, nc_at C (by decide)⟩ | exact Or.inr ⟨by decide, "java/lang/IllegalArgumentException", hts _ q449, nc_at C (by decide)⟩) (by decide) (by decide) (hts _ q585) (va_Nw.use rfl (C.2.1.2.2.2.1.2.1 _ q702 rfl)) hc_ hv_ hcl_ ?_
      exact b_X0_lien_23 C (q_ + 1) h7 H locs cells slots ls hH hL (lv_sub hl [] rfl) hrun
    have hrun := ite_f hrun n903
    cases hrun

theorem m_X0_lien {l : Launch} {D : va_G} {Hs : Heap} {h : Hp} {rr : (Int32 ⊕ Ex) × Hp} (hl9 : l.stackTraces = false) {x0 : Nat} {x1 : Int32} {x2 : Int32} {x3 : Int32} {x4 : Nat} (hrun : f_X0_lien x0 x1 x2 x3 x4 h = some rr) : CM l yX0_lien (wsW_ yX0_lien cX0_lien 6 (some .int) [(0, 12, 15, 25), (0, 12, 19, 13), (0, 12, 23, 19)]) 10 377 iI [rv x0, .int x1, .int x2, .int x3, rv x4] D Hs h rr := by
  refine CM.ofH (lv := [(0, rv x0), (1, .int x1), (2, .int x2), (3, .int x3), (4, rv x4)]) (plainFor_of_name (by decide)) hl9 (by simp [lv_args, rv_cat, cat_i, cat_l, cat_f, cat_d]) (by simp [lg_sl, rv_cat, cat_i, cat_l, cat_f, cat_d]) ?_
  intro p e R s m args below meth c H ls C hH hl hin
  exact b_X0_lien C x0 x1 x2 x3 x4 _ H [] _ _ ls hH (fun _ q => nomatch q) (lv_sub hl [0, 1, 2, 3, 4] rfl) hrun

/-! MassclaimModel$Lien.<init>()V -/
def f_X17_init  (x0 : Nat) (h : Hp) : Rt Unit :=
  gd (kC h x0 = 17) <| some (.inl (), h)
theorem b_X17_init {rr : (Unit ⊕ Ex) × Hp}  (C : CX p l R s m args meth c D Hs cX17_init "MassclaimModel$Lien" 1 none [] 1 20) (hin : meth.name = "<init>")  : ∀ (x0 : Nat) (h : Hp) (H : Heap) (locs : List Loc) (cells slots : Nat) (ls : Array Slot), HP D Hs h H → LO Hs locs → lv_has ls 1 [(0, rv x0)] → f_X17_init x0 h = some rr → W p l e R s m args below meth c H locs cells slots (ZM D Hs iV rr below args s) (F0 m 0 ls []) := by
  obtain ⟨⟨hx, hb, hml, hown, hts⟩, -⟩ := id C
  have hl9 := C.2.1.2.2.1
  intro x0 h H locs cells slots ls hH hL hl hrun
  unfold f_X17_init at hrun
  refine V_aload_n (pc := 0) hx hb dX17_init_0 rfl (lv_at hl 0 rfl) ?_
  obtain ⟨c1, hrun⟩ := gd_some hrun
  refine V_objInit (pc := 1) C q2479 q113 q114 (hH.pos c1) dX17_init_1 (by decide) (by simp [csum, rv_cat, cat_i, cat_l, cat_f, cat_d]) hl.1 ?_
  exact V_vret (pc := 4) C hH hL hrun dX17_init_4

theorem m_X17_init {l : Launch} {D : va_G} {Hs : Heap} {h : Hp} {rr : (Unit ⊕ Ex) × Hp} (hl9 : l.stackTraces = false) {x0 : Nat} (hrun : f_X17_init x0 h = some rr) : CM l yX17_init (ws_ yX17_init cX17_init 1 none) 1 20 iV [rv x0] D Hs h rr := by
  refine CM.of (lv := [(0, rv x0)]) (plainFor_of_name (by decide)) hl9 (by simp [lv_args, rv_cat, cat_i, cat_l, cat_f, cat_d]) (by simp [lg_sl, rv_cat, cat_i, cat_l, cat_f, cat_d]) ?_
  intro p e R s m args below meth c H ls C hH hl hin
  exact b_X17_init C hin x0 _ H [] _ _ ls hH (fun _ q => nomatch q) (lv_sub hl [0] rfl) hrun

/-! MassclaimModel.lien(IIZ)I -/
def f_X4_lien_55  (h : Hp) : Rt Int32 :=
  some (.inl (0 : Int32), h)
def f_X4_lien_48  (x0 : Nat) (x1 : Int32) (x2 : Int32) (x3 : Int32) (y0 : Nat) (y1 : Int32) (h : Hp) : Rt Int32 :=
  gd (kC h y0 = 4) <| bd (f_X4_isGood y0 y1 (3 : Int32) h) fun v1 h2 => if v1 = 0 then
  (f_X4_lien_55  h2)
  else
  (nw h2 17 3 fun q4 h5 => gd (kC h5 q4 = 17) <| bd (f_X17_init q4 h5) fun _ h7 => gd (kC h7 x0 = 4) <| gd (kC h7 (kR h7 302 x0) = 18) <| bd (f_J2_get (kR h7 302 x0) x1 h7) fun v10 h11 => gd (v10 = 0 ∨ kC h11 v10 = 6) <| gd (kC h11 q4 = 17) <| vl (sR h11 1600 q4 v10) fun h15 => gd (kC h15 q4 = 17) <| vl (sI h15 1601 q4 x2) fun h17 => gd (kC h17 q4 = 17) <| gd (b01 x3) <| vl (sI h17 1602 q4 x3) fun h20 => gd (kC h20 x0 = 4) <| gd (kC h20 (kR h20 321 x0) = 18) <| bd (f_J2_add (kR h20 321 x0) q4 h20) fun v22 h23 => gd (kC h23 x0 = 4) <| gd (kC h23 (kR h23 321 x0) = 18) <| bd (f_J2_size (kR h23 321 x0) h23) fun v26 h27 => some (.inl (v26 - (1 : Int32)), h27))
def f_X4_lien  (x0 : Nat) (x1 : Int32) (x2 : Int32) (x3 : Int32) (h : Hp) : Rt Int32 :=
  gd (kC h x0 = 4) <| bd (f_X4_isPerson x0 x1 h) fun v29 h30 => gd (kC h30 x0 = 4) <| bd (f_X4_isGood x0 v29 (1 : Int32) h30) fun v32 h33 => if v32 = 0 then
  (f_X4_lien_55  h33)
  else
  (bd (f_X4_isWithin (x2.toInt64) (1 : Int64) (1000000 : Int64) h33) fun v35 h36 => gd (kC h36 x0 = 4) <| bd (f_X4_isGood x0 v35 (2 : Int32) h36) fun v37 h38 => if v37 = 0 then
  (f_X4_lien_55  h38)
  else
  (gd (kC h38 x0 = 4) <| gd (kC h38 (kR h38 321 x0) = 18) <| bd (f_J2_size (kR h38 321 x0) h38) fun v41 h42 => if (20 : Int32) ≤ v41 then
  (f_X4_lien_48 x0 x1 x2 x3 x0 (0 : Int32) h42)
  else
  (f_X4_lien_48 x0 x1 x2 x3 x0 (1 : Int32) h42)))
theorem b_X4_lien_55 {rr : (Int32 ⊕ Ex) × Hp}  (C : CX p l R s m args meth c D Hs cX4_lien "MassclaimModel" 5 (some .int) [] 8 331)  : ∀ (h : Hp) (H : Heap) (locs : List Loc) (cells slots : Nat) (ls : Array Slot), HP D Hs h H → LO Hs locs → lv_has ls 5 [] → f_X4_lien_55 h = some rr → W p l e R s m args below meth c H locs cells slots (ZM D Hs iI rr below args s) (F0 m 55 ls []) := by
  obtain ⟨⟨hx, hb, hml, hown, hts⟩, -⟩ := id C
  have hl9 := C.2.1.2.2.1
  intro h H locs cells slots ls hH hL hl hrun
  unfold f_X4_lien_55 at hrun
  refine lv_iconst (v := (0 : Int32)) (pc := 55) hx hb dX4_lien_55 (by decide) ?_
  exact V_iret (pc := 56) C hH hL hrun dX4_lien_56

theorem b_X4_lien_48 {rr : (Int32 ⊕ Ex) × Hp}  (C : CX p l R s m args meth c D Hs cX4_lien "MassclaimModel" 5 (some .int) [] 8 331)  : ∀ (x0 : Nat) (x1 : Int32) (x2 : Int32) (x3 : Int32) (y0 : Nat) (y1 : Int32) (h : Hp) (H : Heap) (locs : List Loc) (cells slots : Nat) (ls : Array Slot), HP D Hs h H → LO Hs locs → lv_has ls 5 [(0, rv x0), (1, .int x1), (2, .int x2), (3, .int x3)] → f_X4_lien_48 x0 x1 x2 x3 y0 y1 h = some rr → W p l e R s m args below meth c H locs cells slots (ZM D Hs iI rr below args s) (F0 m 48 ls [.int y1, rv y0]) := by
  obtain ⟨⟨hx, hb, hml, hown, hts⟩, -⟩ := id C
  have hl9 := C.2.1.2.2.1
  intro x0 x1 x2 x3 y0 y1 h H locs cells slots ls hH hL hl hrun
  unfold f_X4_lien_48 at hrun
  refine lv_iconst (v := (3 : Int32)) (pc := 48) hx hb dX4_lien_48 (by decide) ?_
  obtain ⟨c3, hrun⟩ := gd_some hrun
  refine V_bd (pc := 49) C hL rfl hrun (fun rr1 e1 => Z_runV (rest := []) C hH (m_X4_isGood hl9 e1) wV_X4_104 c3 rfl (by decide) rfl rfl ⟨by decide, by decide⟩ rfl (Nat.le_of_ble_eq_true rfl) hl.1 dX4_lien_49) (fun v1 h2 H locs cells slots hH hL hrun => ?_)
  refine lv_if_ne (tgt := 57) (pc := 52) hx hb dX4_lien_52 (by decide) (fun c_ => ?_) (fun c_ => ?_)
  · have hrun := ite_f hrun c_
    refine V_new (pc := 57) C hH nl_X4_256 dX4_lien_57 hrun (fun q4 h5 H cells slots hH hrun => ?_)
    refine lv_dup (pc := 60) hx hb dX4_lien_60 (rv_cat _) ?_
    obtain ⟨c8, hrun⟩ := gd_some hrun
    refine V_bd (pc := 61) C hL rfl hrun (fun rr1 e1 => Z_runIN (rest := [rv q4]) C hH (m_X17_init hl9 e1) wIN_X4_461 (hH.pos c8) rfl ⟨by decide, by decide⟩ rfl (by simp [csum, rv_cat, cat_i, cat_l, cat_f, cat_d]) hl.1 dX4_lien_61) (fun _ h7 H locs cells slots hH hL hrun => ?_)
    refine V_astore (i := 4) (lv' := [(4, rv q4), (0, rv x0), (1, .int x1), (2, .int x2), (3, .int x3)]) (pc := 64) hx hb dX4_lien_64 hl (by decide) rfl (fun ls hl => ?_)
    refine V_aload (pc := 66) hx hb dX4_lien_66 (lv_at hl 0 rfl) ?_
    refine V_aload_n (pc := 68) hx hb dX4_lien_68 rfl (lv_at hl 1 rfl) ?_
    obtain ⟨c9, hrun⟩ := gd_some hrun
    refine V_getR (pc := 69) C hH fr_X4_16 dX4_lien_69 c9 rfl ?_
    refine lv_iload_n (pc := 72) hx hb dX4_lien_72 rfl (lv_at hl 2 rfl) ?_
    obtain ⟨c12, hrun⟩ := gd_some hrun
    refine V_bd (pc := 73) C hL rfl hrun (fun rr1 e1 => Z_runV (rest := [rv q4]) C hH (m_J2_get hl9 e1) wV_X4_108 c12 rfl (by decide) rfl rfl ⟨by decide, by decide⟩ rfl (by simp [csum, rv_cat, cat_i, cat_l, cat_f, cat_d]) hl.1 dX4_lien_73) (fun v10 h11 H locs cells slots hH hL hrun => ?_)
    obtain ⟨c13, hrun⟩ := gd_some hrun
    refine V_castX (pc := 76) (ci := 5) C hH rfl (by decide) q1946 dX4_lien_76 c13 ?_
    obtain ⟨c14, hrun⟩ := gd_some hrun
    refine V_putR (pc := 79) C hH hL fl_X4_258 dX4_lien_79 c14 (fok_o _ _) rfl (fun q => Bool.noConfusion q) hrun (fun h15 H locs hH hL hrun => ?_)
    refine V_aload (pc := 82) hx hb dX4_lien_82 (lv_at hl 0 rfl) ?_
    refine lv_iload_n (pc := 84) hx hb dX4_lien_84 rfl (lv_at hl 3 rfl) ?_
    obtain ⟨c16, hrun⟩ := gd_some hrun
    refine V_putI (pc := 85) C hH hL fl_X4_262 dX4_lien_85 c16 (fok_i _) rfl (fun q => Bool.noConfusion q) hrun (fun h17 H locs hH hL hrun => ?_)
    refine V_aload (pc := 88) hx hb dX4_lien_88 (lv_at hl 0 rfl) ?_
    refine lv_iload_n (pc := 90) hx hb dX4_lien_90 rfl (lv_at hl 4 rfl) ?_
    obtain ⟨c18, hrun⟩ := gd_some hrun
    obtain ⟨c19, hrun⟩ := gd_some hrun
    refine V_putI (pc := 91) C hH hL fl_X4_455 dX4_lien_91 c18 (fok_z c19) rfl (fun q => Bool.noConfusion q) hrun (fun h20 H locs hH hL hrun => ?_)
    refine V_aload_n (pc := 94) hx hb dX4_lien_94 rfl (lv_at hl 1 rfl) ?_
    obtain ⟨c21, hrun⟩ := gd_some hrun
    refine V_getR (pc := 95) C hH fr_X4_33 dX4_lien_95 c21 rfl ?_
    refine V_aload (pc := 98) hx hb dX4_lien_98 (lv_at hl 0 rfl) ?_
    obtain ⟨c24, hrun⟩ := gd_some hrun
    refine V_bd (pc := 100) C hL rfl hrun (fun rr1 e1 => Z_runV (rest := []) C hH (m_J2_add hl9 e1) wV_X4_186 c24 rfl (by decide) rfl rfl ⟨by decide, by decide⟩ rfl (Nat.le_of_ble_eq_true rfl) hl.1 dX4_lien_100) (fun v22 h23 H locs cells slots hH hL hrun => ?_)
    refine lv_pop (pc := 103) hx hb dX4_lien_103 rfl ?_
    refine V_aload_n (pc := 104) hx hb dX4_lien_104 rfl (lv_at hl 1 rfl) ?_
    obtain ⟨c25, hrun⟩ := gd_some hrun
    refine V_getR (pc := 105) C hH fr_X4_33 dX4_lien_105 c25 rfl ?_
    obtain ⟨c28, hrun⟩ := gd_some hrun
    refine V_bd (pc := 108) C hL rfl hrun (fun rr1 e1 => Z_runV (rest := []) C hH (m_J2_size hl9 e1) wV_X4_94 c28 rfl (by decide) rfl rfl ⟨by decide, by decide⟩ rfl (Nat.le_of_ble_eq_true rfl) hl.1 dX4_lien_108) (fun v26 h27 H locs cells slots hH hL hrun => ?_)
    refine lv_iconst (v := (1 : Int32)) (pc := 111) hx hb dX4_lien_111 (by decide) ?_
    refine lv_isub (pc := 112) hx hb dX4_lien_112 ?_
    exact V_iret (pc := 113) C hH hL hrun dX4_lien_113
  · have hrun := ite_t hrun c_
    exact b_X4_lien_55 C h2 H locs cells slots ls hH hL (lv_sub hl [] rfl) hrun

theorem b_X4_lien {rr : (Int32 ⊕ Ex) × Hp}  (C : CX p l R s m args meth c D Hs cX4_lien "MassclaimModel" 5 (some .int) [] 8 331)  : ∀ (x0 : Nat) (x1 : Int32) (x2 : Int32) (x3 : Int32) (h : Hp) (H : Heap) (locs : List Loc) (cells slots : Nat) (ls : Array Slot), HP D Hs h H → LO Hs locs → lv_has ls 5 [(0, rv x0), (1, .int x1), (2, .int x2), (3, .int x3)] → f_X4_lien x0 x1 x2 x3 h = some rr → W p l e R s m args below meth c H locs cells slots (ZM D Hs iI rr below args s) (F0 m 0 ls []) := by
  obtain ⟨⟨hx, hb, hml, hown, hts⟩, -⟩ := id C
  have hl9 := C.2.1.2.2.1
  intro x0 x1 x2 x3 h H locs cells slots ls hH hL hl hrun
  unfold f_X4_lien at hrun
  refine V_aload_n (pc := 0) hx hb dX4_lien_0 rfl (lv_at hl 0 rfl) ?_
  refine V_aload_n (pc := 1) hx hb dX4_lien_1 rfl (lv_at hl 0 rfl) ?_
  refine lv_iload_n (pc := 2) hx hb dX4_lien_2 rfl (lv_at hl 1 rfl) ?_
  obtain ⟨c31, hrun⟩ := gd_some hrun
  refine V_bd (pc := 3) C hL rfl hrun (fun rr1 e1 => Z_runV (rest := [rv x0]) C hH (m_X4_isPerson hl9 e1) wV_X4_190 c31 rfl (by decide) rfl rfl ⟨by decide, by decide⟩ rfl (by simp [csum, rv_cat, cat_i, cat_l, cat_f, cat_d]) hl.1 dX4_lien_3) (fun v29 h30 H locs cells slots hH hL hrun => ?_)
  refine lv_iconst (v := (1 : Int32)) (pc := 6) hx hb dX4_lien_6 (by decide) ?_
  obtain ⟨c34, hrun⟩ := gd_some hrun
  refine V_bd (pc := 7) C hL rfl hrun (fun rr1 e1 => Z_runV (rest := []) C hH (m_X4_isGood hl9 e1) wV_X4_104 c34 rfl (by decide) rfl rfl ⟨by decide, by decide⟩ rfl (Nat.le_of_ble_eq_true rfl) hl.1 dX4_lien_7) (fun v32 h33 H locs cells slots hH hL hrun => ?_)
  refine lv_if_eq (tgt := 55) (pc := 10) hx hb dX4_lien_10 (by decide) (fun c_ => ?_) (fun c_ => ?_)
  · have hrun := ite_t hrun c_
    exact b_X4_lien_55 C h33 H locs cells slots ls hH hL (lv_sub hl [] rfl) hrun
  · have hrun := ite_f hrun c_
    refine V_aload_n (pc := 13) hx hb dX4_lien_13 rfl (lv_at hl 0 rfl) ?_
    refine lv_iload_n (pc := 14) hx hb dX4_lien_14 rfl (lv_at hl 2 rfl) ?_
    refine lv_i2l (pc := 15) hx hb dX4_lien_15 rfl ?_
    refine lv_lconst (v := (1 : Int64)) (pc := 16) hx hb dX4_lien_16 (by decide) ?_
    refine lv_ldc2 (pc := 17) hx hb hown (hts _ q2299) dX4_lien_17 ?_
    refine V_bd (pc := 20) C hL rfl hrun (fun rr1 e1 => Z_runS (rest := [rv x0]) C hH (m_X4_isWithin hl9 e1) wS_X4_100 rfl ⟨by decide, by decide⟩ rfl (by simp [csum, rv_cat, cat_i, cat_l, cat_f, cat_d]) hl.1 dX4_lien_20) (fun v35 h36 H locs cells slots hH hL hrun => ?_)
    refine lv_iconst (v := (2 : Int32)) (pc := 23) hx hb dX4_lien_23 (by decide) ?_
    obtain ⟨c39, hrun⟩ := gd_some hrun
    refine V_bd (pc := 24) C hL rfl hrun (fun rr1 e1 => Z_runV (rest := []) C hH (m_X4_isGood hl9 e1) wV_X4_104 c39 rfl (by decide) rfl rfl ⟨by decide, by decide⟩ rfl (Nat.le_of_ble_eq_true rfl) hl.1 dX4_lien_24) (fun v37 h38 H locs cells slots hH hL hrun => ?_)
    refine lv_if_eq (tgt := 55) (pc := 27) hx hb dX4_lien_27 (by decide) (fun c_ => ?_) (fun c_ => ?_)
    · have hrun := ite_t hrun c_
      exact b_X4_lien_55 C h38 H locs cells slots ls hH hL (lv_sub hl [] rfl) hrun
    · have hrun := ite_f hrun c_
      refine V_aload_n (pc := 30) hx hb dX4_lien_30 rfl (lv_at hl 0 rfl) ?_
      refine V_aload_n (pc := 31) hx hb dX4_lien_31 rfl (lv_at hl 0 rfl) ?_
      obtain ⟨c40, hrun⟩ := gd_some hrun
      refine V_getR (pc := 32) C hH fr_X4_33 dX4_lien_32 c40 rfl ?_
      obtain ⟨c43, hrun⟩ := gd_some hrun
      refine V_bd (pc := 35) C hL rfl hrun (fun rr1 e1 => Z_runV (rest := [rv x0]) C hH (m_J2_size hl9 e1) wV_X4_94 c43 rfl (by decide) rfl rfl ⟨by decide, by decide⟩ rfl (by simp [csum, rv_cat, cat_i, cat_l, cat_f, cat_d]) hl.1 dX4_lien_35) (fun v41 h42 H locs cells slots hH hL hrun => ?_)
      refine lv_bipush (v := (20 : Int32)) (pc := 38) hx hb dX4_lien_38 (by decide) ?_
      refine lv_icmp_ge (tgt := 47) (pc := 40) hx hb dX4_lien_40 (by decide) (fun c_ => ?_) (fun c_ => ?_)
      · have hrun := ite_t hrun c_
        refine lv_iconst (v := (0 : Int32)) (pc := 47) hx hb dX4_lien_47 (by decide) ?_
        exact b_X4_lien_48 C x0 x1 x2 x3 x0 (0 : Int32) h42 H locs cells slots ls hH hL (lv_sub hl [0, 1, 2, 3] rfl) hrun
      · have hrun := ite_f hrun c_
        refine lv_iconst (v := (1 : Int32)) (pc := 43) hx hb dX4_lien_43 (by decide) ?_
        refine lv_goto (tgt := 48) (pc := 44) hx hb dX4_lien_44 (by decide) ?_
        exact b_X4_lien_48 C x0 x1 x2 x3 x0 (1 : Int32) h42 H locs cells slots ls hH hL (lv_sub hl [0, 1, 2, 3] rfl) hrun

theorem m_X4_lien {l : Launch} {D : va_G} {Hs : Heap} {h : Hp} {rr : (Int32 ⊕ Ex) × Hp} (hl9 : l.stackTraces = false) {x0 : Nat} {x1 : Int32} {x2 : Int32} {x3 : Int32} (hrun : f_X4_lien x0 x1 x2 x3 h = some rr) : CM l yX4_lien (ws_ yX4_lien cX4_lien 5 (some .int)) 8 331 iI [rv x0, .int x1, .int x2, .int x3] D Hs h rr := by
  refine CM.of (lv := [(0, rv x0), (1, .int x1), (2, .int x2), (3, .int x3)]) (plainFor_of_name (by decide)) hl9 (by simp [lv_args, rv_cat, cat_i, cat_l, cat_f, cat_d]) (by simp [lg_sl, rv_cat, cat_i, cat_l, cat_f, cat_d]) ?_
  intro p e R s m args below meth c H ls C hH hl hin
  exact b_X4_lien C x0 x1 x2 x3 _ H [] _ _ ls hH (fun _ q => nomatch q) (lv_sub hl [0, 1, 2, 3] rfl) hrun

/-! Massclaim.waive(I)I -/
def f_X1_waive  (x0 : Nat) (x1 : Int32) (h : Hp) : Rt Int32 :=
  gd (kC h x0 = 1) <| gd (kC h (kR h 4 x0) = 2) <| bd (f_X2_at (kR h 4 x0) x1 h) fun v2 h3 => gd (v2 = 0 ∨ kC h3 v2 = 16) <| gd (kC h3 v2 = 16) <| vl (kI h3 1503 v2) fun v7 => vl (sI h3 1503 v2 (0 : Int32)) fun h8 => gd (kC h8 v2 = 16) <| gd (kC h8 (kR h8 1501 v2) = 5) <| bd (f_X5_releases (kR h8 1501 v2) h8) fun _ h11 => some (.inl v7, h11)
theorem b_X1_waive {rr : (Int32 ⊕ Ex) × Hp}  (C : CX p l R s m args meth c D Hs cX1_waive "Massclaim" 4 (some .int) [] 10 377)  : ∀ (x0 : Nat) (x1 : Int32) (h : Hp) (H : Heap) (locs : List Loc) (cells slots : Nat) (ls : Array Slot), HP D Hs h H → LO Hs locs → lv_has ls 4 [(0, rv x0), (1, .int x1)] → f_X1_waive x0 x1 h = some rr → W p l e R s m args below meth c H locs cells slots (ZM D Hs iI rr below args s) (F0 m 0 ls []) := by
  obtain ⟨⟨hx, hb, hml, hown, hts⟩, -⟩ := id C
  have hl9 := C.2.1.2.2.1
  intro x0 x1 h H locs cells slots ls hH hL hl hrun
  unfold f_X1_waive at hrun
  refine V_aload_n (pc := 0) hx hb dX1_waive_0 rfl (lv_at hl 0 rfl) ?_
  obtain ⟨c1, hrun⟩ := gd_some hrun
  refine V_getR (pc := 1) C hH fr_X1_55 dX1_waive_1 c1 rfl ?_
  refine lv_iload_n (pc := 4) hx hb dX1_waive_4 rfl (lv_at hl 1 rfl) ?_
  obtain ⟨c4, hrun⟩ := gd_some hrun
  refine V_bd (pc := 5) C hL rfl hrun (fun rr1 e1 => Z_runV (rest := []) C hH (m_X2_at hl9 e1) wV_X1_136 c4 rfl (by decide) rfl rfl ⟨by decide, by decide⟩ rfl (Nat.le_of_ble_eq_true rfl) hl.1 dX1_waive_5) (fun v2 h3 H locs cells slots hH hL hrun => ?_)
  obtain ⟨c5, hrun⟩ := gd_some hrun
  refine V_castX (pc := 8) (ci := 15) C hH rfl (by decide) q1747 dX1_waive_8 c5 ?_
  refine V_astore_n (i := 2) (lv' := [(2, rv v2), (0, rv x0), (1, .int x1)]) (pc := 11) hx hb dX1_waive_11 rfl hl (by decide) rfl (fun ls hl => ?_)
  refine V_aload_n (pc := 12) hx hb dX1_waive_12 rfl (lv_at hl 0 rfl) ?_
  obtain ⟨c6, hrun⟩ := gd_some hrun
  refine V_getNI (pc := 13) C hH fn_X1_481 dX1_waive_13 c6 rfl ?_
  refine lv_topi (fun v7 ev7 => ?_)
  have hrun := vl_at hrun v7 ev7
  refine lv_istore_n (i := 3) (lv' := [(3, .int v7), (2, rv v2), (0, rv x0), (1, .int x1)]) (pc := 16) hx hb dX1_waive_16 rfl hl (by decide) (by simp [rv_cat, cat_i, cat_l, cat_f, cat_d]) (fun ls hl => ?_)
  refine V_aload_n (pc := 17) hx hb dX1_waive_17 rfl (lv_at hl 1 rfl) ?_
  refine lv_iconst (v := (0 : Int32)) (pc := 18) hx hb dX1_waive_18 (by decide) ?_
  refine V_putNI (pc := 19) C hH hL fn_X1_481 dX1_waive_19 c6 (fok_i _) rfl hrun (fun h8 H locs hH hL hrun => ?_)
  refine V_aload_n (pc := 22) hx hb dX1_waive_22 rfl (lv_at hl 1 rfl) ?_
  obtain ⟨c9, hrun⟩ := gd_some hrun
  refine V_getNR (pc := 23) C hH fn_X1_484 dX1_waive_23 c9 rfl ?_
  obtain ⟨c12, hrun⟩ := gd_some hrun
  refine V_bd (pc := 26) C hL rfl hrun (fun rr1 e1 => Z_runV (rest := []) C hH (m_X5_releases hl9 e1) wV_X1_485 c12 rfl (by decide) rfl rfl ⟨by decide, by decide⟩ rfl (Nat.le_of_ble_eq_true rfl) hl.1 dX1_waive_26) (fun _ h11 H locs cells slots hH hL hrun => ?_)
  refine lv_iload_n (pc := 29) hx hb dX1_waive_29 rfl (lv_at hl 0 rfl) ?_
  exact V_iret (pc := 30) C hH hL hrun dX1_waive_30

theorem m_X1_waive {l : Launch} {D : va_G} {Hs : Heap} {h : Hp} {rr : (Int32 ⊕ Ex) × Hp} (hl9 : l.stackTraces = false) {x0 : Nat} {x1 : Int32} (hrun : f_X1_waive x0 x1 h = some rr) : CM l yX1_waive (ws_ yX1_waive cX1_waive 4 (some .int)) 10 377 iI [rv x0, .int x1] D Hs h rr := by
  refine CM.of (lv := [(0, rv x0), (1, .int x1)]) (plainFor_of_name (by decide)) hl9 (by simp [lv_args, rv_cat, cat_i, cat_l, cat_f, cat_d]) (by simp [lg_sl, rv_cat, cat_i, cat_l, cat_f, cat_d]) ?_
  intro p e R s m args below meth c H ls C hH hl hin
  exact b_X1_waive C x0 x1 _ H [] _ _ ls hH (fun _ q => nomatch q) (lv_sub hl [0, 1] rfl) hrun
end WK15

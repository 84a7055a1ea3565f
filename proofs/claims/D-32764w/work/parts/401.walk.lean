section WK1
variable {p : Program} {l : Launch} {e : Env} {R : Room} {s : State} {m : MethodId} {args : Array Value} {below : List Frame} {meth : Method} {c : Code} {D : va_G} {Hs : Heap} {F X : Nat}
/-! Massclaim.goOn(I)I -/
def f_X1_goOn_206 (k34 : Nat → Int32 → Int32 → Hp → Rt Int32) (k147 : Nat → Int32 → Int32 → Int32 → Hp → Rt Int32) (x0 : Nat) (x1 : Int32) (x2 : Int32) (x3 : Int32) (y0 : Nat) (y1 : Int32) (h : Hp) : Rt Int32 :=
  gd (kC h y0 = 12) <| vl (sI h 1104 y0 y1) fun h2 => vl (x3 + (1 : Int32)) fun v3 => k147 x0 x1 x2 v3 h2
def f_X1_goOn_201 (k34 : Nat → Int32 → Int32 → Hp → Rt Int32) (k147 : Nat → Int32 → Int32 → Int32 → Hp → Rt Int32) (x0 : Nat) (x1 : Int32) (x2 : Int32) (x3 : Int32) (x4 : Nat) (y0 : Nat) (h : Hp) : Rt Int32 :=
  gd (kC h x4 = 12) <| f_X1_goOn_206 k34 k147 x0 x1 x2 x3 y0 (kI h 1104 x4) h
def f_X1_goOn_147 (k34 : Nat → Int32 → Int32 → Hp → Rt Int32) : Nat → Nat → Int32 → Int32 → Int32 → Hp → Rt Int32
  | 0, _, _, _, _, _ => none
  | n + 1, x0, x1, x2, x3, h => gd (kC h x0 = 1) <| gd (kC h (kR h 3 x0) = 2) <| bd (f_X2_size (kR h 3 x0) h) fun v6 h7 => if v6 ≤ x3 then
  (vl (x2 + (1 : Int32)) fun v9 => k34 x0 x1 v9 h7)
  else
  (gd (kC h7 x0 = 1) <| gd (kC h7 (kR h7 3 x0) = 2) <| bd (f_X2_at (kR h7 3 x0) x3 h7) fun v11 h12 => gd (v11 = 0 ∨ kC h12 v11 = 12) <| gd (kC h12 v11 = 12) <| if (kI h12 1104 v11) = (1 : Int32) then
  (gd (kC h12 x0 = 1) <| if ((kI h12 18 x0) - (kI h12 1108 v11)) ≤ (90 : Int32) then
  (f_X1_goOn_201 k34 (f_X1_goOn_147 k34 n) x0 x1 x2 x3 v11 v11 h12)
  else
  (f_X1_goOn_206 k34 (f_X1_goOn_147 k34 n) x0 x1 x2 x3 v11 (3 : Int32) h12))
  else
  (f_X1_goOn_201 k34 (f_X1_goOn_147 k34 n) x0 x1 x2 x3 v11 v11 h12))
def f_X1_goOn_114 (k34 : Nat → Int32 → Int32 → Hp → Rt Int32) : Nat → Nat → Int32 → Int32 → Int32 → Hp → Rt Int32
  | 0, _, _, _, _, _ => none
  | n + 1, x0, x1, x2, x3, h => gd (kC h x0 = 1) <| gd (kC h (kR h 0 x0) = 2) <| bd (f_X2_size (kR h 0 x0) h) fun v18 h19 => if v18 ≤ x3 then
  (f_X1_goOn_147 k34 FU x0 x1 x2 (0 : Int32) h19)
  else
  (gd (kC h19 x0 = 1) <| gd (kC h19 (kR h19 0 x0) = 2) <| bd (f_X2_at (kR h19 0 x0) x3 h19) fun v22 h23 => gd (v22 = 0 ∨ kC h23 v22 = 5) <| gd (kC h23 v22 = 5) <| bd (f_X5_looks v22 h23) fun _ h27 => vl (x3 + (1 : Int32)) fun v29 => f_X1_goOn_114 k34 n x0 x1 x2 v29 h27)
def f_X1_goOn_92 (k34 : Nat → Int32 → Int32 → Hp → Rt Int32) (k41 : Nat → Int32 → Int32 → Int32 → Hp → Rt Int32) (x0 : Nat) (x1 : Int32) (x2 : Int32) (x3 : Int32) (y0 : Nat) (y1 : Int32) (y2 : Int32) (h : Hp) : Rt Int32 :=
  gd (kC h y0 = 5) <| vl (sI h 407 y0 (y1 + y2)) fun h31 => vl (x3 + (1 : Int32)) fun v32 => k41 x0 x1 x2 v32 h31
def f_X1_goOn_91 (k34 : Nat → Int32 → Int32 → Hp → Rt Int32) (k41 : Nat → Int32 → Int32 → Int32 → Hp → Rt Int32) (x0 : Nat) (x1 : Int32) (x2 : Int32) (x3 : Int32) (y0 : Nat) (y1 : Int32) (h : Hp) : Rt Int32 :=
  f_X1_goOn_92 k34 k41 x0 x1 x2 x3 y0 y1 (0 : Int32) h
def f_X1_goOn_41 (k34 : Nat → Int32 → Int32 → Hp → Rt Int32) : Nat → Nat → Int32 → Int32 → Int32 → Hp → Rt Int32
  | 0, _, _, _, _, _ => none
  | n + 1, x0, x1, x2, x3, h => gd (kC h x0 = 1) <| gd (kC h (kR h 0 x0) = 2) <| bd (f_X2_size (kR h 0 x0) h) fun v34 h35 => if v34 ≤ x3 then
  (gd (kC h35 x0 = 1) <| vl (sI h35 18 x0 ((kI h35 18 x0) + (1 : Int32))) fun h38 => f_X1_goOn_114 k34 FU x0 x1 x2 (0 : Int32) h38)
  else
  (gd (kC h35 x0 = 1) <| gd (kC h35 (kR h35 0 x0) = 2) <| bd (f_X2_at (kR h35 0 x0) x3 h35) fun v40 h41 => gd (v40 = 0 ∨ kC h41 v40 = 5) <| gd (kC h41 v40 = 5) <| if (kI h41 405 v40) ≤ 0 then
  (f_X1_goOn_91 k34 (f_X1_goOn_41 k34 n) x0 x1 x2 x3 v40 (kI h41 407 v40) h41)
  else
  (bd (f_X5_isMember v40 h41) fun v45 h46 => if v45 = 0 then
  (f_X1_goOn_92 k34 (f_X1_goOn_41 k34 n) x0 x1 x2 x3 v40 (kI h41 407 v40) (1 : Int32) h46)
  else
  (f_X1_goOn_91 k34 (f_X1_goOn_41 k34 n) x0 x1 x2 x3 v40 (kI h41 407 v40) h46)))
def f_X1_goOn_34  : Nat → Nat → Int32 → Int32 → Hp → Rt Int32
  | 0, _, _, _, _ => none
  | n + 1, x0, x1, x2, h => if x1 ≤ x2 then
  (gd (kC h x0 = 1) <| some (.inl (kI h 18 x0), h))
  else
  (f_X1_goOn_41 (f_X1_goOn_34 n) FU x0 x1 x2 (0 : Int32) h)
def f_X1_goOn_29  (x0 : Nat) (x1 : Int32) (y0 : Int32) (h : Hp) : Rt Int32 :=
  bd (f_X1_requireArgument y0 h) fun _ h49 => f_X1_goOn_34 FU x0 x1 (0 : Int32) h49
def f_X1_goOn_28  (x0 : Nat) (x1 : Int32) (h : Hp) : Rt Int32 :=
  f_X1_goOn_29 x0 x1 (0 : Int32) h
def f_X1_goOn  (x0 : Nat) (x1 : Int32) (h : Hp) : Rt Int32 :=
  bd (f_X1_isIn (x1.toInt64) (1 : Int64) (400 : Int64) h) fun v50 h51 => if v50 = 0 then
  (f_X1_goOn_28 x0 x1 h51)
  else
  (gd (kC h51 x0 = 1) <| if (20000 : Int32) < ((kI h51 18 x0) + x1) then
  (f_X1_goOn_28 x0 x1 h51)
  else
  (f_X1_goOn_29 x0 x1 (1 : Int32) h51))
theorem b_X1_goOn_206 {rr : (Int32 ⊕ Ex) × Hp} {k34 : Nat → Int32 → Int32 → Hp → Rt Int32} {k147 : Nat → Int32 → Int32 → Int32 → Hp → Rt Int32} (C : CX p l R s m args meth c D Hs cX1_goOn "Massclaim" 5 (some .int) [] 8 131) (K34 : ∀ (x0 : Nat) (x1 : Int32) (x2 : Int32) (h : Hp) (H : Heap) (locs : List Loc) (cells slots : Nat) (ls : Array Slot), HP D Hs h H → LO Hs locs → lv_has ls 5 [(0, rv x0), (1, .int x1), (2, .int x2)] → k34 x0 x1 x2 h = some rr → W p l e R s m args below meth c H locs cells slots (ZM D Hs iI rr below args s) (F0 m 34 ls [])) (K147 : ∀ (x0 : Nat) (x1 : Int32) (x2 : Int32) (x3 : Int32) (h : Hp) (H : Heap) (locs : List Loc) (cells slots : Nat) (ls : Array Slot), HP D Hs h H → LO Hs locs → lv_has ls 5 [(0, rv x0), (1, .int x1), (2, .int x2), (3, .int x3)] → k147 x0 x1 x2 x3 h = some rr → W p l e R s m args below meth c H locs cells slots (ZM D Hs iI rr below args s) (F0 m 147 ls [])) : ∀ (x0 : Nat) (x1 : Int32) (x2 : Int32) (x3 : Int32) (y0 : Nat) (y1 : Int32) (h : Hp) (H : Heap) (locs : List Loc) (cells slots : Nat) (ls : Array Slot), HP D Hs h H → LO Hs locs → lv_has ls 5 [(0, rv x0), (1, .int x1), (2, .int x2), (3, .int x3)] → f_X1_goOn_206 k34 k147 x0 x1 x2 x3 y0 y1 h = some rr → W p l e R s m args below meth c H locs cells slots (ZM D Hs iI rr below args s) (F0 m 206 ls [.int y1, rv y0]) := by
  obtain ⟨⟨hx, hb, hml, hown, hts⟩, -⟩ := id C
  have hl9 := C.2.1.2.2.1
  intro x0 x1 x2 x3 y0 y1 h H locs cells slots ls hH hL hl hrun
  unfold f_X1_goOn_206 at hrun
  obtain ⟨c1, hrun⟩ := gd_some hrun
  refine V_putNI (pc := 206) C hH hL fn_X1_157 dX1_goOn_206 c1 (fok_i _) rfl hrun (fun h2 H locs hH hL hrun => ?_)
  obtain ⟨v3, ev3⟩ : ∃ y : Int32, y = x3 + (1 : Int32) := ⟨_, rfl⟩
  have hrun := vl_at hrun v3 ev3
  refine lv_iinc (v := v3) (lv' := [(3, .int v3), (0, rv x0), (1, .int x1), (2, .int x2)]) (pc := 209) hx hb dX1_goOn_209 hl (k := 3) rfl (by rw [ev3]; rfl) (by decide) (by first | rfl | simp [rv_cat, cat_i, cat_l, cat_f, cat_d]) (fun ls hl => ?_)
  refine lv_goto (tgt := 147) (pc := 212) hx hb dX1_goOn_212 (by decide) ?_
  exact K147 x0 x1 x2 v3 h2 H locs cells slots ls hH hL (lv_sub hl [1, 2, 3, 0] rfl) hrun

theorem b_X1_goOn_201 {rr : (Int32 ⊕ Ex) × Hp} {k34 : Nat → Int32 → Int32 → Hp → Rt Int32} {k147 : Nat → Int32 → Int32 → Int32 → Hp → Rt Int32} (C : CX p l R s m args meth c D Hs cX1_goOn "Massclaim" 5 (some .int) [] 8 131) (K34 : ∀ (x0 : Nat) (x1 : Int32) (x2 : Int32) (h : Hp) (H : Heap) (locs : List Loc) (cells slots : Nat) (ls : Array Slot), HP D Hs h H → LO Hs locs → lv_has ls 5 [(0, rv x0), (1, .int x1), (2, .int x2)] → k34 x0 x1 x2 h = some rr → W p l e R s m args below meth c H locs cells slots (ZM D Hs iI rr below args s) (F0 m 34 ls [])) (K147 : ∀ (x0 : Nat) (x1 : Int32) (x2 : Int32) (x3 : Int32) (h : Hp) (H : Heap) (locs : List Loc) (cells slots : Nat) (ls : Array Slot), HP D Hs h H → LO Hs locs → lv_has ls 5 [(0, rv x0), (1, .int x1), (2, .int x2), (3, .int x3)] → k147 x0 x1 x2 x3 h = some rr → W p l e R s m args below meth c H locs cells slots (ZM D Hs iI rr below args s) (F0 m 147 ls [])) : ∀ (x0 : Nat) (x1 : Int32) (x2 : Int32) (x3 : Int32) (x4 : Nat) (y0 : Nat) (h : Hp) (H : Heap) (locs : List Loc) (cells slots : Nat) (ls : Array Slot), HP D Hs h H → LO Hs locs → lv_has ls 5 [(0, rv x0), (1, .int x1), (2, .int x2), (3, .int x3), (4, rv x4)] → f_X1_goOn_201 k34 k147 x0 x1 x2 x3 x4 y0 h = some rr → W p l e R s m args below meth c H locs cells slots (ZM D Hs iI rr below args s) (F0 m 201 ls [rv y0]) := by
  obtain ⟨⟨hx, hb, hml, hown, hts⟩, -⟩ := id C
  have hl9 := C.2.1.2.2.1
  intro x0 x1 x2 x3 x4 y0 h H locs cells slots ls hH hL hl hrun
  unfold f_X1_goOn_201 at hrun
  refine V_aload (pc := 201) hx hb dX1_goOn_201 (lv_at hl 4 rfl) ?_
  obtain ⟨c4, hrun⟩ := gd_some hrun
  refine V_getNI (pc := 203) C hH fn_X1_157 dX1_goOn_203 c4 rfl ?_
  exact b_X1_goOn_206 C K34 K147 x0 x1 x2 x3 y0 (kI h 1104 x4) h H locs cells slots ls hH hL (lv_sub hl [0, 1, 2, 3] rfl) hrun

theorem b_X1_goOn_147 {rr : (Int32 ⊕ Ex) × Hp} {k34 : Nat → Int32 → Int32 → Hp → Rt Int32} (C : CX p l R s m args meth c D Hs cX1_goOn "Massclaim" 5 (some .int) [] 8 131) (K34 : ∀ (x0 : Nat) (x1 : Int32) (x2 : Int32) (h : Hp) (H : Heap) (locs : List Loc) (cells slots : Nat) (ls : Array Slot), HP D Hs h H → LO Hs locs → lv_has ls 5 [(0, rv x0), (1, .int x1), (2, .int x2)] → k34 x0 x1 x2 h = some rr → W p l e R s m args below meth c H locs cells slots (ZM D Hs iI rr below args s) (F0 m 34 ls [])) : ∀ (n : Nat) (x0 : Nat) (x1 : Int32) (x2 : Int32) (x3 : Int32) (h : Hp) (H : Heap) (locs : List Loc) (cells slots : Nat) (ls : Array Slot), HP D Hs h H → LO Hs locs → lv_has ls 5 [(0, rv x0), (1, .int x1), (2, .int x2), (3, .int x3)] → f_X1_goOn_147 k34 n x0 x1 x2 x3 h = some rr → W p l e R s m args below meth c H locs cells slots (ZM D Hs iI rr below args s) (F0 m 147 ls []) := by
  obtain ⟨⟨hx, hb, hml, hown, hts⟩, -⟩ := id C
  have hl9 := C.2.1.2.2.1
  intro n
  induction n with
  | zero =>
    intro x0 x1 x2 x3 h H locs cells slots ls hH hL hl hrun
    cases (show (none : Option _) = some rr from hrun)
  | succ n ih =>
    intro x0 x1 x2 x3 h H locs cells slots ls hH hL hl hrun
    rw [f_X1_goOn_147] at hrun
    refine lv_iload_n (pc := 147) hx hb dX1_goOn_147 rfl (lv_at hl 3 rfl) ?_
    refine V_aload_n (pc := 148) hx hb dX1_goOn_148 rfl (lv_at hl 0 rfl) ?_
    obtain ⟨c5, hrun⟩ := gd_some hrun
    refine V_getR (pc := 149) C hH fr_X1_52 dX1_goOn_149 c5 rfl ?_
    obtain ⟨c8, hrun⟩ := gd_some hrun
    refine V_bd (pc := 152) C hL rfl hrun (fun rr1 e1 => Z_runV (rest := [.int x3]) C hH (m_X2_size hl9 e1) wV_X1_135 c8 rfl (by decide) rfl rfl ⟨by decide, by decide⟩ rfl (Nat.le_of_ble_eq_true rfl) hl.1 dX1_goOn_152) (fun v6 h7 H locs cells slots hH hL hrun => ?_)
    refine lv_icmp_ge (tgt := 215) (pc := 155) hx hb dX1_goOn_155 (by decide) (fun c_ => ?_) (fun c_ => ?_)
    · have hrun := ite_t hrun c_
      obtain ⟨v9, ev9⟩ : ∃ y : Int32, y = x2 + (1 : Int32) := ⟨_, rfl⟩
      have hrun := vl_at hrun v9 ev9
      refine lv_iinc (v := v9) (lv' := [(2, .int v9), (0, rv x0), (1, .int x1), (3, .int x3)]) (pc := 215) hx hb dX1_goOn_215 hl (k := 2) rfl (by rw [ev9]; rfl) (by decide) (by first | rfl | simp [rv_cat, cat_i, cat_l, cat_f, cat_d]) (fun ls hl => ?_)
      refine lv_goto (tgt := 34) (pc := 218) hx hb dX1_goOn_218 (by decide) ?_
      exact K34 x0 x1 v9 h7 H locs cells slots ls hH hL (lv_sub hl [1, 2, 0] rfl) hrun
    · have hrun := ite_f hrun c_
      refine V_aload_n (pc := 158) hx hb dX1_goOn_158 rfl (lv_at hl 0 rfl) ?_
      obtain ⟨c10, hrun⟩ := gd_some hrun
      refine V_getR (pc := 159) C hH fr_X1_52 dX1_goOn_159 c10 rfl ?_
      refine lv_iload_n (pc := 162) hx hb dX1_goOn_162 rfl (lv_at hl 3 rfl) ?_
      obtain ⟨c13, hrun⟩ := gd_some hrun
      refine V_bd (pc := 163) C hL rfl hrun (fun rr1 e1 => Z_runV (rest := []) C hH (m_X2_at hl9 e1) wV_X1_136 c13 rfl (by decide) rfl rfl ⟨by decide, by decide⟩ rfl (Nat.le_of_ble_eq_true rfl) hl.1 dX1_goOn_163) (fun v11 h12 H locs cells slots hH hL hrun => ?_)
      obtain ⟨c14, hrun⟩ := gd_some hrun
      refine V_castX (pc := 166) (ci := 11) C hH rfl (by decide) q403 dX1_goOn_166 c14 ?_
      refine V_astore (i := 4) (lv' := [(4, rv v11), (0, rv x0), (1, .int x1), (2, .int x2), (3, .int x3)]) (pc := 169) hx hb dX1_goOn_169 hl (by decide) rfl (fun ls hl => ?_)
      refine V_aload (pc := 171) hx hb dX1_goOn_171 (lv_at hl 0 rfl) ?_
      refine V_aload (pc := 173) hx hb dX1_goOn_173 (lv_at hl 0 rfl) ?_
      obtain ⟨c15, hrun⟩ := gd_some hrun
      refine V_getNI (pc := 175) C hH fn_X1_157 dX1_goOn_175 c15 rfl ?_
      refine lv_iconst (v := (1 : Int32)) (pc := 178) hx hb dX1_goOn_178 (by decide) ?_
      refine lv_icmp_ne (tgt := 201) (pc := 179) hx hb dX1_goOn_179 (by decide) (fun c_ => ?_) (fun c_ => ?_)
      · have hrun := ite_f hrun c_
        exact b_X1_goOn_201 C K34 ih x0 x1 x2 x3 v11 v11 h12 H locs cells slots ls hH hL (lv_sub hl [1, 2, 3, 4, 0] rfl) hrun
      · have hrun := ite_t hrun c_
        refine V_aload_n (pc := 182) hx hb dX1_goOn_182 rfl (lv_at hl 1 rfl) ?_
        obtain ⟨c16, hrun⟩ := gd_some hrun
        refine V_getI (pc := 183) C hH fr_X1_115 dX1_goOn_183 c16 rfl ?_
        refine V_aload (pc := 186) hx hb dX1_goOn_186 (lv_at hl 0 rfl) ?_
        refine V_getNI (pc := 188) C hH fn_X1_160 dX1_goOn_188 c15 rfl ?_
        refine lv_isub (pc := 191) hx hb dX1_goOn_191 ?_
        refine lv_bipush (v := (90 : Int32)) (pc := 192) hx hb dX1_goOn_192 (by decide) ?_
        refine lv_icmp_le (tgt := 201) (pc := 194) hx hb dX1_goOn_194 (by decide) (fun c_ => ?_) (fun c_ => ?_)
        · have hrun := ite_t hrun c_
          exact b_X1_goOn_201 C K34 ih x0 x1 x2 x3 v11 v11 h12 H locs cells slots ls hH hL (lv_sub hl [1, 2, 3, 4, 0] rfl) hrun
        · have hrun := ite_f hrun c_
          refine lv_iconst (v := (3 : Int32)) (pc := 197) hx hb dX1_goOn_197 (by decide) ?_
          refine lv_goto (tgt := 206) (pc := 198) hx hb dX1_goOn_198 (by decide) ?_
          exact b_X1_goOn_206 C K34 ih x0 x1 x2 x3 v11 (3 : Int32) h12 H locs cells slots ls hH hL (lv_sub hl [1, 2, 3, 4] rfl) hrun

theorem b_X1_goOn_114 {rr : (Int32 ⊕ Ex) × Hp} {k34 : Nat → Int32 → Int32 → Hp → Rt Int32} (C : CX p l R s m args meth c D Hs cX1_goOn "Massclaim" 5 (some .int) [] 8 131) (K34 : ∀ (x0 : Nat) (x1 : Int32) (x2 : Int32) (h : Hp) (H : Heap) (locs : List Loc) (cells slots : Nat) (ls : Array Slot), HP D Hs h H → LO Hs locs → lv_has ls 5 [(0, rv x0), (1, .int x1), (2, .int x2)] → k34 x0 x1 x2 h = some rr → W p l e R s m args below meth c H locs cells slots (ZM D Hs iI rr below args s) (F0 m 34 ls [])) : ∀ (n : Nat) (x0 : Nat) (x1 : Int32) (x2 : Int32) (x3 : Int32) (h : Hp) (H : Heap) (locs : List Loc) (cells slots : Nat) (ls : Array Slot), HP D Hs h H → LO Hs locs → lv_has ls 5 [(0, rv x0), (1, .int x1), (2, .int x2), (3, .int x3)] → f_X1_goOn_114 k34 n x0 x1 x2 x3 h = some rr → W p l e R s m args below meth c H locs cells slots (ZM D Hs iI rr below args s) (F0 m 114 ls []) := by
  obtain ⟨⟨hx, hb, hml, hown, hts⟩, -⟩ := id C
  have hl9 := C.2.1.2.2.1
  intro n
  induction n with
  | zero =>
    intro x0 x1 x2 x3 h H locs cells slots ls hH hL hl hrun
    cases (show (none : Option _) = some rr from hrun)
  | succ n ih =>
    intro x0 x1 x2 x3 h H locs cells slots ls hH hL hl hrun
    rw [f_X1_goOn_114] at hrun
    refine lv_iload_n (pc := 114) hx hb dX1_goOn_114 rfl (lv_at hl 3 rfl) ?_
    refine V_aload_n (pc := 115) hx hb dX1_goOn_115 rfl (lv_at hl 0 rfl) ?_
    obtain ⟨c17, hrun⟩ := gd_some hrun
    refine V_getR (pc := 116) C hH fr_X1_42 dX1_goOn_116 c17 rfl ?_
    obtain ⟨c20, hrun⟩ := gd_some hrun
    refine V_bd (pc := 119) C hL rfl hrun (fun rr1 e1 => Z_runV (rest := [.int x3]) C hH (m_X2_size hl9 e1) wV_X1_135 c20 rfl (by decide) rfl rfl ⟨by decide, by decide⟩ rfl (Nat.le_of_ble_eq_true rfl) hl.1 dX1_goOn_119) (fun v18 h19 H locs cells slots hH hL hrun => ?_)
    refine lv_icmp_ge (tgt := 145) (pc := 122) hx hb dX1_goOn_122 (by decide) (fun c_ => ?_) (fun c_ => ?_)
    · have hrun := ite_t hrun c_
      refine lv_iconst (v := (0 : Int32)) (pc := 145) hx hb dX1_goOn_145 (by decide) ?_
      refine lv_istore_n (i := 3) (lv' := [(3, .int (0 : Int32)), (0, rv x0), (1, .int x1), (2, .int x2)]) (pc := 146) hx hb dX1_goOn_146 rfl hl (by decide) rfl (fun ls hl => ?_)
      exact b_X1_goOn_147 C K34 FU x0 x1 x2 (0 : Int32) h19 H locs cells slots ls hH hL (lv_sub hl [1, 2, 3, 0] rfl) hrun
    · have hrun := ite_f hrun c_
      refine V_aload_n (pc := 125) hx hb dX1_goOn_125 rfl (lv_at hl 0 rfl) ?_
      obtain ⟨c21, hrun⟩ := gd_some hrun
      refine V_getR (pc := 126) C hH fr_X1_42 dX1_goOn_126 c21 rfl ?_
      refine lv_iload_n (pc := 129) hx hb dX1_goOn_129 rfl (lv_at hl 3 rfl) ?_
      obtain ⟨c24, hrun⟩ := gd_some hrun
      refine V_bd (pc := 130) C hL rfl hrun (fun rr1 e1 => Z_runV (rest := []) C hH (m_X2_at hl9 e1) wV_X1_136 c24 rfl (by decide) rfl rfl ⟨by decide, by decide⟩ rfl (Nat.le_of_ble_eq_true rfl) hl.1 dX1_goOn_130) (fun v22 h23 H locs cells slots hH hL hrun => ?_)
      obtain ⟨c25, hrun⟩ := gd_some hrun
      refine V_castX (pc := 133) (ci := 4) C hH rfl (by decide) q376 dX1_goOn_133 c25 ?_
      obtain ⟨c28, hrun⟩ := gd_some hrun
      refine V_bd (pc := 136) C hL rfl hrun (fun rr1 e1 => Z_runV (rest := []) C hH (m_X5_looks hl9 e1) wV_X1_152 c28 rfl (by decide) rfl rfl ⟨by decide, by decide⟩ rfl (Nat.le_of_ble_eq_true rfl) hl.1 dX1_goOn_136) (fun _ h27 H locs cells slots hH hL hrun => ?_)
      obtain ⟨v29, ev29⟩ : ∃ y : Int32, y = x3 + (1 : Int32) := ⟨_, rfl⟩
      have hrun := vl_at hrun v29 ev29
      refine lv_iinc (v := v29) (lv' := [(3, .int v29), (0, rv x0), (1, .int x1), (2, .int x2)]) (pc := 139) hx hb dX1_goOn_139 hl (k := 3) rfl (by rw [ev29]; rfl) (by decide) (by first | rfl | simp [rv_cat, cat_i, cat_l, cat_f, cat_d]) (fun ls hl => ?_)
      refine lv_goto (tgt := 114) (pc := 142) hx hb dX1_goOn_142 (by decide) ?_
      exact ih x0 x1 x2 v29 h27 H locs cells slots ls hH hL (lv_sub hl [1, 2, 3, 0] rfl) hrun

theorem b_X1_goOn_92 {rr : (Int32 ⊕ Ex) × Hp} {k34 : Nat → Int32 → Int32 → Hp → Rt Int32} {k41 : Nat → Int32 → Int32 → Int32 → Hp → Rt Int32} (C : CX p l R s m args meth c D Hs cX1_goOn "Massclaim" 5 (some .int) [] 8 131) (K34 : ∀ (x0 : Nat) (x1 : Int32) (x2 : Int32) (h : Hp) (H : Heap) (locs : List Loc) (cells slots : Nat) (ls : Array Slot), HP D Hs h H → LO Hs locs → lv_has ls 5 [(0, rv x0), (1, .int x1), (2, .int x2)] → k34 x0 x1 x2 h = some rr → W p l e R s m args below meth c H locs cells slots (ZM D Hs iI rr below args s) (F0 m 34 ls [])) (K41 : ∀ (x0 : Nat) (x1 : Int32) (x2 : Int32) (x3 : Int32) (h : Hp) (H : Heap) (locs : List Loc) (cells slots : Nat) (ls : Array Slot), HP D Hs h H → LO Hs locs → lv_has ls 5 [(0, rv x0), (1, .int x1), (2, .int x2), (3, .int x3)] → k41 x0 x1 x2 x3 h = some rr → W p l e R s m args below meth c H locs cells slots (ZM D Hs iI rr below args s) (F0 m 41 ls [])) : ∀ (x0 : Nat) (x1 : Int32) (x2 : Int32) (x3 : Int32) (y0 : Nat) (y1 : Int32) (y2 : Int32) (h : Hp) (H : Heap) (locs : List Loc) (cells slots : Nat) (ls : Array Slot), HP D Hs h H → LO Hs locs → lv_has ls 5 [(0, rv x0), (1, .int x1), (2, .int x2), (3, .int x3)] → f_X1_goOn_92 k34 k41 x0 x1 x2 x3 y0 y1 y2 h = some rr → W p l e R s m args below meth c H locs cells slots (ZM D Hs iI rr below args s) (F0 m 92 ls [.int y2, .int y1, rv y0]) := by
  obtain ⟨⟨hx, hb, hml, hown, hts⟩, -⟩ := id C
  have hl9 := C.2.1.2.2.1
  intro x0 x1 x2 x3 y0 y1 y2 h H locs cells slots ls hH hL hl hrun
  unfold f_X1_goOn_92 at hrun
  refine lv_iadd (pc := 92) hx hb dX1_goOn_92 ?_
  obtain ⟨c30, hrun⟩ := gd_some hrun
  refine V_putNI (pc := 93) C hH hL fn_X1_142 dX1_goOn_93 c30 (fok_i _) rfl hrun (fun h31 H locs hH hL hrun => ?_)
  obtain ⟨v32, ev32⟩ : ∃ y : Int32, y = x3 + (1 : Int32) := ⟨_, rfl⟩
  have hrun := vl_at hrun v32 ev32
  refine lv_iinc (v := v32) (lv' := [(3, .int v32), (0, rv x0), (1, .int x1), (2, .int x2)]) (pc := 96) hx hb dX1_goOn_96 hl (k := 3) rfl (by rw [ev32]; rfl) (by decide) (by first | rfl | simp [rv_cat, cat_i, cat_l, cat_f, cat_d]) (fun ls hl => ?_)
  refine lv_goto (tgt := 41) (pc := 99) hx hb dX1_goOn_99 (by decide) ?_
  exact K41 x0 x1 x2 v32 h31 H locs cells slots ls hH hL (lv_sub hl [1, 2, 3, 0] rfl) hrun

theorem b_X1_goOn_91 {rr : (Int32 ⊕ Ex) × Hp} {k34 : Nat → Int32 → Int32 → Hp → Rt Int32} {k41 : Nat → Int32 → Int32 → Int32 → Hp → Rt Int32} (C : CX p l R s m args meth c D Hs cX1_goOn "Massclaim" 5 (some .int) [] 8 131) (K34 : ∀ (x0 : Nat) (x1 : Int32) (x2 : Int32) (h : Hp) (H : Heap) (locs : List Loc) (cells slots : Nat) (ls : Array Slot), HP D Hs h H → LO Hs locs → lv_has ls 5 [(0, rv x0), (1, .int x1), (2, .int x2)] → k34 x0 x1 x2 h = some rr → W p l e R s m args below meth c H locs cells slots (ZM D Hs iI rr below args s) (F0 m 34 ls [])) (K41 : ∀ (x0 : Nat) (x1 : Int32) (x2 : Int32) (x3 : Int32) (h : Hp) (H : Heap) (locs : List Loc) (cells slots : Nat) (ls : Array Slot), HP D Hs h H → LO Hs locs → lv_has ls 5 [(0, rv x0), (1, .int x1), (2, .int x2), (3, .int x3)] → k41 x0 x1 x2 x3 h = some rr → W p l e R s m args below meth c H locs cells slots (ZM D Hs iI rr below args s) (F0 m 41 ls [])) : ∀ (x0 : Nat) (x1 : Int32) (x2 : Int32) (x3 : Int32) (y0 : Nat) (y1 : Int32) (h : Hp) (H : Heap) (locs : List Loc) (cells slots : Nat) (ls : Array Slot), HP D Hs h H → LO Hs locs → lv_has ls 5 [(0, rv x0), (1, .int x1), (2, .int x2), (3, .int x3)] → f_X1_goOn_91 k34 k41 x0 x1 x2 x3 y0 y1 h = some rr → W p l e R s m args below meth c H locs cells slots (ZM D Hs iI rr below args s) (F0 m 91 ls [.int y1, rv y0]) := by
  obtain ⟨⟨hx, hb, hml, hown, hts⟩, -⟩ := id C
  have hl9 := C.2.1.2.2.1
  intro x0 x1 x2 x3 y0 y1 h H locs cells slots ls hH hL hl hrun
  unfold f_X1_goOn_91 at hrun
  refine lv_iconst (v := (0 : Int32)) (pc := 91) hx hb dX1_goOn_91 (by decide) ?_
  exact b_X1_goOn_92 C K34 K41 x0 x1 x2 x3 y0 y1 (0 : Int32) h H locs cells slots ls hH hL (lv_sub hl [0, 1, 2, 3] rfl) hrun

theorem b_X1_goOn_41 {rr : (Int32 ⊕ Ex) × Hp} {k34 : Nat → Int32 → Int32 → Hp → Rt Int32} (C : CX p l R s m args meth c D Hs cX1_goOn "Massclaim" 5 (some .int) [] 8 131) (K34 : ∀ (x0 : Nat) (x1 : Int32) (x2 : Int32) (h : Hp) (H : Heap) (locs : List Loc) (cells slots : Nat) (ls : Array Slot), HP D Hs h H → LO Hs locs → lv_has ls 5 [(0, rv x0), (1, .int x1), (2, .int x2)] → k34 x0 x1 x2 h = some rr → W p l e R s m args below meth c H locs cells slots (ZM D Hs iI rr below args s) (F0 m 34 ls [])) : ∀ (n : Nat) (x0 : Nat) (x1 : Int32) (x2 : Int32) (x3 : Int32) (h : Hp) (H : Heap) (locs : List Loc) (cells slots : Nat) (ls : Array Slot), HP D Hs h H → LO Hs locs → lv_has ls 5 [(0, rv x0), (1, .int x1), (2, .int x2), (3, .int x3)] → f_X1_goOn_41 k34 n x0 x1 x2 x3 h = some rr → W p l e R s m args below meth c H locs cells slots (ZM D Hs iI rr below args s) (F0 m 41 ls []) := by
  obtain ⟨⟨hx, hb, hml, hown, hts⟩, -⟩ := id C
  have hl9 := C.2.1.2.2.1
  intro n
  induction n with
  | zero =>
    intro x0 x1 x2 x3 h H locs cells slots ls hH hL hl hrun
    cases (show (none : Option _) = some rr from hrun)
  | succ n ih =>
    intro x0 x1 x2 x3 h H locs cells slots ls hH hL hl hrun
    rw [f_X1_goOn_41] at hrun
    refine lv_iload_n (pc := 41) hx hb dX1_goOn_41 rfl (lv_at hl 3 rfl) ?_
    refine V_aload_n (pc := 42) hx hb dX1_goOn_42 rfl (lv_at hl 0 rfl) ?_
    obtain ⟨c33, hrun⟩ := gd_some hrun
    refine V_getR (pc := 43) C hH fr_X1_42 dX1_goOn_43 c33 rfl ?_
    obtain ⟨c36, hrun⟩ := gd_some hrun
    refine V_bd (pc := 46) C hL rfl hrun (fun rr1 e1 => Z_runV (rest := [.int x3]) C hH (m_X2_size hl9 e1) wV_X1_135 c36 rfl (by decide) rfl rfl ⟨by decide, by decide⟩ rfl (Nat.le_of_ble_eq_true rfl) hl.1 dX1_goOn_46) (fun v34 h35 H locs cells slots hH hL hrun => ?_)
    refine lv_icmp_ge (tgt := 102) (pc := 49) hx hb dX1_goOn_49 (by decide) (fun c_ => ?_) (fun c_ => ?_)
    · have hrun := ite_t hrun c_
      refine V_aload_n (pc := 102) hx hb dX1_goOn_102 rfl (lv_at hl 0 rfl) ?_
      refine lv_dup (pc := 103) hx hb dX1_goOn_103 (rv_cat _) ?_
      obtain ⟨c37, hrun⟩ := gd_some hrun
      refine V_getI (pc := 104) C hH fr_X1_115 dX1_goOn_104 c37 rfl ?_
      refine lv_iconst (v := (1 : Int32)) (pc := 107) hx hb dX1_goOn_107 (by decide) ?_
      refine lv_iadd (pc := 108) hx hb dX1_goOn_108 ?_
      refine V_putI (pc := 109) C hH hL fl_X1_115 dX1_goOn_109 c37 (fok_i _) rfl (fun q => Bool.noConfusion q) hrun (fun h38 H locs hH hL hrun => ?_)
      refine lv_iconst (v := (0 : Int32)) (pc := 112) hx hb dX1_goOn_112 (by decide) ?_
      refine lv_istore_n (i := 3) (lv' := [(3, .int (0 : Int32)), (0, rv x0), (1, .int x1), (2, .int x2)]) (pc := 113) hx hb dX1_goOn_113 rfl hl (by decide) rfl (fun ls hl => ?_)
      exact b_X1_goOn_114 C K34 FU x0 x1 x2 (0 : Int32) h38 H locs cells slots ls hH hL (lv_sub hl [1, 2, 3, 0] rfl) hrun
    · have hrun := ite_f hrun c_
      refine V_aload_n (pc := 52) hx hb dX1_goOn_52 rfl (lv_at hl 0 rfl) ?_
      obtain ⟨c39, hrun⟩ := gd_some hrun
      refine V_getR (pc := 53) C hH fr_X1_42 dX1_goOn_53 c39 rfl ?_
      refine lv_iload_n (pc := 56) hx hb dX1_goOn_56 rfl (lv_at hl 3 rfl) ?_
      obtain ⟨c42, hrun⟩ := gd_some hrun
      refine V_bd (pc := 57) C hL rfl hrun (fun rr1 e1 => Z_runV (rest := []) C hH (m_X2_at hl9 e1) wV_X1_136 c42 rfl (by decide) rfl rfl ⟨by decide, by decide⟩ rfl (Nat.le_of_ble_eq_true rfl) hl.1 dX1_goOn_57) (fun v40 h41 H locs cells slots hH hL hrun => ?_)
      obtain ⟨c43, hrun⟩ := gd_some hrun
      refine V_castX (pc := 60) (ci := 4) C hH rfl (by decide) q376 dX1_goOn_60 c43 ?_
      refine V_astore (i := 4) (lv' := [(4, rv v40), (0, rv x0), (1, .int x1), (2, .int x2), (3, .int x3)]) (pc := 63) hx hb dX1_goOn_63 hl (by decide) rfl (fun ls hl => ?_)
      refine V_aload (pc := 65) hx hb dX1_goOn_65 (lv_at hl 0 rfl) ?_
      refine lv_dup (pc := 67) hx hb dX1_goOn_67 (rv_cat _) ?_
      obtain ⟨c44, hrun⟩ := gd_some hrun
      refine V_getNI (pc := 68) C hH fn_X1_142 dX1_goOn_68 c44 rfl ?_
      refine V_aload (pc := 71) hx hb dX1_goOn_71 (lv_at hl 0 rfl) ?_
      refine V_getNI (pc := 73) C hH fn_X1_145 dX1_goOn_73 c44 rfl ?_
      refine lv_if_le (tgt := 91) (pc := 76) hx hb dX1_goOn_76 (by decide) (fun c_ => ?_) (fun c_ => ?_)
      · have hrun := ite_t hrun c_
        exact b_X1_goOn_91 C K34 ih x0 x1 x2 x3 v40 (kI h41 407 v40) h41 H locs cells slots ls hH hL (lv_sub hl [1, 2, 3, 4] rfl) hrun
      · have hrun := ite_f hrun c_
        refine V_aload (pc := 79) hx hb dX1_goOn_79 (lv_at hl 0 rfl) ?_
        refine V_bd (pc := 81) C hL rfl hrun (fun rr1 e1 => Z_runV (rest := [.int (kI h41 407 v40), rv v40]) C hH (m_X5_isMember hl9 e1) wV_X1_148 c44 rfl (by decide) rfl rfl ⟨by decide, by decide⟩ rfl (by simp [csum, rv_cat, cat_i, cat_l, cat_f, cat_d]) hl.1 dX1_goOn_81) (fun v45 h46 H locs cells slots hH hL hrun => ?_)
        refine lv_if_ne (tgt := 91) (pc := 84) hx hb dX1_goOn_84 (by decide) (fun c_ => ?_) (fun c_ => ?_)
        · have hrun := ite_f hrun c_
          exact b_X1_goOn_91 C K34 ih x0 x1 x2 x3 v40 (kI h41 407 v40) h46 H locs cells slots ls hH hL (lv_sub hl [1, 2, 3, 4] rfl) hrun
        · have hrun := ite_t hrun c_
          refine lv_iconst (v := (1 : Int32)) (pc := 87) hx hb dX1_goOn_87 (by decide) ?_
          refine lv_goto (tgt := 92) (pc := 88) hx hb dX1_goOn_88 (by decide) ?_
          exact b_X1_goOn_92 C K34 ih x0 x1 x2 x3 v40 (kI h41 407 v40) (1 : Int32) h46 H locs cells slots ls hH hL (lv_sub hl [1, 2, 3, 4] rfl) hrun

theorem b_X1_goOn_34 {rr : (Int32 ⊕ Ex) × Hp}  (C : CX p l R s m args meth c D Hs cX1_goOn "Massclaim" 5 (some .int) [] 8 131)  : ∀ (n : Nat) (x0 : Nat) (x1 : Int32) (x2 : Int32) (h : Hp) (H : Heap) (locs : List Loc) (cells slots : Nat) (ls : Array Slot), HP D Hs h H → LO Hs locs → lv_has ls 5 [(0, rv x0), (1, .int x1), (2, .int x2)] → f_X1_goOn_34 n x0 x1 x2 h = some rr → W p l e R s m args below meth c H locs cells slots (ZM D Hs iI rr below args s) (F0 m 34 ls []) := by
  obtain ⟨⟨hx, hb, hml, hown, hts⟩, -⟩ := id C
  have hl9 := C.2.1.2.2.1
  intro n
  induction n with
  | zero =>
    intro x0 x1 x2 h H locs cells slots ls hH hL hl hrun
    cases (show (none : Option _) = some rr from hrun)
  | succ n ih =>
    intro x0 x1 x2 h H locs cells slots ls hH hL hl hrun
    rw [f_X1_goOn_34] at hrun
    refine lv_iload_n (pc := 34) hx hb dX1_goOn_34 rfl (lv_at hl 2 rfl) ?_
    refine lv_iload_n (pc := 35) hx hb dX1_goOn_35 rfl (lv_at hl 1 rfl) ?_
    refine lv_icmp_ge (tgt := 221) (pc := 36) hx hb dX1_goOn_36 (by decide) (fun c_ => ?_) (fun c_ => ?_)
    · have hrun := ite_t hrun c_
      refine V_aload_n (pc := 221) hx hb dX1_goOn_221 rfl (lv_at hl 0 rfl) ?_
      obtain ⟨c47, hrun⟩ := gd_some hrun
      refine V_getI (pc := 222) C hH fr_X1_115 dX1_goOn_222 c47 rfl ?_
      exact V_iret (pc := 225) C hH hL hrun dX1_goOn_225
    · have hrun := ite_f hrun c_
      refine lv_iconst (v := (0 : Int32)) (pc := 39) hx hb dX1_goOn_39 (by decide) ?_
      refine lv_istore_n (i := 3) (lv' := [(3, .int (0 : Int32)), (0, rv x0), (1, .int x1), (2, .int x2)]) (pc := 40) hx hb dX1_goOn_40 rfl hl (by decide) rfl (fun ls hl => ?_)
      exact b_X1_goOn_41 C ih FU x0 x1 x2 (0 : Int32) h H locs cells slots ls hH hL (lv_sub hl [1, 2, 3, 0] rfl) hrun

theorem b_X1_goOn_29 {rr : (Int32 ⊕ Ex) × Hp}  (C : CX p l R s m args meth c D Hs cX1_goOn "Massclaim" 5 (some .int) [] 8 131)  : ∀ (x0 : Nat) (x1 : Int32) (y0 : Int32) (h : Hp) (H : Heap) (locs : List Loc) (cells slots : Nat) (ls : Array Slot), HP D Hs h H → LO Hs locs → lv_has ls 5 [(0, rv x0), (1, .int x1)] → f_X1_goOn_29 x0 x1 y0 h = some rr → W p l e R s m args below meth c H locs cells slots (ZM D Hs iI rr below args s) (F0 m 29 ls [.int y0]) := by
  obtain ⟨⟨hx, hb, hml, hown, hts⟩, -⟩ := id C
  have hl9 := C.2.1.2.2.1
  intro x0 x1 y0 h H locs cells slots ls hH hL hl hrun
  unfold f_X1_goOn_29 at hrun
  refine V_bd (pc := 29) C hL rfl hrun (fun rr1 e1 => Z_runS (rest := []) C hH (m_X1_requireArgument hl9 e1) wS_X1_131 rfl ⟨by decide, by decide⟩ rfl (Nat.le_of_ble_eq_true rfl) hl.1 dX1_goOn_29) (fun _ h49 H locs cells slots hH hL hrun => ?_)
  refine lv_iconst (v := (0 : Int32)) (pc := 32) hx hb dX1_goOn_32 (by decide) ?_
  refine lv_istore_n (i := 2) (lv' := [(2, .int (0 : Int32)), (0, rv x0), (1, .int x1)]) (pc := 33) hx hb dX1_goOn_33 rfl hl (by decide) rfl (fun ls hl => ?_)
  exact b_X1_goOn_34 C FU x0 x1 (0 : Int32) h49 H locs cells slots ls hH hL (lv_sub hl [1, 2, 0] rfl) hrun

theorem b_X1_goOn_28 {rr : (Int32 ⊕ Ex) × Hp}  (C : CX p l R s m args meth c D Hs cX1_goOn "Massclaim" 5 (some .int) [] 8 131)  : ∀ (x0 : Nat) (x1 : Int32) (h : Hp) (H : Heap) (locs : List Loc) (cells slots : Nat) (ls : Array Slot), HP D Hs h H → LO Hs locs → lv_has ls 5 [(0, rv x0), (1, .int x1)] → f_X1_goOn_28 x0 x1 h = some rr → W p l e R s m args below meth c H locs cells slots (ZM D Hs iI rr below args s) (F0 m 28 ls []) := by
  obtain ⟨⟨hx, hb, hml, hown, hts⟩, -⟩ := id C
  have hl9 := C.2.1.2.2.1
  intro x0 x1 h H locs cells slots ls hH hL hl hrun
  unfold f_X1_goOn_28 at hrun
  refine lv_iconst (v := (0 : Int32)) (pc := 28) hx hb dX1_goOn_28 (by decide) ?_
  exact b_X1_goOn_29 C x0 x1 (0 : Int32) h H locs cells slots ls hH hL (lv_sub hl [0, 1] rfl) hrun

theorem b_X1_goOn {rr : (Int32 ⊕ Ex) × Hp}  (C : CX p l R s m args meth c D Hs cX1_goOn "Massclaim" 5 (some .int) [] 8 131)  : ∀ (x0 : Nat) (x1 : Int32) (h : Hp) (H : Heap) (locs : List Loc) (cells slots : Nat) (ls : Array Slot), HP D Hs h H → LO Hs locs → lv_has ls 5 [(0, rv x0), (1, .int x1)] → f_X1_goOn x0 x1 h = some rr → W p l e R s m args below meth c H locs cells slots (ZM D Hs iI rr below args s) (F0 m 0 ls []) := by
  obtain ⟨⟨hx, hb, hml, hown, hts⟩, -⟩ := id C
  have hl9 := C.2.1.2.2.1
  intro x0 x1 h H locs cells slots ls hH hL hl hrun
  unfold f_X1_goOn at hrun
  refine lv_iload_n (pc := 0) hx hb dX1_goOn_0 rfl (lv_at hl 1 rfl) ?_
  refine lv_i2l (pc := 1) hx hb dX1_goOn_1 rfl ?_
  refine lv_lconst (v := (1 : Int64)) (pc := 2) hx hb dX1_goOn_2 (by decide) ?_
  refine lv_ldc2 (pc := 3) hx hb hown (hts _ q454) dX1_goOn_3 ?_
  refine V_bd (pc := 6) C hL rfl hrun (fun rr1 e1 => Z_runS (rest := []) C hH (m_X1_isIn hl9 e1) wS_X1_127 rfl ⟨by decide, by decide⟩ rfl (Nat.le_of_ble_eq_true rfl) hl.1 dX1_goOn_6) (fun v50 h51 H locs cells slots hH hL hrun => ?_)
  refine lv_if_eq (tgt := 28) (pc := 9) hx hb dX1_goOn_9 (by decide) (fun c_ => ?_) (fun c_ => ?_)
  · have hrun := ite_t hrun c_
    exact b_X1_goOn_28 C x0 x1 h51 H locs cells slots ls hH hL (lv_sub hl [0, 1] rfl) hrun
  · have hrun := ite_f hrun c_
    refine V_aload_n (pc := 12) hx hb dX1_goOn_12 rfl (lv_at hl 0 rfl) ?_
    obtain ⟨c52, hrun⟩ := gd_some hrun
    refine V_getI (pc := 13) C hH fr_X1_115 dX1_goOn_13 c52 rfl ?_
    refine lv_iload_n (pc := 16) hx hb dX1_goOn_16 rfl (lv_at hl 1 rfl) ?_
    refine lv_iadd (pc := 17) hx hb dX1_goOn_17 ?_
    refine lv_sipush (v := (20000 : Int32)) (pc := 18) hx hb dX1_goOn_18 (by decide) ?_
    refine lv_icmp_gt (tgt := 28) (pc := 21) hx hb dX1_goOn_21 (by decide) (fun c_ => ?_) (fun c_ => ?_)
    · have hrun := ite_t hrun c_
      exact b_X1_goOn_28 C x0 x1 h51 H locs cells slots ls hH hL (lv_sub hl [0, 1] rfl) hrun
    · have hrun := ite_f hrun c_
      refine lv_iconst (v := (1 : Int32)) (pc := 24) hx hb dX1_goOn_24 (by decide) ?_
      refine lv_goto (tgt := 29) (pc := 25) hx hb dX1_goOn_25 (by decide) ?_
      exact b_X1_goOn_29 C x0 x1 (1 : Int32) h51 H locs cells slots ls hH hL (lv_sub hl [0, 1] rfl) hrun

theorem m_X1_goOn {l : Launch} {D : va_G} {Hs : Heap} {h : Hp} {rr : (Int32 ⊕ Ex) × Hp} (hl9 : l.stackTraces = false) {x0 : Nat} {x1 : Int32} (hrun : f_X1_goOn x0 x1 h = some rr) : CM l yX1_goOn (ws_ yX1_goOn cX1_goOn 5 (some .int)) 8 131 iI [rv x0, .int x1] D Hs h rr := by
  refine CM.of (lv := [(0, rv x0), (1, .int x1)]) (plainFor_of_name (by decide)) hl9 (by simp [lv_args, rv_cat, cat_i, cat_l, cat_f, cat_d]) (by simp [lg_sl, rv_cat, cat_i, cat_l, cat_f, cat_d]) ?_
  intro p e R s m args below meth c H ls C hH hl hin
  exact b_X1_goOn C x0 x1 _ H [] _ _ ls hH (fun _ q => nomatch q) (lv_sub hl [0, 1] rfl) hrun

/-! MassclaimLaw.goOn(LMassclaim;I[J)I -/
def f_X0_goOn_12  (y0 : Nat) (h : Hp) : Rt Int32 :=
  some (.inl (1 : Int32), h)
def f_X0_goOn  (x0 : Nat) (x1 : Int32) (x2 : Nat) (h : Hp) : Rt Int32 :=
  gd (kC h x0 = 1) <| bdH (f_X1_goOn x0 x1 h)
  (fun v1 h2 => gd (kC h2 x2 = 102 ∧ ixo (0 : Int32) (kN h2 x2)) <| vl (tL h2 x2 ((0 : Int32)).toNatClampNeg (v1.toInt64)) fun h5 => some (.inl (0 : Int32), h5))
  (fun ex6 h7 => if ex6.1 = 902 then
  (f_X0_goOn_12 ex6.2 h7)
  else
  none)
theorem b_X0_goOn_12 {rr : (Int32 ⊕ Ex) × Hp}  (C : CX p l R s m args meth c D Hs cX0_goOn "MassclaimLaw" 4 (some .int) [(0, 9, 12, 13)] 9 155)  : ∀ (y0 : Nat) (h : Hp) (H : Heap) (locs : List Loc) (cells slots : Nat) (ls : Array Slot), HP D Hs h H → LO Hs locs → lv_has ls 4 [] → f_X0_goOn_12 y0 h = some rr → W p l e R s m args below meth c H locs cells slots (ZM D Hs iI rr below args s) (F0 m 12 ls [rv y0]) := by
  obtain ⟨⟨hx, hb, hml, hown, hts⟩, -⟩ := id C
  have hl9 := C.2.1.2.2.1
  intro y0 h H locs cells slots ls hH hL hl hrun
  unfold f_X0_goOn_12 at hrun
  refine V_astore_n (i := 3) (lv' := [(3, rv y0)]) (pc := 12) hx hb dX0_goOn_12 rfl hl (by decide) rfl (fun ls hl => ?_)
  refine lv_iconst (v := (1 : Int32)) (pc := 13) hx hb dX0_goOn_13 (by decide) ?_
  exact V_iret (pc := 14) C hH hL hrun dX0_goOn_14

theorem b_X0_goOn {rr : (Int32 ⊕ Ex) × Hp}  (C : CX p l R s m args meth c D Hs cX0_goOn "MassclaimLaw" 4 (some .int) [(0, 9, 12, 13)] 9 155)  : ∀ (x0 : Nat) (x1 : Int32) (x2 : Nat) (h : Hp) (H : Heap) (locs : List Loc) (cells slots : Nat) (ls : Array Slot), HP D Hs h H → LO Hs locs → lv_has ls 4 [(0, rv x0), (1, .int x1), (2, rv x2)] → f_X0_goOn x0 x1 x2 h = some rr → W p l e R s m args below meth c H locs cells slots (ZM D Hs iI rr below args s) (F0 m 0 ls []) := by
  obtain ⟨⟨hx, hb, hml, hown, hts⟩, -⟩ := id C
  have hl9 := C.2.1.2.2.1
  intro x0 x1 x2 h H locs cells slots ls hH hL hl hrun
  unfold f_X0_goOn at hrun
  refine V_aload_n (pc := 0) hx hb dX0_goOn_0 rfl (lv_at hl 2 rfl) ?_
  refine lv_iconst (v := (0 : Int32)) (pc := 1) hx hb dX0_goOn_1 (by decide) ?_
  refine V_aload_n (pc := 2) hx hb dX0_goOn_2 rfl (lv_at hl 0 rfl) ?_
  refine lv_iload_n (pc := 3) hx hb dX0_goOn_3 rfl (lv_at hl 1 rfl) ?_
  obtain ⟨c3, hrun⟩ := gd_some hrun
  refine V_bdH (pc := 4) hL hrun (fun rr1 e1 => Z_runV (rest := [.int (0 : Int32), rv x2]) C hH (m_X1_goOn hl9 e1) wV_X0_7 c3 rfl (by decide) rfl rfl ⟨by decide, by decide⟩ rfl (by simp [csum, rv_cat, cat_i, cat_l, cat_f, cat_d]) hl.1 dX0_goOn_4) (fun v1 h2 H locs cells slots hH hL hrun => ?_) (fun x_ q_ ce_ h7 H locs cells slots hH hL hrun hc_ hv_ hcl_ => ?_)
  · refine lv_i2l (pc := 7) hx hb dX0_goOn_7 rfl ?_
    obtain ⟨c4, hrun⟩ := gd_some hrun
    refine V_last (pc := 8) C hH hL dX0_goOn_8 c4 hrun (fun h5 H locs hH hL hrun => ?_)
    refine lv_goto (tgt := 15) (pc := 9) hx hb dX0_goOn_9 (by decide) ?_
    refine lv_iconst (v := (0 : Int32)) (pc := 15) hx hb dX0_goOn_15 (by decide) ?_
    exact V_iret (pc := 16) C hH hL hrun dX0_goOn_16
  · by_cases n902 : x_ = 902
    · subst n902
      have hrun := ite_t hrun rfl
      refine vx_catch (E := "java/lang/IllegalArgumentException") (name := "java/lang/IllegalArgumentException") hown (tableOf []) ⟨0, 9, 12, 13⟩ (tableOf []) (by rw [C.2.1.2.2.2.2]; rfl) (fun z hz => nomatch hz) (by decide) (by decide) (hts _ q449) (va_Nw.use rfl (C.2.1.2.2.2.1.2.1 _ q463 rfl)) hc_ hv_ hcl_ ?_
      exact b_X0_goOn_12 C (q_ + 1) h7 H locs cells slots ls hH hL (lv_sub hl [] rfl) hrun
    have hrun := ite_f hrun n902
    cases hrun

theorem m_X0_goOn {l : Launch} {D : va_G} {Hs : Heap} {h : Hp} {rr : (Int32 ⊕ Ex) × Hp} (hl9 : l.stackTraces = false) {x0 : Nat} {x1 : Int32} {x2 : Nat} (hrun : f_X0_goOn x0 x1 x2 h = some rr) : CM l yX0_goOn (wsW_ yX0_goOn cX0_goOn 4 (some .int) [(0, 9, 12, 13)]) 9 155 iI [rv x0, .int x1, rv x2] D Hs h rr := by
  refine CM.ofH (lv := [(0, rv x0), (1, .int x1), (2, rv x2)]) (plainFor_of_name (by decide)) hl9 (by simp [lv_args, rv_cat, cat_i, cat_l, cat_f, cat_d]) (by simp [lg_sl, rv_cat, cat_i, cat_l, cat_f, cat_d]) ?_
  intro p e R s m args below meth c H ls C hH hl hin
  exact b_X0_goOn C x0 x1 x2 _ H [] _ _ ls hH (fun _ q => nomatch q) (lv_sub hl [0, 1, 2] rfl) hrun

/-! MassclaimModel.isWithin(JJJ)Z -/
def f_X4_isWithin_18  (y0 : Int32) (h : Hp) : Rt Int32 :=
  gd (b01 y0) <| some (.inl y0, h)
def f_X4_isWithin_17  (h : Hp) : Rt Int32 :=
  f_X4_isWithin_18 (0 : Int32) h
def f_X4_isWithin  (x0 : Int64) (x2 : Int64) (x4 : Int64) (h : Hp) : Rt Int32 :=
  if x0 < x2 then
  (f_X4_isWithin_17  h)
  else
  (if x4 < x0 then
  (f_X4_isWithin_17  h)
  else
  (f_X4_isWithin_18 (1 : Int32) h))
theorem b_X4_isWithin_18 {rr : (Int32 ⊕ Ex) × Hp}  (C : CX p l R s m args meth c D Hs cX4_isWithin "MassclaimModel" 6 (some .boolean) [] 1 0)  : ∀ (y0 : Int32) (h : Hp) (H : Heap) (locs : List Loc) (cells slots : Nat) (ls : Array Slot), HP D Hs h H → LO Hs locs → lv_has ls 6 [] → f_X4_isWithin_18 y0 h = some rr → W p l e R s m args below meth c H locs cells slots (ZM D Hs iI rr below args s) (F0 m 18 ls [.int y0]) := by
  obtain ⟨⟨hx, hb, hml, hown, hts⟩, -⟩ := id C
  have hl9 := C.2.1.2.2.1
  intro y0 h H locs cells slots ls hH hL hl hrun
  unfold f_X4_isWithin_18 at hrun
  obtain ⟨c1, hrun⟩ := gd_some hrun
  exact V_zret (pc := 18) C hH hL c1 hrun dX4_isWithin_18

theorem b_X4_isWithin_17 {rr : (Int32 ⊕ Ex) × Hp}  (C : CX p l R s m args meth c D Hs cX4_isWithin "MassclaimModel" 6 (some .boolean) [] 1 0)  : ∀ (h : Hp) (H : Heap) (locs : List Loc) (cells slots : Nat) (ls : Array Slot), HP D Hs h H → LO Hs locs → lv_has ls 6 [] → f_X4_isWithin_17 h = some rr → W p l e R s m args below meth c H locs cells slots (ZM D Hs iI rr below args s) (F0 m 17 ls []) := by
  obtain ⟨⟨hx, hb, hml, hown, hts⟩, -⟩ := id C
  have hl9 := C.2.1.2.2.1
  intro h H locs cells slots ls hH hL hl hrun
  unfold f_X4_isWithin_17 at hrun
  refine lv_iconst (v := (0 : Int32)) (pc := 17) hx hb dX4_isWithin_17 (by decide) ?_
  exact b_X4_isWithin_18 C (0 : Int32) h H locs cells slots ls hH hL (lv_sub hl [] rfl) hrun

theorem b_X4_isWithin {rr : (Int32 ⊕ Ex) × Hp}  (C : CX p l R s m args meth c D Hs cX4_isWithin "MassclaimModel" 6 (some .boolean) [] 1 0)  : ∀ (x0 : Int64) (x2 : Int64) (x4 : Int64) (h : Hp) (H : Heap) (locs : List Loc) (cells slots : Nat) (ls : Array Slot), HP D Hs h H → LO Hs locs → lv_has ls 6 [(0, .long x0), (2, .long x2), (4, .long x4)] → f_X4_isWithin x0 x2 x4 h = some rr → W p l e R s m args below meth c H locs cells slots (ZM D Hs iI rr below args s) (F0 m 0 ls []) := by
  obtain ⟨⟨hx, hb, hml, hown, hts⟩, -⟩ := id C
  have hl9 := C.2.1.2.2.1
  intro x0 x2 x4 h H locs cells slots ls hH hL hl hrun
  unfold f_X4_isWithin at hrun
  refine lv_lload_n (pc := 0) hx hb dX4_isWithin_0 rfl (lv_at hl 0 rfl) ?_
  refine lv_lload_n (pc := 1) hx hb dX4_isWithin_1 rfl (lv_at hl 1 rfl) ?_
  refine V_lcmp_lt (tgt := 17) (pc := 2) hx hb dX4_isWithin_2 dX4_isWithin_3 (by decide) (fun c_ => ?_) (fun c_ => ?_)
  · have hrun := ite_t hrun c_
    exact b_X4_isWithin_17 C h H locs cells slots ls hH hL (lv_sub hl [] rfl) hrun
  · have hrun := ite_f hrun c_
    refine lv_lload_n (pc := 6) hx hb dX4_isWithin_6 rfl (lv_at hl 0 rfl) ?_
    refine lv_lload (pc := 7) hx hb dX4_isWithin_7 (lv_at hl 2 rfl) ?_
    refine V_lcmp_gt (tgt := 17) (pc := 9) hx hb dX4_isWithin_9 dX4_isWithin_10 (by decide) (fun c_ => ?_) (fun c_ => ?_)
    · have hrun := ite_t hrun c_
      exact b_X4_isWithin_17 C h H locs cells slots ls hH hL (lv_sub hl [] rfl) hrun
    · have hrun := ite_f hrun c_
      refine lv_iconst (v := (1 : Int32)) (pc := 13) hx hb dX4_isWithin_13 (by decide) ?_
      refine lv_goto (tgt := 18) (pc := 14) hx hb dX4_isWithin_14 (by decide) ?_
      exact b_X4_isWithin_18 C (1 : Int32) h H locs cells slots ls hH hL (lv_sub hl [] rfl) hrun

theorem m_X4_isWithin {l : Launch} {D : va_G} {Hs : Heap} {h : Hp} {rr : (Int32 ⊕ Ex) × Hp} (hl9 : l.stackTraces = false) {x0 : Int64} {x2 : Int64} {x4 : Int64} (hrun : f_X4_isWithin x0 x2 x4 h = some rr) : CM l yX4_isWithin (ws_ yX4_isWithin cX4_isWithin 6 (some .boolean)) 1 0 iI [.long x0, .long x2, .long x4] D Hs h rr := by
  refine CM.of (lv := [(0, .long x0), (2, .long x2), (4, .long x4)]) (plainFor_of_name (by decide)) hl9 (by simp [lv_args, rv_cat, cat_i, cat_l, cat_f, cat_d]) (by simp [lg_sl, rv_cat, cat_i, cat_l, cat_f, cat_d]) ?_
  intro p e R s m args below meth c H ls C hH hl hin
  exact b_X4_isWithin C x0 x2 x4 _ H [] _ _ ls hH (fun _ q => nomatch q) (lv_sub hl [0, 1, 2] rfl) hrun

/-! MassclaimModel.isGood(ZI)Z -/
def f_X4_isGood_10  (x1 : Int32) (y0 : Nat) (y1 : Int32) (h : Hp) : Rt Int32 :=
  gd (kC h y0 = 4) <| vl (sI h 300 y0 y1) fun h2 => gd (b01 x1) <| some (.inl x1, h2)
def f_X4_isGood  (x0 : Nat) (x1 : Int32) (x2 : Int32) (h : Hp) : Rt Int32 :=
  if x1 = 0 then
  (f_X4_isGood_10 x1 x0 x2 h)
  else
  (f_X4_isGood_10 x1 x0 (0 : Int32) h)
theorem b_X4_isGood_10 {rr : (Int32 ⊕ Ex) × Hp}  (C : CX p l R s m args meth c D Hs cX4_isGood "MassclaimModel" 3 (some .boolean) [] 1 0)  : ∀ (x1 : Int32) (y0 : Nat) (y1 : Int32) (h : Hp) (H : Heap) (locs : List Loc) (cells slots : Nat) (ls : Array Slot), HP D Hs h H → LO Hs locs → lv_has ls 3 [(1, .int x1)] → f_X4_isGood_10 x1 y0 y1 h = some rr → W p l e R s m args below meth c H locs cells slots (ZM D Hs iI rr below args s) (F0 m 10 ls [.int y1, rv y0]) := by
  obtain ⟨⟨hx, hb, hml, hown, hts⟩, -⟩ := id C
  have hl9 := C.2.1.2.2.1
  intro x1 y0 y1 h H locs cells slots ls hH hL hl hrun
  unfold f_X4_isGood_10 at hrun
  obtain ⟨c1, hrun⟩ := gd_some hrun
  refine V_putI (pc := 10) C hH hL fl_X4_1 dX4_isGood_10 c1 (fok_i _) rfl (fun q => Bool.noConfusion q) hrun (fun h2 H locs hH hL hrun => ?_)
  refine lv_iload_n (pc := 13) hx hb dX4_isGood_13 rfl (lv_at hl 0 rfl) ?_
  obtain ⟨c3, hrun⟩ := gd_some hrun
  exact V_zret (pc := 14) C hH hL c3 hrun dX4_isGood_14

theorem b_X4_isGood {rr : (Int32 ⊕ Ex) × Hp}  (C : CX p l R s m args meth c D Hs cX4_isGood "MassclaimModel" 3 (some .boolean) [] 1 0)  : ∀ (x0 : Nat) (x1 : Int32) (x2 : Int32) (h : Hp) (H : Heap) (locs : List Loc) (cells slots : Nat) (ls : Array Slot), HP D Hs h H → LO Hs locs → lv_has ls 3 [(0, rv x0), (1, .int x1), (2, .int x2)] → f_X4_isGood x0 x1 x2 h = some rr → W p l e R s m args below meth c H locs cells slots (ZM D Hs iI rr below args s) (F0 m 0 ls []) := by
  obtain ⟨⟨hx, hb, hml, hown, hts⟩, -⟩ := id C
  have hl9 := C.2.1.2.2.1
  intro x0 x1 x2 h H locs cells slots ls hH hL hl hrun
  unfold f_X4_isGood at hrun
  refine V_aload_n (pc := 0) hx hb dX4_isGood_0 rfl (lv_at hl 0 rfl) ?_
  refine lv_iload_n (pc := 1) hx hb dX4_isGood_1 rfl (lv_at hl 1 rfl) ?_
  refine lv_if_eq (tgt := 9) (pc := 2) hx hb dX4_isGood_2 (by decide) (fun c_ => ?_) (fun c_ => ?_)
  · have hrun := ite_t hrun c_
    refine lv_iload_n (pc := 9) hx hb dX4_isGood_9 rfl (lv_at hl 2 rfl) ?_
    exact b_X4_isGood_10 C x1 x0 x2 h H locs cells slots ls hH hL (lv_sub hl [1] rfl) hrun
  · have hrun := ite_f hrun c_
    refine lv_iconst (v := (0 : Int32)) (pc := 5) hx hb dX4_isGood_5 (by decide) ?_
    refine lv_goto (tgt := 10) (pc := 6) hx hb dX4_isGood_6 (by decide) ?_
    exact b_X4_isGood_10 C x1 x0 (0 : Int32) h H locs cells slots ls hH hL (lv_sub hl [1] rfl) hrun

theorem m_X4_isGood {l : Launch} {D : va_G} {Hs : Heap} {h : Hp} {rr : (Int32 ⊕ Ex) × Hp} (hl9 : l.stackTraces = false) {x0 : Nat} {x1 : Int32} {x2 : Int32} (hrun : f_X4_isGood x0 x1 x2 h = some rr) : CM l yX4_isGood (ws_ yX4_isGood cX4_isGood 3 (some .boolean)) 1 0 iI [rv x0, .int x1, .int x2] D Hs h rr := by
  refine CM.of (lv := [(0, rv x0), (1, .int x1), (2, .int x2)]) (plainFor_of_name (by decide)) hl9 (by simp [lv_args, rv_cat, cat_i, cat_l, cat_f, cat_d]) (by simp [lg_sl, rv_cat, cat_i, cat_l, cat_f, cat_d]) ?_
  intro p e R s m args below meth c H ls C hH hl hin
  exact b_X4_isGood C x0 x1 x2 _ H [] _ _ ls hH (fun _ q => nomatch q) (lv_sub hl [0, 1, 2] rfl) hrun

/-! MassclaimModel.fits(LMassclaimModel$Person;)Z -/
def f_X4_fits_53  (y0 : Int32) (h : Hp) : Rt Int32 :=
  gd (b01 y0) <| some (.inl y0, h)
def f_X4_fits_52  (h : Hp) : Rt Int32 :=
  f_X4_fits_53 (0 : Int32) h
def f_X4_fits  (x0 : Nat) (x1 : Nat) (h : Hp) : Rt Int32 :=
  gd (kC h x0 = 4) <| if (kI h 303 x0) = 0 then
  (f_X4_fits_52  h)
  else
  (gd (kC h x1 = 6) <| if (((kI h 304 x0) >>> ((kI h 502 x1) &&& 31)) &&& (1 : Int32)) = (1 : Int32) then
  (if (((kI h 305 x0) >>> ((kI h 501 x1) &&& 31)) &&& (1 : Int32)) = (1 : Int32) then
  (if (kI h 503 x1) < (kI h 306 x0) then
  (f_X4_fits_52  h)
  else
  (f_X4_fits_53 (1 : Int32) h))
  else
  (f_X4_fits_52  h))
  else
  (f_X4_fits_52  h))
theorem b_X4_fits_53 {rr : (Int32 ⊕ Ex) × Hp}  (C : CX p l R s m args meth c D Hs cX4_fits "MassclaimModel" 2 (some .boolean) [] 1 0)  : ∀ (y0 : Int32) (h : Hp) (H : Heap) (locs : List Loc) (cells slots : Nat) (ls : Array Slot), HP D Hs h H → LO Hs locs → lv_has ls 2 [] → f_X4_fits_53 y0 h = some rr → W p l e R s m args below meth c H locs cells slots (ZM D Hs iI rr below args s) (F0 m 53 ls [.int y0]) := by
  obtain ⟨⟨hx, hb, hml, hown, hts⟩, -⟩ := id C
  have hl9 := C.2.1.2.2.1
  intro y0 h H locs cells slots ls hH hL hl hrun
  unfold f_X4_fits_53 at hrun
  obtain ⟨c1, hrun⟩ := gd_some hrun
  exact V_zret (pc := 53) C hH hL c1 hrun dX4_fits_53

theorem b_X4_fits_52 {rr : (Int32 ⊕ Ex) × Hp}  (C : CX p l R s m args meth c D Hs cX4_fits "MassclaimModel" 2 (some .boolean) [] 1 0)  : ∀ (h : Hp) (H : Heap) (locs : List Loc) (cells slots : Nat) (ls : Array Slot), HP D Hs h H → LO Hs locs → lv_has ls 2 [] → f_X4_fits_52 h = some rr → W p l e R s m args below meth c H locs cells slots (ZM D Hs iI rr below args s) (F0 m 52 ls []) := by
  obtain ⟨⟨hx, hb, hml, hown, hts⟩, -⟩ := id C
  have hl9 := C.2.1.2.2.1
  intro h H locs cells slots ls hH hL hl hrun
  unfold f_X4_fits_52 at hrun
  refine lv_iconst (v := (0 : Int32)) (pc := 52) hx hb dX4_fits_52 (by decide) ?_
  exact b_X4_fits_53 C (0 : Int32) h H locs cells slots ls hH hL (lv_sub hl [] rfl) hrun

theorem b_X4_fits {rr : (Int32 ⊕ Ex) × Hp}  (C : CX p l R s m args meth c D Hs cX4_fits "MassclaimModel" 2 (some .boolean) [] 1 0)  : ∀ (x0 : Nat) (x1 : Nat) (h : Hp) (H : Heap) (locs : List Loc) (cells slots : Nat) (ls : Array Slot), HP D Hs h H → LO Hs locs → lv_has ls 2 [(0, rv x0), (1, rv x1)] → f_X4_fits x0 x1 h = some rr → W p l e R s m args below meth c H locs cells slots (ZM D Hs iI rr below args s) (F0 m 0 ls []) := by
  obtain ⟨⟨hx, hb, hml, hown, hts⟩, -⟩ := id C
  have hl9 := C.2.1.2.2.1
  intro x0 x1 h H locs cells slots ls hH hL hl hrun
  unfold f_X4_fits at hrun
  refine V_aload_n (pc := 0) hx hb dX4_fits_0 rfl (lv_at hl 0 rfl) ?_
  obtain ⟨c2, hrun⟩ := gd_some hrun
  refine V_getI (pc := 1) C hH fr_X4_49 dX4_fits_1 c2 rfl ?_
  refine lv_if_eq (tgt := 52) (pc := 4) hx hb dX4_fits_4 (by decide) (fun c_ => ?_) (fun c_ => ?_)
  · have hrun := ite_t hrun c_
    exact b_X4_fits_52 C h H locs cells slots ls hH hL (lv_sub hl [] rfl) hrun
  · have hrun := ite_f hrun c_
    refine V_aload_n (pc := 7) hx hb dX4_fits_7 rfl (lv_at hl 0 rfl) ?_
    refine V_getI (pc := 8) C hH fr_X4_213 dX4_fits_8 c2 rfl ?_
    refine V_aload_n (pc := 11) hx hb dX4_fits_11 rfl (lv_at hl 1 rfl) ?_
    obtain ⟨c3, hrun⟩ := gd_some hrun
    refine V_getI (pc := 12) C hH fr_X4_180 dX4_fits_12 c3 rfl ?_
    refine lv_ishr (pc := 15) hx hb dX4_fits_15 ?_
    refine lv_iconst (v := (1 : Int32)) (pc := 16) hx hb dX4_fits_16 (by decide) ?_
    refine lv_iand (pc := 17) hx hb dX4_fits_17 ?_
    refine lv_iconst (v := (1 : Int32)) (pc := 18) hx hb dX4_fits_18 (by decide) ?_
    refine lv_icmp_ne (tgt := 52) (pc := 19) hx hb dX4_fits_19 (by decide) (fun c_ => ?_) (fun c_ => ?_)
    · have hrun := ite_f hrun c_
      exact b_X4_fits_52 C h H locs cells slots ls hH hL (lv_sub hl [] rfl) hrun
    · have hrun := ite_t hrun c_
      refine V_aload_n (pc := 22) hx hb dX4_fits_22 rfl (lv_at hl 0 rfl) ?_
      refine V_getI (pc := 23) C hH fr_X4_216 dX4_fits_23 c2 rfl ?_
      refine V_aload_n (pc := 26) hx hb dX4_fits_26 rfl (lv_at hl 1 rfl) ?_
      refine V_getI (pc := 27) C hH fr_X4_179 dX4_fits_27 c3 rfl ?_
      refine lv_ishr (pc := 30) hx hb dX4_fits_30 ?_
      refine lv_iconst (v := (1 : Int32)) (pc := 31) hx hb dX4_fits_31 (by decide) ?_
      refine lv_iand (pc := 32) hx hb dX4_fits_32 ?_
      refine lv_iconst (v := (1 : Int32)) (pc := 33) hx hb dX4_fits_33 (by decide) ?_
      refine lv_icmp_ne (tgt := 52) (pc := 34) hx hb dX4_fits_34 (by decide) (fun c_ => ?_) (fun c_ => ?_)
      · have hrun := ite_f hrun c_
        exact b_X4_fits_52 C h H locs cells slots ls hH hL (lv_sub hl [] rfl) hrun
      · have hrun := ite_t hrun c_
        refine V_aload_n (pc := 37) hx hb dX4_fits_37 rfl (lv_at hl 1 rfl) ?_
        refine V_getI (pc := 38) C hH fr_X4_183 dX4_fits_38 c3 rfl ?_
        refine V_aload_n (pc := 41) hx hb dX4_fits_41 rfl (lv_at hl 0 rfl) ?_
        refine V_getI (pc := 42) C hH fr_X4_219 dX4_fits_42 c2 rfl ?_
        refine lv_icmp_lt (tgt := 52) (pc := 45) hx hb dX4_fits_45 (by decide) (fun c_ => ?_) (fun c_ => ?_)
        · have hrun := ite_t hrun c_
          exact b_X4_fits_52 C h H locs cells slots ls hH hL (lv_sub hl [] rfl) hrun
        · have hrun := ite_f hrun c_
          refine lv_iconst (v := (1 : Int32)) (pc := 48) hx hb dX4_fits_48 (by decide) ?_
          refine lv_goto (tgt := 53) (pc := 49) hx hb dX4_fits_49 (by decide) ?_
          exact b_X4_fits_53 C (1 : Int32) h H locs cells slots ls hH hL (lv_sub hl [] rfl) hrun

theorem m_X4_fits {l : Launch} {D : va_G} {Hs : Heap} {h : Hp} {rr : (Int32 ⊕ Ex) × Hp} (hl9 : l.stackTraces = false) {x0 : Nat} {x1 : Nat} (hrun : f_X4_fits x0 x1 h = some rr) : CM l yX4_fits (ws_ yX4_fits cX4_fits 2 (some .boolean)) 1 0 iI [rv x0, rv x1] D Hs h rr := by
  refine CM.of (lv := [(0, rv x0), (1, rv x1)]) (plainFor_of_name (by decide)) hl9 (by simp [lv_args, rv_cat, cat_i, cat_l, cat_f, cat_d]) (by simp [lg_sl, rv_cat, cat_i, cat_l, cat_f, cat_d]) ?_
  intro p e R s m args below meth c H ls C hH hl hin
  exact b_X4_fits C x0 x1 _ H [] _ _ ls hH (fun _ q => nomatch q) (lv_sub hl [0, 1] rfl) hrun

/-! MassclaimModel.isIn(LMassclaimModel$Person;)Z -/
def f_X4_isIn_20  (y0 : Int32) (h : Hp) : Rt Int32 :=
  gd (b01 y0) <| some (.inl y0, h)
def f_X4_isIn_19  (h : Hp) : Rt Int32 :=
  f_X4_isIn_20 (0 : Int32) h
def f_X4_isIn  (x0 : Nat) (x1 : Nat) (h : Hp) : Rt Int32 :=
  gd (kC h x0 = 4) <| bd (f_X4_fits x0 x1 h) fun v2 h3 => if v2 = 0 then
  (f_X4_isIn_19  h3)
  else
  (gd (kC h3 x1 = 6) <| if (kI h3 510 x1) = 0 then
  (f_X4_isIn_20 (1 : Int32) h3)
  else
  (f_X4_isIn_19  h3))
theorem b_X4_isIn_20 {rr : (Int32 ⊕ Ex) × Hp}  (C : CX p l R s m args meth c D Hs cX4_isIn "MassclaimModel" 2 (some .boolean) [] 2 21)  : ∀ (y0 : Int32) (h : Hp) (H : Heap) (locs : List Loc) (cells slots : Nat) (ls : Array Slot), HP D Hs h H → LO Hs locs → lv_has ls 2 [] → f_X4_isIn_20 y0 h = some rr → W p l e R s m args below meth c H locs cells slots (ZM D Hs iI rr below args s) (F0 m 20 ls [.int y0]) := by
  obtain ⟨⟨hx, hb, hml, hown, hts⟩, -⟩ := id C
  have hl9 := C.2.1.2.2.1
  intro y0 h H locs cells slots ls hH hL hl hrun
  unfold f_X4_isIn_20 at hrun
  obtain ⟨c1, hrun⟩ := gd_some hrun
  exact V_zret (pc := 20) C hH hL c1 hrun dX4_isIn_20

theorem b_X4_isIn_19 {rr : (Int32 ⊕ Ex) × Hp}  (C : CX p l R s m args meth c D Hs cX4_isIn "MassclaimModel" 2 (some .boolean) [] 2 21)  : ∀ (h : Hp) (H : Heap) (locs : List Loc) (cells slots : Nat) (ls : Array Slot), HP D Hs h H → LO Hs locs → lv_has ls 2 [] → f_X4_isIn_19 h = some rr → W p l e R s m args below meth c H locs cells slots (ZM D Hs iI rr below args s) (F0 m 19 ls []) := by
  obtain ⟨⟨hx, hb, hml, hown, hts⟩, -⟩ := id C
  have hl9 := C.2.1.2.2.1
  intro h H locs cells slots ls hH hL hl hrun
  unfold f_X4_isIn_19 at hrun
  refine lv_iconst (v := (0 : Int32)) (pc := 19) hx hb dX4_isIn_19 (by decide) ?_
  exact b_X4_isIn_20 C (0 : Int32) h H locs cells slots ls hH hL (lv_sub hl [] rfl) hrun

theorem b_X4_isIn {rr : (Int32 ⊕ Ex) × Hp}  (C : CX p l R s m args meth c D Hs cX4_isIn "MassclaimModel" 2 (some .boolean) [] 2 21)  : ∀ (x0 : Nat) (x1 : Nat) (h : Hp) (H : Heap) (locs : List Loc) (cells slots : Nat) (ls : Array Slot), HP D Hs h H → LO Hs locs → lv_has ls 2 [(0, rv x0), (1, rv x1)] → f_X4_isIn x0 x1 h = some rr → W p l e R s m args below meth c H locs cells slots (ZM D Hs iI rr below args s) (F0 m 0 ls []) := by
  obtain ⟨⟨hx, hb, hml, hown, hts⟩, -⟩ := id C
  have hl9 := C.2.1.2.2.1
  intro x0 x1 h H locs cells slots ls hH hL hl hrun
  unfold f_X4_isIn at hrun
  refine V_aload_n (pc := 0) hx hb dX4_isIn_0 rfl (lv_at hl 0 rfl) ?_
  refine V_aload_n (pc := 1) hx hb dX4_isIn_1 rfl (lv_at hl 1 rfl) ?_
  obtain ⟨c4, hrun⟩ := gd_some hrun
  refine V_bd (pc := 2) C hL rfl hrun (fun rr1 e1 => Z_runV (rest := []) C hH (m_X4_fits hl9 e1) wV_X4_222 c4 rfl (by decide) rfl rfl ⟨by decide, by decide⟩ rfl (Nat.le_of_ble_eq_true rfl) hl.1 dX4_isIn_2) (fun v2 h3 H locs cells slots hH hL hrun => ?_)
  refine lv_if_eq (tgt := 19) (pc := 5) hx hb dX4_isIn_5 (by decide) (fun c_ => ?_) (fun c_ => ?_)
  · have hrun := ite_t hrun c_
    exact b_X4_isIn_19 C h3 H locs cells slots ls hH hL (lv_sub hl [] rfl) hrun
  · have hrun := ite_f hrun c_
    refine V_aload_n (pc := 8) hx hb dX4_isIn_8 rfl (lv_at hl 1 rfl) ?_
    obtain ⟨c5, hrun⟩ := gd_some hrun
    refine V_getI (pc := 9) C hH fr_X4_225 dX4_isIn_9 c5 rfl ?_
    refine lv_if_ne (tgt := 19) (pc := 12) hx hb dX4_isIn_12 (by decide) (fun c_ => ?_) (fun c_ => ?_)
    · have hrun := ite_f hrun c_
      exact b_X4_isIn_19 C h3 H locs cells slots ls hH hL (lv_sub hl [] rfl) hrun
    · have hrun := ite_t hrun c_
      refine lv_iconst (v := (1 : Int32)) (pc := 15) hx hb dX4_isIn_15 (by decide) ?_
      refine lv_goto (tgt := 20) (pc := 16) hx hb dX4_isIn_16 (by decide) ?_
      exact b_X4_isIn_20 C (1 : Int32) h3 H locs cells slots ls hH hL (lv_sub hl [] rfl) hrun

theorem m_X4_isIn {l : Launch} {D : va_G} {Hs : Heap} {h : Hp} {rr : (Int32 ⊕ Ex) × Hp} (hl9 : l.stackTraces = false) {x0 : Nat} {x1 : Nat} (hrun : f_X4_isIn x0 x1 h = some rr) : CM l yX4_isIn (ws_ yX4_isIn cX4_isIn 2 (some .boolean)) 2 21 iI [rv x0, rv x1] D Hs h rr := by
  refine CM.of (lv := [(0, rv x0), (1, rv x1)]) (plainFor_of_name (by decide)) hl9 (by simp [lv_args, rv_cat, cat_i, cat_l, cat_f, cat_d]) (by simp [lg_sl, rv_cat, cat_i, cat_l, cat_f, cat_d]) ?_
  intro p e R s m args below meth c H ls C hH hl hin
  exact b_X4_isIn C x0 x1 _ H [] _ _ ls hH (fun _ q => nomatch q) (lv_sub hl [0, 1] rfl) hrun

/-! MassclaimModel$Person.lives()Z -/
def f_X6_lives_12  (y0 : Int32) (h : Hp) : Rt Int32 :=
  gd (b01 y0) <| some (.inl y0, h)
def f_X6_lives  (x0 : Nat) (h : Hp) : Rt Int32 :=
  gd (kC h x0 = 6) <| if (kI h 506 x0) = 0 then
  (f_X6_lives_12 (1 : Int32) h)
  else
  (f_X6_lives_12 (0 : Int32) h)
theorem b_X6_lives_12 {rr : (Int32 ⊕ Ex) × Hp}  (C : CX p l R s m args meth c D Hs cX6_lives "MassclaimModel$Person" 1 (some .boolean) [] 1 0)  : ∀ (y0 : Int32) (h : Hp) (H : Heap) (locs : List Loc) (cells slots : Nat) (ls : Array Slot), HP D Hs h H → LO Hs locs → lv_has ls 1 [] → f_X6_lives_12 y0 h = some rr → W p l e R s m args below meth c H locs cells slots (ZM D Hs iI rr below args s) (F0 m 12 ls [.int y0]) := by
  obtain ⟨⟨hx, hb, hml, hown, hts⟩, -⟩ := id C
  have hl9 := C.2.1.2.2.1
  intro y0 h H locs cells slots ls hH hL hl hrun
  unfold f_X6_lives_12 at hrun
  obtain ⟨c1, hrun⟩ := gd_some hrun
  exact V_zret (pc := 12) C hH hL c1 hrun dX6_lives_12

theorem b_X6_lives {rr : (Int32 ⊕ Ex) × Hp}  (C : CX p l R s m args meth c D Hs cX6_lives "MassclaimModel$Person" 1 (some .boolean) [] 1 0)  : ∀ (x0 : Nat) (h : Hp) (H : Heap) (locs : List Loc) (cells slots : Nat) (ls : Array Slot), HP D Hs h H → LO Hs locs → lv_has ls 1 [(0, rv x0)] → f_X6_lives x0 h = some rr → W p l e R s m args below meth c H locs cells slots (ZM D Hs iI rr below args s) (F0 m 0 ls []) := by
  obtain ⟨⟨hx, hb, hml, hown, hts⟩, -⟩ := id C
  have hl9 := C.2.1.2.2.1
  intro x0 h H locs cells slots ls hH hL hl hrun
  unfold f_X6_lives at hrun
  refine V_aload_n (pc := 0) hx hb dX6_lives_0 rfl (lv_at hl 0 rfl) ?_
  obtain ⟨c2, hrun⟩ := gd_some hrun
  refine V_getI (pc := 1) C hH fr_X6_36 dX6_lives_1 c2 rfl ?_
  refine lv_if_ne (tgt := 11) (pc := 4) hx hb dX6_lives_4 (by decide) (fun c_ => ?_) (fun c_ => ?_)
  · have hrun := ite_f hrun c_
    refine lv_iconst (v := (0 : Int32)) (pc := 11) hx hb dX6_lives_11 (by decide) ?_
    exact b_X6_lives_12 C (0 : Int32) h H locs cells slots ls hH hL (lv_sub hl [] rfl) hrun
  · have hrun := ite_t hrun c_
    refine lv_iconst (v := (1 : Int32)) (pc := 7) hx hb dX6_lives_7 (by decide) ?_
    refine lv_goto (tgt := 12) (pc := 8) hx hb dX6_lives_8 (by decide) ?_
    exact b_X6_lives_12 C (1 : Int32) h H locs cells slots ls hH hL (lv_sub hl [] rfl) hrun

theorem m_X6_lives {l : Launch} {D : va_G} {Hs : Heap} {h : Hp} {rr : (Int32 ⊕ Ex) × Hp} (hl9 : l.stackTraces = false) {x0 : Nat} (hrun : f_X6_lives x0 h = some rr) : CM l yX6_lives (ws_ yX6_lives cX6_lives 1 (some .boolean)) 1 0 iI [rv x0] D Hs h rr := by
  refine CM.of (lv := [(0, rv x0)]) (plainFor_of_name (by decide)) hl9 (by simp [lv_args, rv_cat, cat_i, cat_l, cat_f, cat_d]) (by simp [lg_sl, rv_cat, cat_i, cat_l, cat_f, cat_d]) ?_
  intro p e R s m args below meth c H ls C hH hl hin
  exact b_X6_lives C x0 _ H [] _ _ ls hH (fun _ q => nomatch q) (lv_sub hl [0] rfl) hrun

/-! java/lang/Math.floorDiv(II)I -/
def f_J10_floorDiv_21  (x2 : Int32) (h : Hp) : Rt Int32 :=
  some (.inl x2, h)
def f_J10_floorDiv  (x0 : Int32) (x1 : Int32) (h : Hp) : Rt Int32 :=
  gd (¬ x1 = 0) <| vl (x0 / x1) fun v2 => if 0 ≤ (x0 ^^^ x1) then
  (f_J10_floorDiv_21 v2 h)
  else
  (if (v2 * x1) = x0 then
  (f_J10_floorDiv_21 v2 h)
  else
  (some (.inl (v2 - (1 : Int32)), h)))
theorem b_J10_floorDiv_21 {rr : (Int32 ⊕ Ex) × Hp}  (C : CX p l R s m args meth c D Hs cJ10_floorDiv "java/lang/Math" 3 (some .int) [] 1 0)  : ∀ (x2 : Int32) (h : Hp) (H : Heap) (locs : List Loc) (cells slots : Nat) (ls : Array Slot), HP D Hs h H → LO Hs locs → lv_has ls 3 [(2, .int x2)] → f_J10_floorDiv_21 x2 h = some rr → W p l e R s m args below meth c H locs cells slots (ZM D Hs iI rr below args s) (F0 m 21 ls []) := by
  obtain ⟨⟨hx, hb, hml, hown, hts⟩, -⟩ := id C
  have hl9 := C.2.1.2.2.1
  intro x2 h H locs cells slots ls hH hL hl hrun
  unfold f_J10_floorDiv_21 at hrun
  refine lv_iload_n (pc := 21) hx hb dJ10_floorDiv_21 rfl (lv_at hl 0 rfl) ?_
  exact V_iret (pc := 22) C hH hL hrun dJ10_floorDiv_22

theorem b_J10_floorDiv {rr : (Int32 ⊕ Ex) × Hp}  (C : CX p l R s m args meth c D Hs cJ10_floorDiv "java/lang/Math" 3 (some .int) [] 1 0)  : ∀ (x0 : Int32) (x1 : Int32) (h : Hp) (H : Heap) (locs : List Loc) (cells slots : Nat) (ls : Array Slot), HP D Hs h H → LO Hs locs → lv_has ls 3 [(0, .int x0), (1, .int x1)] → f_J10_floorDiv x0 x1 h = some rr → W p l e R s m args below meth c H locs cells slots (ZM D Hs iI rr below args s) (F0 m 0 ls []) := by
  obtain ⟨⟨hx, hb, hml, hown, hts⟩, -⟩ := id C
  have hl9 := C.2.1.2.2.1
  intro x0 x1 h H locs cells slots ls hH hL hl hrun
  unfold f_J10_floorDiv at hrun
  refine lv_iload_n (pc := 0) hx hb dJ10_floorDiv_0 rfl (lv_at hl 0 rfl) ?_
  refine lv_iload_n (pc := 1) hx hb dJ10_floorDiv_1 rfl (lv_at hl 1 rfl) ?_
  obtain ⟨c1, hrun⟩ := gd_some hrun
  refine lv_idiv (pc := 2) hx hb dJ10_floorDiv_2 c1 ?_
  refine lv_topi (fun v2 ev2 => ?_)
  have hrun := vl_at hrun v2 ev2
  refine lv_istore_n (i := 2) (lv' := [(2, .int v2), (0, .int x0), (1, .int x1)]) (pc := 3) hx hb dJ10_floorDiv_3 rfl hl (by decide) rfl (fun ls hl => ?_)
  refine lv_iload_n (pc := 4) hx hb dJ10_floorDiv_4 rfl (lv_at hl 1 rfl) ?_
  refine lv_iload_n (pc := 5) hx hb dJ10_floorDiv_5 rfl (lv_at hl 2 rfl) ?_
  refine lv_ixor (pc := 6) hx hb dJ10_floorDiv_6 ?_
  refine lv_if_ge (tgt := 21) (pc := 7) hx hb dJ10_floorDiv_7 (by decide) (fun c_ => ?_) (fun c_ => ?_)
  · have hrun := ite_t hrun c_
    exact b_J10_floorDiv_21 C v2 h H locs cells slots ls hH hL (lv_sub hl [0] rfl) hrun
  · have hrun := ite_f hrun c_
    refine lv_iload_n (pc := 10) hx hb dJ10_floorDiv_10 rfl (lv_at hl 0 rfl) ?_
    refine lv_iload_n (pc := 11) hx hb dJ10_floorDiv_11 rfl (lv_at hl 2 rfl) ?_
    refine lv_imul (pc := 12) hx hb dJ10_floorDiv_12 ?_
    refine lv_iload_n (pc := 13) hx hb dJ10_floorDiv_13 rfl (lv_at hl 1 rfl) ?_
    refine lv_icmp_eq (tgt := 21) (pc := 14) hx hb dJ10_floorDiv_14 (by decide) (fun c_ => ?_) (fun c_ => ?_)
    · have hrun := ite_t hrun c_
      exact b_J10_floorDiv_21 C v2 h H locs cells slots ls hH hL (lv_sub hl [0] rfl) hrun
    · have hrun := ite_f hrun c_
      refine lv_iload_n (pc := 17) hx hb dJ10_floorDiv_17 rfl (lv_at hl 0 rfl) ?_
      refine lv_iconst (v := (1 : Int32)) (pc := 18) hx hb dJ10_floorDiv_18 (by decide) ?_
      refine lv_isub (pc := 19) hx hb dJ10_floorDiv_19 ?_
      exact V_iret (pc := 20) C hH hL hrun dJ10_floorDiv_20

theorem m_J10_floorDiv {l : Launch} {D : va_G} {Hs : Heap} {h : Hp} {rr : (Int32 ⊕ Ex) × Hp} (hl9 : l.stackTraces = false) {x0 : Int32} {x1 : Int32} (hrun : f_J10_floorDiv x0 x1 h = some rr) : CM l yJ10_floorDiv (ws_ yJ10_floorDiv cJ10_floorDiv 3 (some .int)) 1 0 iI [.int x0, .int x1] D Hs h rr := by
  refine CM.of (lv := [(0, .int x0), (1, .int x1)]) (by decide +kernel) hl9 (by simp [lv_args, rv_cat, cat_i, cat_l, cat_f, cat_d]) (by simp [lg_sl, rv_cat, cat_i, cat_l, cat_f, cat_d]) ?_
  intro p e R s m args below meth c H ls C hH hl hin
  exact b_J10_floorDiv C x0 x1 _ H [] _ _ ls hH (fun _ q => nomatch q) (lv_sub hl [0, 1] rfl) hrun

/-! MassclaimModel$Person.age(I)I -/
def f_X6_age  (x0 : Nat) (x1 : Int32) (h : Hp) : Rt Int32 :=
  gd (kC h x0 = 6) <| bd (f_J10_floorDiv (x1 - (kI h 500 x0)) (360 : Int32) h) fun v2 h3 => some (.inl v2, h3)
theorem b_X6_age {rr : (Int32 ⊕ Ex) × Hp}  (C : CX p l R s m args meth c D Hs cX6_age "MassclaimModel$Person" 2 (some .int) [] 2 22)  : ∀ (x0 : Nat) (x1 : Int32) (h : Hp) (H : Heap) (locs : List Loc) (cells slots : Nat) (ls : Array Slot), HP D Hs h H → LO Hs locs → lv_has ls 2 [(0, rv x0), (1, .int x1)] → f_X6_age x0 x1 h = some rr → W p l e R s m args below meth c H locs cells slots (ZM D Hs iI rr below args s) (F0 m 0 ls []) := by
  obtain ⟨⟨hx, hb, hml, hown, hts⟩, -⟩ := id C
  have hl9 := C.2.1.2.2.1
  intro x0 x1 h H locs cells slots ls hH hL hl hrun
  unfold f_X6_age at hrun
  refine lv_iload_n (pc := 0) hx hb dX6_age_0 rfl (lv_at hl 1 rfl) ?_
  refine V_aload_n (pc := 1) hx hb dX6_age_1 rfl (lv_at hl 0 rfl) ?_
  obtain ⟨c1, hrun⟩ := gd_some hrun
  refine V_getI (pc := 2) C hH fr_X6_39 dX6_age_2 c1 rfl ?_
  refine lv_isub (pc := 5) hx hb dX6_age_5 ?_
  refine lv_sipush (v := (360 : Int32)) (pc := 6) hx hb dX6_age_6 (by decide) ?_
  refine V_bd (pc := 9) C hL rfl hrun (fun rr1 e1 => Z_runS (rest := []) C hH (m_J10_floorDiv hl9 e1) wS_X6_42 rfl ⟨by decide, by decide⟩ rfl (Nat.le_of_ble_eq_true rfl) hl.1 dX6_age_9) (fun v2 h3 H locs cells slots hH hL hrun => ?_)
  exact V_iret (pc := 12) C hH hL hrun dX6_age_12

theorem m_X6_age {l : Launch} {D : va_G} {Hs : Heap} {h : Hp} {rr : (Int32 ⊕ Ex) × Hp} (hl9 : l.stackTraces = false) {x0 : Nat} {x1 : Int32} (hrun : f_X6_age x0 x1 h = some rr) : CM l yX6_age (ws_ yX6_age cX6_age 2 (some .int)) 2 22 iI [rv x0, .int x1] D Hs h rr := by
  refine CM.of (lv := [(0, rv x0), (1, .int x1)]) (plainFor_of_name (by decide)) hl9 (by simp [lv_args, rv_cat, cat_i, cat_l, cat_f, cat_d]) (by simp [lg_sl, rv_cat, cat_i, cat_l, cat_f, cat_d]) ?_
  intro p e R s m args below meth c H ls C hH hl hin
  exact b_X6_age C x0 x1 _ H [] _ _ ls hH (fun _ q => nomatch q) (lv_sub hl [0, 1] rfl) hrun

/-! MassclaimModel.free(LMassclaimModel$Person;)V -/
def f_X4_free_155 (k51 : Nat → Nat → Int32 → Hp → Rt Unit) (x0 : Nat) (x1 : Nat) (x2 : Int32) (h : Hp) : Rt Unit :=
  vl (x2 + (1 : Int32)) fun v1 => k51 x0 x1 v1 h
def f_X4_free_51  : Nat → Nat → Nat → Int32 → Hp → Rt Unit
  | 0, _, _, _, _ => none
  | n + 1, x0, x1, x2, h => gd (kC h x1 = 6) <| gd (kC h (kR h 521 x1) = 18) <| bd (f_J2_size (kR h 521 x1) h) fun v3 h4 => if v3 ≤ x2 then
  (some (.inl (), h4))
  else
  (gd (kC h4 x1 = 6) <| gd (kC h4 (kR h4 521 x1) = 18) <| bd (f_J2_get (kR h4 521 x1) x2 h4) fun v7 h8 => gd (v7 = 0 ∨ kC h8 v7 = 15) <| gd (kC h8 v7 = 15) <| if (kI h8 1401 v7) ≤ 0 then
  (f_X4_free_155 (f_X4_free_51 n) x0 x1 x2 h8)
  else
  (gd (kC h8 x0 = 4) <| if (((kI h8 301 x0) - (kI h8 1402 v7)) / (360 : Int32)) ≤ (kI h8 1403 v7) then
  (f_X4_free_155 (f_X4_free_51 n) x0 x1 x2 h8)
  else
  (vl (sI h8 1403 v7 ((kI h8 1403 v7) + (1 : Int32))) fun h13 => gd (kC h13 v7 = 15) <| gd (¬ ((kI h13 1401 v7).toInt64) = 0) <| vl ((kL h13 1400 v7) / ((kI h13 1401 v7).toInt64)) fun v16 => vl (sL h13 1400 v7 ((kL h13 1400 v7) - v16)) fun h17 => gd (kC h17 v7 = 15) <| vl (sI h17 1401 v7 ((kI h17 1401 v7) - (1 : Int32))) fun h19 => gd (kC h19 x1 = 6) <| vl (sL h19 518 x1 ((kL h19 518 x1) + v16)) fun h21 => f_X4_free_155 (f_X4_free_51 n) x0 x1 x2 h21)))
def f_X4_free_49  (x0 : Nat) (x1 : Nat) (h : Hp) : Rt Unit :=
  f_X4_free_51 FU x0 x1 (0 : Int32) h
def f_X4_free  (x0 : Nat) (x1 : Nat) (h : Hp) : Rt Unit :=
  gd (kC h x1 = 6) <| bd (f_X6_lives x1 h) fun v22 h23 => if v22 = 0 then
  (f_X4_free_49 x0 x1 h23)
  else
  (gd (kC h23 x1 = 6) <| if (kL h23 519 x1) ≤ (0 : Int64) then
  (f_X4_free_49 x0 x1 h23)
  else
  (gd (kC h23 x0 = 4) <| bd (f_X6_age x1 (kI h23 301 x0) h23) fun v27 h28 => if v27 < (18 : Int32) then
  (f_X4_free_49 x0 x1 h28)
  else
  (gd (kC h28 x1 = 6) <| vl (kL h28 519 x1) fun v30 => vl (sL h28 519 x1 (0 : Int64)) fun h31 => gd (kC h31 x1 = 6) <| vl (sL h31 518 x1 ((kL h31 518 x1) + v30)) fun h33 => f_X4_free_49 x0 x1 h33)))
theorem b_X4_free_155 {rr : (Unit ⊕ Ex) × Hp} {k51 : Nat → Nat → Int32 → Hp → Rt Unit} (C : CX p l R s m args meth c D Hs cX4_free "MassclaimModel" 6 none [] 4 64) (K51 : ∀ (x0 : Nat) (x1 : Nat) (x2 : Int32) (h : Hp) (H : Heap) (locs : List Loc) (cells slots : Nat) (ls : Array Slot), HP D Hs h H → LO Hs locs → lv_has ls 6 [(0, rv x0), (1, rv x1), (2, .int x2)] → k51 x0 x1 x2 h = some rr → W p l e R s m args below meth c H locs cells slots (ZM D Hs iV rr below args s) (F0 m 51 ls [])) : ∀ (x0 : Nat) (x1 : Nat) (x2 : Int32) (h : Hp) (H : Heap) (locs : List Loc) (cells slots : Nat) (ls : Array Slot), HP D Hs h H → LO Hs locs → lv_has ls 6 [(0, rv x0), (1, rv x1), (2, .int x2)] → f_X4_free_155 k51 x0 x1 x2 h = some rr → W p l e R s m args below meth c H locs cells slots (ZM D Hs iV rr below args s) (F0 m 155 ls []) := by
  obtain ⟨⟨hx, hb, hml, hown, hts⟩, -⟩ := id C
  have hl9 := C.2.1.2.2.1
  intro x0 x1 x2 h H locs cells slots ls hH hL hl hrun
  unfold f_X4_free_155 at hrun
  obtain ⟨v1, ev1⟩ : ∃ y : Int32, y = x2 + (1 : Int32) := ⟨_, rfl⟩
  have hrun := vl_at hrun v1 ev1
  refine lv_iinc (v := v1) (lv' := [(2, .int v1), (0, rv x0), (1, rv x1)]) (pc := 155) hx hb dX4_free_155 hl (k := 2) rfl (by rw [ev1]; rfl) (by decide) (by first | rfl | simp [rv_cat, cat_i, cat_l, cat_f, cat_d]) (fun ls hl => ?_)
  refine lv_goto (tgt := 51) (pc := 158) hx hb dX4_free_158 (by decide) ?_
  exact K51 x0 x1 v1 h H locs cells slots ls hH hL (lv_sub hl [1, 2, 0] rfl) hrun

theorem b_X4_free_51 {rr : (Unit ⊕ Ex) × Hp}  (C : CX p l R s m args meth c D Hs cX4_free "MassclaimModel" 6 none [] 4 64)  : ∀ (n : Nat) (x0 : Nat) (x1 : Nat) (x2 : Int32) (h : Hp) (H : Heap) (locs : List Loc) (cells slots : Nat) (ls : Array Slot), HP D Hs h H → LO Hs locs → lv_has ls 6 [(0, rv x0), (1, rv x1), (2, .int x2)] → f_X4_free_51 n x0 x1 x2 h = some rr → W p l e R s m args below meth c H locs cells slots (ZM D Hs iV rr below args s) (F0 m 51 ls []) := by
  obtain ⟨⟨hx, hb, hml, hown, hts⟩, -⟩ := id C
  have hl9 := C.2.1.2.2.1
  intro n
  induction n with
  | zero =>
    intro x0 x1 x2 h H locs cells slots ls hH hL hl hrun
    cases (show (none : Option _) = some rr from hrun)
  | succ n ih =>
    intro x0 x1 x2 h H locs cells slots ls hH hL hl hrun
    rw [f_X4_free_51] at hrun
    refine lv_iload_n (pc := 51) hx hb dX4_free_51 rfl (lv_at hl 2 rfl) ?_
    refine V_aload_n (pc := 52) hx hb dX4_free_52 rfl (lv_at hl 1 rfl) ?_
    obtain ⟨c2, hrun⟩ := gd_some hrun
    refine V_getR (pc := 53) C hH fr_X4_150 dX4_free_53 c2 rfl ?_
    obtain ⟨c5, hrun⟩ := gd_some hrun
    refine V_bd (pc := 56) C hL rfl hrun (fun rr1 e1 => Z_runV (rest := [.int x2]) C hH (m_J2_size hl9 e1) wV_X4_94 c5 rfl (by decide) rfl rfl ⟨by decide, by decide⟩ rfl (Nat.le_of_ble_eq_true rfl) hl.1 dX4_free_56) (fun v3 h4 H locs cells slots hH hL hrun => ?_)
    refine lv_icmp_ge (tgt := 161) (pc := 59) hx hb dX4_free_59 (by decide) (fun c_ => ?_) (fun c_ => ?_)
    · have hrun := ite_t hrun c_
      exact V_vret (pc := 161) C hH hL hrun dX4_free_161
    · have hrun := ite_f hrun c_
      refine V_aload_n (pc := 62) hx hb dX4_free_62 rfl (lv_at hl 1 rfl) ?_
      obtain ⟨c6, hrun⟩ := gd_some hrun
      refine V_getR (pc := 63) C hH fr_X4_150 dX4_free_63 c6 rfl ?_
      refine lv_iload_n (pc := 66) hx hb dX4_free_66 rfl (lv_at hl 2 rfl) ?_
      obtain ⟨c9, hrun⟩ := gd_some hrun
      refine V_bd (pc := 67) C hL rfl hrun (fun rr1 e1 => Z_runV (rest := []) C hH (m_J2_get hl9 e1) wV_X4_108 c9 rfl (by decide) rfl rfl ⟨by decide, by decide⟩ rfl (Nat.le_of_ble_eq_true rfl) hl.1 dX4_free_67) (fun v7 h8 H locs cells slots hH hL hrun => ?_)
      obtain ⟨c10, hrun⟩ := gd_some hrun
      refine V_castX (pc := 70) (ci := 14) C hH rfl (by decide) q1971 dX4_free_70 c10 ?_
      refine V_astore_n (i := 3) (lv' := [(3, rv v7), (0, rv x0), (1, rv x1), (2, .int x2)]) (pc := 73) hx hb dX4_free_73 rfl hl (by decide) rfl (fun ls hl => ?_)
      refine V_aload_n (pc := 74) hx hb dX4_free_74 rfl (lv_at hl 0 rfl) ?_
      obtain ⟨c11, hrun⟩ := gd_some hrun
      refine V_getI (pc := 75) C hH fr_X4_155 dX4_free_75 c11 rfl ?_
      refine lv_if_le (tgt := 155) (pc := 78) hx hb dX4_free_78 (by decide) (fun c_ => ?_) (fun c_ => ?_)
      · have hrun := ite_t hrun c_
        exact b_X4_free_155 C ih x0 x1 x2 h8 H locs cells slots ls hH hL (lv_sub hl [1, 2, 3] rfl) hrun
      · have hrun := ite_f hrun c_
        refine V_aload_n (pc := 81) hx hb dX4_free_81 rfl (lv_at hl 1 rfl) ?_
        obtain ⟨c12, hrun⟩ := gd_some hrun
        refine V_getI (pc := 82) C hH fr_X4_43 dX4_free_82 c12 rfl ?_
        refine V_aload_n (pc := 85) hx hb dX4_free_85 rfl (lv_at hl 0 rfl) ?_
        refine V_getI (pc := 86) C hH fr_X4_158 dX4_free_86 c11 rfl ?_
        refine lv_isub (pc := 89) hx hb dX4_free_89 ?_
        refine lv_sipush (v := (360 : Int32)) (pc := 90) hx hb dX4_free_90 (by decide) ?_
        refine lv_idiv (pc := 93) hx hb dX4_free_93 (by decide) ?_
        refine V_aload_n (pc := 94) hx hb dX4_free_94 rfl (lv_at hl 0 rfl) ?_
        refine V_getI (pc := 95) C hH fr_X4_161 dX4_free_95 c11 rfl ?_
        refine lv_icmp_le (tgt := 155) (pc := 98) hx hb dX4_free_98 (by decide) (fun c_ => ?_) (fun c_ => ?_)
        · have hrun := ite_t hrun c_
          exact b_X4_free_155 C ih x0 x1 x2 h8 H locs cells slots ls hH hL (lv_sub hl [1, 2, 3] rfl) hrun
        · have hrun := ite_f hrun c_
          refine V_aload_n (pc := 101) hx hb dX4_free_101 rfl (lv_at hl 0 rfl) ?_
          refine lv_dup (pc := 102) hx hb dX4_free_102 (rv_cat _) ?_
          refine V_getI (pc := 103) C hH fr_X4_161 dX4_free_103 c11 rfl ?_
          refine lv_iconst (v := (1 : Int32)) (pc := 106) hx hb dX4_free_106 (by decide) ?_
          refine lv_iadd (pc := 107) hx hb dX4_free_107 ?_
          refine V_putI (pc := 108) C hH hL fl_X4_161 dX4_free_108 c11 (fok_i _) rfl (fun q => Bool.noConfusion q) hrun (fun h13 H locs hH hL hrun => ?_)
          refine V_aload_n (pc := 111) hx hb dX4_free_111 rfl (lv_at hl 0 rfl) ?_
          obtain ⟨c14, hrun⟩ := gd_some hrun
          refine V_getL (pc := 112) C hH fr_X4_164 dX4_free_112 c14 rfl ?_
          refine V_aload_n (pc := 115) hx hb dX4_free_115 rfl (lv_at hl 0 rfl) ?_
          refine V_getI (pc := 116) C hH fr_X4_155 dX4_free_116 c14 rfl ?_
          refine lv_i2l (pc := 119) hx hb dX4_free_119 rfl ?_
          obtain ⟨c15, hrun⟩ := gd_some hrun
          refine lv_ldiv (pc := 120) hx hb dX4_free_120 c15 ?_
          refine lv_topl (fun v16 ev16 => ?_)
          have hrun := vl_at hrun v16 ev16
          refine lv_lstore (i := 4) (lv' := [(4, .long v16), (3, rv v7), (0, rv x0), (1, rv x1), (2, .int x2)]) (pc := 121) hx hb dX4_free_121 hl (by decide) (by simp [rv_cat, cat_i, cat_l, cat_f, cat_d]) (fun ls hl => ?_)
          refine V_aload_n (pc := 123) hx hb dX4_free_123 rfl (lv_at hl 1 rfl) ?_
          refine lv_dup (pc := 124) hx hb dX4_free_124 (rv_cat _) ?_
          refine V_getL (pc := 125) C hH fr_X4_164 dX4_free_125 c14 rfl ?_
          refine lv_lload (pc := 128) hx hb dX4_free_128 (lv_at hl 0 rfl) ?_
          refine lv_lsub (pc := 130) hx hb dX4_free_130 ?_
          refine V_putL (pc := 131) C hH hL fl_X4_164 dX4_free_131 c14 (fok_l _) rfl (fun q => Bool.noConfusion q) hrun (fun h17 H locs hH hL hrun => ?_)
          refine V_aload_n (pc := 134) hx hb dX4_free_134 rfl (lv_at hl 1 rfl) ?_
          refine lv_dup (pc := 135) hx hb dX4_free_135 (rv_cat _) ?_
          obtain ⟨c18, hrun⟩ := gd_some hrun
          refine V_getI (pc := 136) C hH fr_X4_155 dX4_free_136 c18 rfl ?_
          refine lv_iconst (v := (1 : Int32)) (pc := 139) hx hb dX4_free_139 (by decide) ?_
          refine lv_isub (pc := 140) hx hb dX4_free_140 ?_
          refine V_putI (pc := 141) C hH hL fl_X4_155 dX4_free_141 c18 (fok_i _) rfl (fun q => Bool.noConfusion q) hrun (fun h19 H locs hH hL hrun => ?_)
          refine V_aload_n (pc := 144) hx hb dX4_free_144 rfl (lv_at hl 3 rfl) ?_
          refine lv_dup (pc := 145) hx hb dX4_free_145 (rv_cat _) ?_
          obtain ⟨c20, hrun⟩ := gd_some hrun
          refine V_getL (pc := 146) C hH fr_X4_147 dX4_free_146 c20 rfl ?_
          refine lv_lload (pc := 149) hx hb dX4_free_149 (lv_at hl 0 rfl) ?_
          refine lv_ladd (pc := 151) hx hb dX4_free_151 ?_
          refine V_putL (pc := 152) C hH hL fl_X4_147 dX4_free_152 c20 (fok_l _) rfl (fun q => Bool.noConfusion q) hrun (fun h21 H locs hH hL hrun => ?_)
          exact b_X4_free_155 C ih x0 x1 x2 h21 H locs cells slots ls hH hL (lv_sub hl [2, 3, 4] rfl) hrun

theorem b_X4_free_49 {rr : (Unit ⊕ Ex) × Hp}  (C : CX p l R s m args meth c D Hs cX4_free "MassclaimModel" 6 none [] 4 64)  : ∀ (x0 : Nat) (x1 : Nat) (h : Hp) (H : Heap) (locs : List Loc) (cells slots : Nat) (ls : Array Slot), HP D Hs h H → LO Hs locs → lv_has ls 6 [(0, rv x0), (1, rv x1)] → f_X4_free_49 x0 x1 h = some rr → W p l e R s m args below meth c H locs cells slots (ZM D Hs iV rr below args s) (F0 m 49 ls []) := by
  obtain ⟨⟨hx, hb, hml, hown, hts⟩, -⟩ := id C
  have hl9 := C.2.1.2.2.1
  intro x0 x1 h H locs cells slots ls hH hL hl hrun
  unfold f_X4_free_49 at hrun
  refine lv_iconst (v := (0 : Int32)) (pc := 49) hx hb dX4_free_49 (by decide) ?_
  refine lv_istore_n (i := 2) (lv' := [(2, .int (0 : Int32)), (0, rv x0), (1, rv x1)]) (pc := 50) hx hb dX4_free_50 rfl hl (by decide) (by simp [rv_cat, cat_i, cat_l, cat_f, cat_d]) (fun ls hl => ?_)
  exact b_X4_free_51 C FU x0 x1 (0 : Int32) h H locs cells slots ls hH hL (lv_sub hl [1, 2, 0] rfl) hrun

theorem b_X4_free {rr : (Unit ⊕ Ex) × Hp}  (C : CX p l R s m args meth c D Hs cX4_free "MassclaimModel" 6 none [] 4 64)  : ∀ (x0 : Nat) (x1 : Nat) (h : Hp) (H : Heap) (locs : List Loc) (cells slots : Nat) (ls : Array Slot), HP D Hs h H → LO Hs locs → lv_has ls 6 [(0, rv x0), (1, rv x1)] → f_X4_free x0 x1 h = some rr → W p l e R s m args below meth c H locs cells slots (ZM D Hs iV rr below args s) (F0 m 0 ls []) := by
  obtain ⟨⟨hx, hb, hml, hown, hts⟩, -⟩ := id C
  have hl9 := C.2.1.2.2.1
  intro x0 x1 h H locs cells slots ls hH hL hl hrun
  unfold f_X4_free at hrun
  refine V_aload_n (pc := 0) hx hb dX4_free_0 rfl (lv_at hl 1 rfl) ?_
  obtain ⟨c24, hrun⟩ := gd_some hrun
  refine V_bd (pc := 1) C hL rfl hrun (fun rr1 e1 => Z_runV (rest := []) C hH (m_X6_lives hl9 e1) wV_X4_136 c24 rfl (by decide) rfl rfl ⟨by decide, by decide⟩ rfl (Nat.le_of_ble_eq_true rfl) hl.1 dX4_free_1) (fun v22 h23 H locs cells slots hH hL hrun => ?_)
  refine lv_if_eq (tgt := 49) (pc := 4) hx hb dX4_free_4 (by decide) (fun c_ => ?_) (fun c_ => ?_)
  · have hrun := ite_t hrun c_
    exact b_X4_free_49 C x0 x1 h23 H locs cells slots ls hH hL (lv_sub hl [0, 1] rfl) hrun
  · have hrun := ite_f hrun c_
    refine V_aload_n (pc := 7) hx hb dX4_free_7 rfl (lv_at hl 1 rfl) ?_
    obtain ⟨c25, hrun⟩ := gd_some hrun
    refine V_getL (pc := 8) C hH fr_X4_140 dX4_free_8 c25 rfl ?_
    refine lv_lconst (v := (0 : Int64)) (pc := 11) hx hb dX4_free_11 (by decide) ?_
    refine V_lcmp_le (tgt := 49) (pc := 12) hx hb dX4_free_12 dX4_free_13 (by decide) (fun c_ => ?_) (fun c_ => ?_)
    · have hrun := ite_t hrun c_
      exact b_X4_free_49 C x0 x1 h23 H locs cells slots ls hH hL (lv_sub hl [0, 1] rfl) hrun
    · have hrun := ite_f hrun c_
      refine V_aload_n (pc := 16) hx hb dX4_free_16 rfl (lv_at hl 1 rfl) ?_
      refine V_aload_n (pc := 17) hx hb dX4_free_17 rfl (lv_at hl 0 rfl) ?_
      obtain ⟨c26, hrun⟩ := gd_some hrun
      refine V_getI (pc := 18) C hH fr_X4_43 dX4_free_18 c26 rfl ?_
      refine V_bd (pc := 21) C hL rfl hrun (fun rr1 e1 => Z_runV (rest := []) C hH (m_X6_age hl9 e1) wV_X4_143 c25 rfl (by decide) rfl rfl ⟨by decide, by decide⟩ rfl (Nat.le_of_ble_eq_true rfl) hl.1 dX4_free_21) (fun v27 h28 H locs cells slots hH hL hrun => ?_)
      refine lv_bipush (v := (18 : Int32)) (pc := 24) hx hb dX4_free_24 (by decide) ?_
      refine lv_icmp_lt (tgt := 49) (pc := 26) hx hb dX4_free_26 (by decide) (fun c_ => ?_) (fun c_ => ?_)
      · have hrun := ite_t hrun c_
        exact b_X4_free_49 C x0 x1 h28 H locs cells slots ls hH hL (lv_sub hl [0, 1] rfl) hrun
      · have hrun := ite_f hrun c_
        refine V_aload_n (pc := 29) hx hb dX4_free_29 rfl (lv_at hl 1 rfl) ?_
        obtain ⟨c29, hrun⟩ := gd_some hrun
        refine V_getL (pc := 30) C hH fr_X4_140 dX4_free_30 c29 rfl ?_
        refine lv_topl (fun v30 ev30 => ?_)
        have hrun := vl_at hrun v30 ev30
        refine lv_lstore_n (i := 2) (lv' := [(2, .long v30), (0, rv x0), (1, rv x1)]) (pc := 33) hx hb dX4_free_33 rfl hl (by decide) (by simp [rv_cat, cat_i, cat_l, cat_f, cat_d]) (fun ls hl => ?_)
        refine V_aload_n (pc := 34) hx hb dX4_free_34 rfl (lv_at hl 2 rfl) ?_
        refine lv_lconst (v := (0 : Int64)) (pc := 35) hx hb dX4_free_35 (by decide) ?_
        refine V_putL (pc := 36) C hH hL fl_X4_140 dX4_free_36 c29 (fok_l _) rfl (fun q => Bool.noConfusion q) hrun (fun h31 H locs hH hL hrun => ?_)
        refine V_aload_n (pc := 39) hx hb dX4_free_39 rfl (lv_at hl 2 rfl) ?_
        refine lv_dup (pc := 40) hx hb dX4_free_40 (rv_cat _) ?_
        obtain ⟨c32, hrun⟩ := gd_some hrun
        refine V_getL (pc := 41) C hH fr_X4_147 dX4_free_41 c32 rfl ?_
        refine lv_lload_n (pc := 44) hx hb dX4_free_44 rfl (lv_at hl 0 rfl) ?_
        refine lv_ladd (pc := 45) hx hb dX4_free_45 ?_
        refine V_putL (pc := 46) C hH hL fl_X4_147 dX4_free_46 c32 (fok_l _) rfl (fun q => Bool.noConfusion q) hrun (fun h33 H locs hH hL hrun => ?_)
        exact b_X4_free_49 C x0 x1 h33 H locs cells slots ls hH hL (lv_sub hl [1, 2] rfl) hrun

theorem m_X4_free {l : Launch} {D : va_G} {Hs : Heap} {h : Hp} {rr : (Unit ⊕ Ex) × Hp} (hl9 : l.stackTraces = false) {x0 : Nat} {x1 : Nat} (hrun : f_X4_free x0 x1 h = some rr) : CM l yX4_free (ws_ yX4_free cX4_free 6 none) 4 64 iV [rv x0, rv x1] D Hs h rr := by
  refine CM.of (lv := [(0, rv x0), (1, rv x1)]) (plainFor_of_name (by decide)) hl9 (by simp [lv_args, rv_cat, cat_i, cat_l, cat_f, cat_d]) (by simp [lg_sl, rv_cat, cat_i, cat_l, cat_f, cat_d]) ?_
  intro p e R s m args below meth c H ls C hH hl hin
  exact b_X4_free C x0 x1 _ H [] _ _ ls hH (fun _ q => nomatch q) (lv_sub hl [0, 1] rfl) hrun

/-! MassclaimModel.goOn(I)I -/
def f_X4_goOn_192 (k41 : Nat → Int32 → Int32 → Hp → Rt Int32) : Nat → Nat → Int32 → Int32 → Int32 → Hp → Rt Int32
  | 0, _, _, _, _, _ => none
  | n + 1, x0, x1, x2, x3, h => gd (kC h x0 = 4) <| gd (kC h (kR h 302 x0) = 18) <| bd (f_J2_size (kR h 302 x0) h) fun v2 h3 => if v2 ≤ x3 then
  (vl (x2 + (1 : Int32)) fun v5 => k41 x0 x1 v5 h3)
  else
  (gd (kC h3 x0 = 4) <| gd (kC h3 (kR h3 302 x0) = 18) <| bd (f_J2_get (kR h3 302 x0) x3 h3) fun v7 h8 => gd (v7 = 0 ∨ kC h8 v7 = 6) <| gd (kC h8 x0 = 4) <| bd (f_X4_free x0 v7 h8) fun _ h12 => vl (x3 + (1 : Int32)) fun v14 => f_X4_goOn_192 k41 n x0 x1 x2 v14 h12)
def f_X4_goOn_181 (k41 : Nat → Int32 → Int32 → Hp → Rt Int32) (k122 : Nat → Int32 → Int32 → Int32 → Hp → Rt Int32) (x0 : Nat) (x1 : Int32) (x2 : Int32) (x3 : Int32) (y0 : Nat) (y1 : Int32) (h : Hp) : Rt Int32 :=
  gd (kC h y0 = 13) <| vl (sI h 1203 y0 y1) fun h16 => vl (x3 + (1 : Int32)) fun v17 => k122 x0 x1 x2 v17 h16
def f_X4_goOn_176 (k41 : Nat → Int32 → Int32 → Hp → Rt Int32) (k122 : Nat → Int32 → Int32 → Int32 → Hp → Rt Int32) (x0 : Nat) (x1 : Int32) (x2 : Int32) (x3 : Int32) (x4 : Nat) (y0 : Nat) (h : Hp) : Rt Int32 :=
  gd (kC h x4 = 13) <| f_X4_goOn_181 k41 k122 x0 x1 x2 x3 y0 (kI h 1203 x4) h
def f_X4_goOn_122 (k41 : Nat → Int32 → Int32 → Hp → Rt Int32) : Nat → Nat → Int32 → Int32 → Int32 → Hp → Rt Int32
  | 0, _, _, _, _, _ => none
  | n + 1, x0, x1, x2, x3, h => gd (kC h x0 = 4) <| gd (kC h (kR h 320 x0) = 18) <| bd (f_J2_size (kR h 320 x0) h) fun v20 h21 => if v20 ≤ x3 then
  (f_X4_goOn_192 k41 FU x0 x1 x2 (0 : Int32) h21)
  else
  (gd (kC h21 x0 = 4) <| gd (kC h21 (kR h21 320 x0) = 18) <| bd (f_J2_get (kR h21 320 x0) x3 h21) fun v24 h25 => gd (v24 = 0 ∨ kC h25 v24 = 13) <| gd (kC h25 v24 = 13) <| if (kI h25 1203 v24) = (1 : Int32) then
  (gd (kC h25 x0 = 4) <| if ((kI h25 301 x0) - (kI h25 1206 v24)) ≤ (90 : Int32) then
  (f_X4_goOn_176 k41 (f_X4_goOn_122 k41 n) x0 x1 x2 x3 v24 v24 h25)
  else
  (f_X4_goOn_181 k41 (f_X4_goOn_122 k41 n) x0 x1 x2 x3 v24 (3 : Int32) h25))
  else
  (f_X4_goOn_176 k41 (f_X4_goOn_122 k41 n) x0 x1 x2 x3 v24 v24 h25))
def f_X4_goOn_100 (k41 : Nat → Int32 → Int32 → Hp → Rt Int32) (k48 : Nat → Int32 → Int32 → Int32 → Hp → Rt Int32) (x0 : Nat) (x1 : Int32) (x2 : Int32) (x3 : Int32) (y0 : Nat) (y1 : Int32) (y2 : Int32) (h : Hp) : Rt Int32 :=
  gd (kC h y0 = 6) <| vl (sI h 511 y0 (y1 + y2)) fun h31 => vl (x3 + (1 : Int32)) fun v32 => k48 x0 x1 x2 v32 h31
def f_X4_goOn_99 (k41 : Nat → Int32 → Int32 → Hp → Rt Int32) (k48 : Nat → Int32 → Int32 → Int32 → Hp → Rt Int32) (x0 : Nat) (x1 : Int32) (x2 : Int32) (x3 : Int32) (y0 : Nat) (y1 : Int32) (h : Hp) : Rt Int32 :=
  f_X4_goOn_100 k41 k48 x0 x1 x2 x3 y0 y1 (0 : Int32) h
def f_X4_goOn_48 (k41 : Nat → Int32 → Int32 → Hp → Rt Int32) : Nat → Nat → Int32 → Int32 → Int32 → Hp → Rt Int32
  | 0, _, _, _, _, _ => none
  | n + 1, x0, x1, x2, x3, h => gd (kC h x0 = 4) <| gd (kC h (kR h 302 x0) = 18) <| bd (f_J2_size (kR h 302 x0) h) fun v34 h35 => if v34 ≤ x3 then
  (gd (kC h35 x0 = 4) <| vl (sI h35 301 x0 ((kI h35 301 x0) + (1 : Int32))) fun h38 => f_X4_goOn_122 k41 FU x0 x1 x2 (0 : Int32) h38)
  else
  (gd (kC h35 x0 = 4) <| gd (kC h35 (kR h35 302 x0) = 18) <| bd (f_J2_get (kR h35 302 x0) x3 h35) fun v40 h41 => gd (v40 = 0 ∨ kC h41 v40 = 6) <| gd (kC h41 v40 = 6) <| if (kI h41 504 v40) ≤ 0 then
  (f_X4_goOn_99 k41 (f_X4_goOn_48 k41 n) x0 x1 x2 x3 v40 (kI h41 511 v40) h41)
  else
  (gd (kC h41 x0 = 4) <| bd (f_X4_isIn x0 v40 h41) fun v45 h46 => if v45 = 0 then
  (f_X4_goOn_100 k41 (f_X4_goOn_48 k41 n) x0 x1 x2 x3 v40 (kI h41 511 v40) (1 : Int32) h46)
  else
  (f_X4_goOn_99 k41 (f_X4_goOn_48 k41 n) x0 x1 x2 x3 v40 (kI h41 511 v40) h46)))
def f_X4_goOn_41  : Nat → Nat → Int32 → Int32 → Hp → Rt Int32
  | 0, _, _, _, _ => none
  | n + 1, x0, x1, x2, h => if x1 ≤ x2 then
  (gd (kC h x0 = 4) <| some (.inl (kI h 301 x0), h))
  else
  (f_X4_goOn_48 (f_X4_goOn_41 n) FU x0 x1 x2 (0 : Int32) h)
def f_X4_goOn_30  (x0 : Nat) (x1 : Int32) (y0 : Nat) (y1 : Int32) (h : Hp) : Rt Int32 :=
  gd (kC h y0 = 4) <| bd (f_X4_isGood y0 y1 (1 : Int32) h) fun v49 h50 => if v49 = 0 then
  (some (.inl (0 : Int32), h50))
  else
  (f_X4_goOn_41 FU x0 x1 (0 : Int32) h50)
def f_X4_goOn_29  (x0 : Nat) (x1 : Int32) (y0 : Nat) (h : Hp) : Rt Int32 :=
  f_X4_goOn_30 x0 x1 y0 (0 : Int32) h
def f_X4_goOn  (x0 : Nat) (x1 : Int32) (h : Hp) : Rt Int32 :=
  bd (f_X4_isWithin (x1.toInt64) (1 : Int64) (400 : Int64) h) fun v52 h53 => if v52 = 0 then
  (f_X4_goOn_29 x0 x1 x0 h53)
  else
  (gd (kC h53 x0 = 4) <| if (20000 : Int32) < ((kI h53 301 x0) + x1) then
  (f_X4_goOn_29 x0 x1 x0 h53)
  else
  (f_X4_goOn_30 x0 x1 x0 (1 : Int32) h53))
theorem b_X4_goOn_192 {rr : (Int32 ⊕ Ex) × Hp} {k41 : Nat → Int32 → Int32 → Hp → Rt Int32} (C : CX p l R s m args meth c D Hs cX4_goOn "MassclaimModel" 5 (some .int) [] 5 89) (K41 : ∀ (x0 : Nat) (x1 : Int32) (x2 : Int32) (h : Hp) (H : Heap) (locs : List Loc) (cells slots : Nat) (ls : Array Slot), HP D Hs h H → LO Hs locs → lv_has ls 5 [(0, rv x0), (1, .int x1), (2, .int x2)] → k41 x0 x1 x2 h = some rr → W p l e R s m args below meth c H locs cells slots (ZM D Hs iI rr below args s) (F0 m 41 ls [])) : ∀ (n : Nat) (x0 : Nat) (x1 : Int32) (x2 : Int32) (x3 : Int32) (h : Hp) (H : Heap) (locs : List Loc) (cells slots : Nat) (ls : Array Slot), HP D Hs h H → LO Hs locs → lv_has ls 5 [(0, rv x0), (1, .int x1), (2, .int x2), (3, .int x3)] → f_X4_goOn_192 k41 n x0 x1 x2 x3 h = some rr → W p l e R s m args below meth c H locs cells slots (ZM D Hs iI rr below args s) (F0 m 192 ls []) := by
  obtain ⟨⟨hx, hb, hml, hown, hts⟩, -⟩ := id C
  have hl9 := C.2.1.2.2.1
  intro n
  induction n with
  | zero =>
    intro x0 x1 x2 x3 h H locs cells slots ls hH hL hl hrun
    cases (show (none : Option _) = some rr from hrun)
  | succ n ih =>
    intro x0 x1 x2 x3 h H locs cells slots ls hH hL hl hrun
    rw [f_X4_goOn_192] at hrun
    refine lv_iload_n (pc := 192) hx hb dX4_goOn_192 rfl (lv_at hl 3 rfl) ?_
    refine V_aload_n (pc := 193) hx hb dX4_goOn_193 rfl (lv_at hl 0 rfl) ?_
    obtain ⟨c1, hrun⟩ := gd_some hrun
    refine V_getR (pc := 194) C hH fr_X4_16 dX4_goOn_194 c1 rfl ?_
    obtain ⟨c4, hrun⟩ := gd_some hrun
    refine V_bd (pc := 197) C hL rfl hrun (fun rr1 e1 => Z_runV (rest := [.int x3]) C hH (m_J2_size hl9 e1) wV_X4_94 c4 rfl (by decide) rfl rfl ⟨by decide, by decide⟩ rfl (Nat.le_of_ble_eq_true rfl) hl.1 dX4_goOn_197) (fun v2 h3 H locs cells slots hH hL hrun => ?_)
    refine lv_icmp_ge (tgt := 224) (pc := 200) hx hb dX4_goOn_200 (by decide) (fun c_ => ?_) (fun c_ => ?_)
    · have hrun := ite_t hrun c_
      obtain ⟨v5, ev5⟩ : ∃ y : Int32, y = x2 + (1 : Int32) := ⟨_, rfl⟩
      have hrun := vl_at hrun v5 ev5
      refine lv_iinc (v := v5) (lv' := [(2, .int v5), (0, rv x0), (1, .int x1), (3, .int x3)]) (pc := 224) hx hb dX4_goOn_224 hl (k := 2) rfl (by rw [ev5]; rfl) (by decide) (by first | rfl | simp [rv_cat, cat_i, cat_l, cat_f, cat_d]) (fun ls hl => ?_)
      refine lv_goto (tgt := 41) (pc := 227) hx hb dX4_goOn_227 (by decide) ?_
      exact K41 x0 x1 v5 h3 H locs cells slots ls hH hL (lv_sub hl [1, 2, 0] rfl) hrun
    · have hrun := ite_f hrun c_
      refine V_aload_n (pc := 203) hx hb dX4_goOn_203 rfl (lv_at hl 0 rfl) ?_
      refine V_aload_n (pc := 204) hx hb dX4_goOn_204 rfl (lv_at hl 0 rfl) ?_
      obtain ⟨c6, hrun⟩ := gd_some hrun
      refine V_getR (pc := 205) C hH fr_X4_16 dX4_goOn_205 c6 rfl ?_
      refine lv_iload_n (pc := 208) hx hb dX4_goOn_208 rfl (lv_at hl 3 rfl) ?_
      obtain ⟨c9, hrun⟩ := gd_some hrun
      refine V_bd (pc := 209) C hL rfl hrun (fun rr1 e1 => Z_runV (rest := [rv x0]) C hH (m_J2_get hl9 e1) wV_X4_108 c9 rfl (by decide) rfl rfl ⟨by decide, by decide⟩ rfl (by simp [csum, rv_cat, cat_i, cat_l, cat_f, cat_d]) hl.1 dX4_goOn_209) (fun v7 h8 H locs cells slots hH hL hrun => ?_)
      obtain ⟨c10, hrun⟩ := gd_some hrun
      refine V_castX (pc := 212) (ci := 5) C hH rfl (by decide) q1946 dX4_goOn_212 c10 ?_
      obtain ⟨c13, hrun⟩ := gd_some hrun
      refine V_bd (pc := 215) C hL rfl hrun (fun rr1 e1 => Z_runV (rest := []) C hH (m_X4_free hl9 e1) wV_X4_132 c13 rfl (by decide) rfl rfl ⟨by decide, by decide⟩ rfl (Nat.le_of_ble_eq_true rfl) hl.1 dX4_goOn_215) (fun _ h12 H locs cells slots hH hL hrun => ?_)
      obtain ⟨v14, ev14⟩ : ∃ y : Int32, y = x3 + (1 : Int32) := ⟨_, rfl⟩
      have hrun := vl_at hrun v14 ev14
      refine lv_iinc (v := v14) (lv' := [(3, .int v14), (0, rv x0), (1, .int x1), (2, .int x2)]) (pc := 218) hx hb dX4_goOn_218 hl (k := 3) rfl (by rw [ev14]; rfl) (by decide) (by first | rfl | simp [rv_cat, cat_i, cat_l, cat_f, cat_d]) (fun ls hl => ?_)
      refine lv_goto (tgt := 192) (pc := 221) hx hb dX4_goOn_221 (by decide) ?_
      exact ih x0 x1 x2 v14 h12 H locs cells slots ls hH hL (lv_sub hl [1, 2, 3, 0] rfl) hrun

theorem b_X4_goOn_181 {rr : (Int32 ⊕ Ex) × Hp} {k41 : Nat → Int32 → Int32 → Hp → Rt Int32} {k122 : Nat → Int32 → Int32 → Int32 → Hp → Rt Int32} (C : CX p l R s m args meth c D Hs cX4_goOn "MassclaimModel" 5 (some .int) [] 5 89) (K41 : ∀ (x0 : Nat) (x1 : Int32) (x2 : Int32) (h : Hp) (H : Heap) (locs : List Loc) (cells slots : Nat) (ls : Array Slot), HP D Hs h H → LO Hs locs → lv_has ls 5 [(0, rv x0), (1, .int x1), (2, .int x2)] → k41 x0 x1 x2 h = some rr → W p l e R s m args below meth c H locs cells slots (ZM D Hs iI rr below args s) (F0 m 41 ls [])) (K122 : ∀ (x0 : Nat) (x1 : Int32) (x2 : Int32) (x3 : Int32) (h : Hp) (H : Heap) (locs : List Loc) (cells slots : Nat) (ls : Array Slot), HP D Hs h H → LO Hs locs → lv_has ls 5 [(0, rv x0), (1, .int x1), (2, .int x2), (3, .int x3)] → k122 x0 x1 x2 x3 h = some rr → W p l e R s m args below meth c H locs cells slots (ZM D Hs iI rr below args s) (F0 m 122 ls [])) : ∀ (x0 : Nat) (x1 : Int32) (x2 : Int32) (x3 : Int32) (y0 : Nat) (y1 : Int32) (h : Hp) (H : Heap) (locs : List Loc) (cells slots : Nat) (ls : Array Slot), HP D Hs h H → LO Hs locs → lv_has ls 5 [(0, rv x0), (1, .int x1), (2, .int x2), (3, .int x3)] → f_X4_goOn_181 k41 k122 x0 x1 x2 x3 y0 y1 h = some rr → W p l e R s m args below meth c H locs cells slots (ZM D Hs iI rr below args s) (F0 m 181 ls [.int y1, rv y0]) := by
  obtain ⟨⟨hx, hb, hml, hown, hts⟩, -⟩ := id C
  have hl9 := C.2.1.2.2.1
  intro x0 x1 x2 x3 y0 y1 h H locs cells slots ls hH hL hl hrun
  unfold f_X4_goOn_181 at hrun
  obtain ⟨c15, hrun⟩ := gd_some hrun
  refine V_putI (pc := 181) C hH hL fl_X4_126 dX4_goOn_181 c15 (fok_i _) rfl (fun q => Bool.noConfusion q) hrun (fun h16 H locs hH hL hrun => ?_)
  obtain ⟨v17, ev17⟩ : ∃ y : Int32, y = x3 + (1 : Int32) := ⟨_, rfl⟩
  have hrun := vl_at hrun v17 ev17
  refine lv_iinc (v := v17) (lv' := [(3, .int v17), (0, rv x0), (1, .int x1), (2, .int x2)]) (pc := 184) hx hb dX4_goOn_184 hl (k := 3) rfl (by rw [ev17]; rfl) (by decide) (by first | rfl | simp [rv_cat, cat_i, cat_l, cat_f, cat_d]) (fun ls hl => ?_)
  refine lv_goto (tgt := 122) (pc := 187) hx hb dX4_goOn_187 (by decide) ?_
  exact K122 x0 x1 x2 v17 h16 H locs cells slots ls hH hL (lv_sub hl [1, 2, 3, 0] rfl) hrun

theorem b_X4_goOn_176 {rr : (Int32 ⊕ Ex) × Hp} {k41 : Nat → Int32 → Int32 → Hp → Rt Int32} {k122 : Nat → Int32 → Int32 → Int32 → Hp → Rt Int32} (C : CX p l R s m args meth c D Hs cX4_goOn "MassclaimModel" 5 (some .int) [] 5 89) (K41 : ∀ (x0 : Nat) (x1 : Int32) (x2 : Int32) (h : Hp) (H : Heap) (locs : List Loc) (cells slots : Nat) (ls : Array Slot), HP D Hs h H → LO Hs locs → lv_has ls 5 [(0, rv x0), (1, .int x1), (2, .int x2)] → k41 x0 x1 x2 h = some rr → W p l e R s m args below meth c H locs cells slots (ZM D Hs iI rr below args s) (F0 m 41 ls [])) (K122 : ∀ (x0 : Nat) (x1 : Int32) (x2 : Int32) (x3 : Int32) (h : Hp) (H : Heap) (locs : List Loc) (cells slots : Nat) (ls : Array Slot), HP D Hs h H → LO Hs locs → lv_has ls 5 [(0, rv x0), (1, .int x1), (2, .int x2), (3, .int x3)] → k122 x0 x1 x2 x3 h = some rr → W p l e R s m args below meth c H locs cells slots (ZM D Hs iI rr below args s) (F0 m 122 ls [])) : ∀ (x0 : Nat) (x1 : Int32) (x2 : Int32) (x3 : Int32) (x4 : Nat) (y0 : Nat) (h : Hp) (H : Heap) (locs : List Loc) (cells slots : Nat) (ls : Array Slot), HP D Hs h H → LO Hs locs → lv_has ls 5 [(0, rv x0), (1, .int x1), (2, .int x2), (3, .int x3), (4, rv x4)] → f_X4_goOn_176 k41 k122 x0 x1 x2 x3 x4 y0 h = some rr → W p l e R s m args below meth c H locs cells slots (ZM D Hs iI rr below args s) (F0 m 176 ls [rv y0]) := by
  obtain ⟨⟨hx, hb, hml, hown, hts⟩, -⟩ := id C
  have hl9 := C.2.1.2.2.1
  intro x0 x1 x2 x3 x4 y0 h H locs cells slots ls hH hL hl hrun
  unfold f_X4_goOn_176 at hrun
  refine V_aload (pc := 176) hx hb dX4_goOn_176 (lv_at hl 4 rfl) ?_
  obtain ⟨c18, hrun⟩ := gd_some hrun
  refine V_getI (pc := 178) C hH fr_X4_126 dX4_goOn_178 c18 rfl ?_
  exact b_X4_goOn_181 C K41 K122 x0 x1 x2 x3 y0 (kI h 1203 x4) h H locs cells slots ls hH hL (lv_sub hl [0, 1, 2, 3] rfl) hrun

theorem b_X4_goOn_122 {rr : (Int32 ⊕ Ex) × Hp} {k41 : Nat → Int32 → Int32 → Hp → Rt Int32} (C : CX p l R s m args meth c D Hs cX4_goOn "MassclaimModel" 5 (some .int) [] 5 89) (K41 : ∀ (x0 : Nat) (x1 : Int32) (x2 : Int32) (h : Hp) (H : Heap) (locs : List Loc) (cells slots : Nat) (ls : Array Slot), HP D Hs h H → LO Hs locs → lv_has ls 5 [(0, rv x0), (1, .int x1), (2, .int x2)] → k41 x0 x1 x2 h = some rr → W p l e R s m args below meth c H locs cells slots (ZM D Hs iI rr below args s) (F0 m 41 ls [])) : ∀ (n : Nat) (x0 : Nat) (x1 : Int32) (x2 : Int32) (x3 : Int32) (h : Hp) (H : Heap) (locs : List Loc) (cells slots : Nat) (ls : Array Slot), HP D Hs h H → LO Hs locs → lv_has ls 5 [(0, rv x0), (1, .int x1), (2, .int x2), (3, .int x3)] → f_X4_goOn_122 k41 n x0 x1 x2 x3 h = some rr → W p l e R s m args below meth c H locs cells slots (ZM D Hs iI rr below args s) (F0 m 122 ls []) := by
  obtain ⟨⟨hx, hb, hml, hown, hts⟩, -⟩ := id C
  have hl9 := C.2.1.2.2.1
  intro n
  induction n with
  | zero =>
    intro x0 x1 x2 x3 h H locs cells slots ls hH hL hl hrun
    cases (show (none : Option _) = some rr from hrun)
  | succ n ih =>
    intro x0 x1 x2 x3 h H locs cells slots ls hH hL hl hrun
    rw [f_X4_goOn_122] at hrun
    refine lv_iload_n (pc := 122) hx hb dX4_goOn_122 rfl (lv_at hl 3 rfl) ?_
    refine V_aload_n (pc := 123) hx hb dX4_goOn_123 rfl (lv_at hl 0 rfl) ?_
    obtain ⟨c19, hrun⟩ := gd_some hrun
    refine V_getR (pc := 124) C hH fr_X4_30 dX4_goOn_124 c19 rfl ?_
    obtain ⟨c22, hrun⟩ := gd_some hrun
    refine V_bd (pc := 127) C hL rfl hrun (fun rr1 e1 => Z_runV (rest := [.int x3]) C hH (m_J2_size hl9 e1) wV_X4_94 c22 rfl (by decide) rfl rfl ⟨by decide, by decide⟩ rfl (Nat.le_of_ble_eq_true rfl) hl.1 dX4_goOn_127) (fun v20 h21 H locs cells slots hH hL hrun => ?_)
    refine lv_icmp_ge (tgt := 190) (pc := 130) hx hb dX4_goOn_130 (by decide) (fun c_ => ?_) (fun c_ => ?_)
    · have hrun := ite_t hrun c_
      refine lv_iconst (v := (0 : Int32)) (pc := 190) hx hb dX4_goOn_190 (by decide) ?_
      refine lv_istore_n (i := 3) (lv' := [(3, .int (0 : Int32)), (0, rv x0), (1, .int x1), (2, .int x2)]) (pc := 191) hx hb dX4_goOn_191 rfl hl (by decide) rfl (fun ls hl => ?_)
      exact b_X4_goOn_192 C K41 FU x0 x1 x2 (0 : Int32) h21 H locs cells slots ls hH hL (lv_sub hl [1, 2, 3, 0] rfl) hrun
    · have hrun := ite_f hrun c_
      refine V_aload_n (pc := 133) hx hb dX4_goOn_133 rfl (lv_at hl 0 rfl) ?_
      obtain ⟨c23, hrun⟩ := gd_some hrun
      refine V_getR (pc := 134) C hH fr_X4_30 dX4_goOn_134 c23 rfl ?_
      refine lv_iload_n (pc := 137) hx hb dX4_goOn_137 rfl (lv_at hl 3 rfl) ?_
      obtain ⟨c26, hrun⟩ := gd_some hrun
      refine V_bd (pc := 138) C hL rfl hrun (fun rr1 e1 => Z_runV (rest := []) C hH (m_J2_get hl9 e1) wV_X4_108 c26 rfl (by decide) rfl rfl ⟨by decide, by decide⟩ rfl (Nat.le_of_ble_eq_true rfl) hl.1 dX4_goOn_138) (fun v24 h25 H locs cells slots hH hL hrun => ?_)
      obtain ⟨c27, hrun⟩ := gd_some hrun
      refine V_castX (pc := 141) (ci := 12) C hH rfl (by decide) q1955 dX4_goOn_141 c27 ?_
      refine V_astore (i := 4) (lv' := [(4, rv v24), (0, rv x0), (1, .int x1), (2, .int x2), (3, .int x3)]) (pc := 144) hx hb dX4_goOn_144 hl (by decide) rfl (fun ls hl => ?_)
      refine V_aload (pc := 146) hx hb dX4_goOn_146 (lv_at hl 0 rfl) ?_
      refine V_aload (pc := 148) hx hb dX4_goOn_148 (lv_at hl 0 rfl) ?_
      obtain ⟨c28, hrun⟩ := gd_some hrun
      refine V_getI (pc := 150) C hH fr_X4_126 dX4_goOn_150 c28 rfl ?_
      refine lv_iconst (v := (1 : Int32)) (pc := 153) hx hb dX4_goOn_153 (by decide) ?_
      refine lv_icmp_ne (tgt := 176) (pc := 154) hx hb dX4_goOn_154 (by decide) (fun c_ => ?_) (fun c_ => ?_)
      · have hrun := ite_f hrun c_
        exact b_X4_goOn_176 C K41 ih x0 x1 x2 x3 v24 v24 h25 H locs cells slots ls hH hL (lv_sub hl [1, 2, 3, 4, 0] rfl) hrun
      · have hrun := ite_t hrun c_
        refine V_aload_n (pc := 157) hx hb dX4_goOn_157 rfl (lv_at hl 1 rfl) ?_
        obtain ⟨c29, hrun⟩ := gd_some hrun
        refine V_getI (pc := 158) C hH fr_X4_43 dX4_goOn_158 c29 rfl ?_
        refine V_aload (pc := 161) hx hb dX4_goOn_161 (lv_at hl 0 rfl) ?_
        refine V_getI (pc := 163) C hH fr_X4_129 dX4_goOn_163 c28 rfl ?_
        refine lv_isub (pc := 166) hx hb dX4_goOn_166 ?_
        refine lv_bipush (v := (90 : Int32)) (pc := 167) hx hb dX4_goOn_167 (by decide) ?_
        refine lv_icmp_le (tgt := 176) (pc := 169) hx hb dX4_goOn_169 (by decide) (fun c_ => ?_) (fun c_ => ?_)
        · have hrun := ite_t hrun c_
          exact b_X4_goOn_176 C K41 ih x0 x1 x2 x3 v24 v24 h25 H locs cells slots ls hH hL (lv_sub hl [1, 2, 3, 4, 0] rfl) hrun
        · have hrun := ite_f hrun c_
          refine lv_iconst (v := (3 : Int32)) (pc := 172) hx hb dX4_goOn_172 (by decide) ?_
          refine lv_goto (tgt := 181) (pc := 173) hx hb dX4_goOn_173 (by decide) ?_
          exact b_X4_goOn_181 C K41 ih x0 x1 x2 x3 v24 (3 : Int32) h25 H locs cells slots ls hH hL (lv_sub hl [1, 2, 3, 4] rfl) hrun

theorem b_X4_goOn_100 {rr : (Int32 ⊕ Ex) × Hp} {k41 : Nat → Int32 → Int32 → Hp → Rt Int32} {k48 : Nat → Int32 → Int32 → Int32 → Hp → Rt Int32} (C : CX p l R s m args meth c D Hs cX4_goOn "MassclaimModel" 5 (some .int) [] 5 89) (K41 : ∀ (x0 : Nat) (x1 : Int32) (x2 : Int32) (h : Hp) (H : Heap) (locs : List Loc) (cells slots : Nat) (ls : Array Slot), HP D Hs h H → LO Hs locs → lv_has ls 5 [(0, rv x0), (1, .int x1), (2, .int x2)] → k41 x0 x1 x2 h = some rr → W p l e R s m args below meth c H locs cells slots (ZM D Hs iI rr below args s) (F0 m 41 ls [])) (K48 : ∀ (x0 : Nat) (x1 : Int32) (x2 : Int32) (x3 : Int32) (h : Hp) (H : Heap) (locs : List Loc) (cells slots : Nat) (ls : Array Slot), HP D Hs h H → LO Hs locs → lv_has ls 5 [(0, rv x0), (1, .int x1), (2, .int x2), (3, .int x3)] → k48 x0 x1 x2 x3 h = some rr → W p l e R s m args below meth c H locs cells slots (ZM D Hs iI rr below args s) (F0 m 48 ls [])) : ∀ (x0 : Nat) (x1 : Int32) (x2 : Int32) (x3 : Int32) (y0 : Nat) (y1 : Int32) (y2 : Int32) (h : Hp) (H : Heap) (locs : List Loc) (cells slots : Nat) (ls : Array Slot), HP D Hs h H → LO Hs locs → lv_has ls 5 [(0, rv x0), (1, .int x1), (2, .int x2), (3, .int x3)] → f_X4_goOn_100 k41 k48 x0 x1 x2 x3 y0 y1 y2 h = some rr → W p l e R s m args below meth c H locs cells slots (ZM D Hs iI rr below args s) (F0 m 100 ls [.int y2, .int y1, rv y0]) := by
  obtain ⟨⟨hx, hb, hml, hown, hts⟩, -⟩ := id C
  have hl9 := C.2.1.2.2.1
  intro x0 x1 x2 x3 y0 y1 y2 h H locs cells slots ls hH hL hl hrun
  unfold f_X4_goOn_100 at hrun
  refine lv_iadd (pc := 100) hx hb dX4_goOn_100 ?_
  obtain ⟨c30, hrun⟩ := gd_some hrun
  refine V_putI (pc := 101) C hH hL fl_X4_114 dX4_goOn_101 c30 (fok_i _) rfl (fun q => Bool.noConfusion q) hrun (fun h31 H locs hH hL hrun => ?_)
  obtain ⟨v32, ev32⟩ : ∃ y : Int32, y = x3 + (1 : Int32) := ⟨_, rfl⟩
  have hrun := vl_at hrun v32 ev32
  refine lv_iinc (v := v32) (lv' := [(3, .int v32), (0, rv x0), (1, .int x1), (2, .int x2)]) (pc := 104) hx hb dX4_goOn_104 hl (k := 3) rfl (by rw [ev32]; rfl) (by decide) (by first | rfl | simp [rv_cat, cat_i, cat_l, cat_f, cat_d]) (fun ls hl => ?_)
  refine lv_goto (tgt := 48) (pc := 107) hx hb dX4_goOn_107 (by decide) ?_
  exact K48 x0 x1 x2 v32 h31 H locs cells slots ls hH hL (lv_sub hl [1, 2, 3, 0] rfl) hrun

theorem b_X4_goOn_99 {rr : (Int32 ⊕ Ex) × Hp} {k41 : Nat → Int32 → Int32 → Hp → Rt Int32} {k48 : Nat → Int32 → Int32 → Int32 → Hp → Rt Int32} (C : CX p l R s m args meth c D Hs cX4_goOn "MassclaimModel" 5 (some .int) [] 5 89) (K41 : ∀ (x0 : Nat) (x1 : Int32) (x2 : Int32) (h : Hp) (H : Heap) (locs : List Loc) (cells slots : Nat) (ls : Array Slot), HP D Hs h H → LO Hs locs → lv_has ls 5 [(0, rv x0), (1, .int x1), (2, .int x2)] → k41 x0 x1 x2 h = some rr → W p l e R s m args below meth c H locs cells slots (ZM D Hs iI rr below args s) (F0 m 41 ls [])) (K48 : ∀ (x0 : Nat) (x1 : Int32) (x2 : Int32) (x3 : Int32) (h : Hp) (H : Heap) (locs : List Loc) (cells slots : Nat) (ls : Array Slot), HP D Hs h H → LO Hs locs → lv_has ls 5 [(0, rv x0), (1, .int x1), (2, .int x2), (3, .int x3)] → k48 x0 x1 x2 x3 h = some rr → W p l e R s m args below meth c H locs cells slots (ZM D Hs iI rr below args s) (F0 m 48 ls [])) : ∀ (x0 : Nat) (x1 : Int32) (x2 : Int32) (x3 : Int32) (y0 : Nat) (y1 : Int32) (h : Hp) (H : Heap) (locs : List Loc) (cells slots : Nat) (ls : Array Slot), HP D Hs h H → LO Hs locs → lv_has ls 5 [(0, rv x0), (1, .int x1), (2, .int x2), (3, .int x3)] → f_X4_goOn_99 k41 k48 x0 x1 x2 x3 y0 y1 h = some rr → W p l e R s m args below meth c H locs cells slots (ZM D Hs iI rr below args s) (F0 m 99 ls [.int y1, rv y0]) := by
  obtain ⟨⟨hx, hb, hml, hown, hts⟩, -⟩ := id C
  have hl9 := C.2.1.2.2.1
  intro x0 x1 x2 x3 y0 y1 h H locs cells slots ls hH hL hl hrun
  unfold f_X4_goOn_99 at hrun
  refine lv_iconst (v := (0 : Int32)) (pc := 99) hx hb dX4_goOn_99 (by decide) ?_
  exact b_X4_goOn_100 C K41 K48 x0 x1 x2 x3 y0 y1 (0 : Int32) h H locs cells slots ls hH hL (lv_sub hl [0, 1, 2, 3] rfl) hrun

theorem b_X4_goOn_48 {rr : (Int32 ⊕ Ex) × Hp} {k41 : Nat → Int32 → Int32 → Hp → Rt Int32} (C : CX p l R s m args meth c D Hs cX4_goOn "MassclaimModel" 5 (some .int) [] 5 89) (K41 : ∀ (x0 : Nat) (x1 : Int32) (x2 : Int32) (h : Hp) (H : Heap) (locs : List Loc) (cells slots : Nat) (ls : Array Slot), HP D Hs h H → LO Hs locs → lv_has ls 5 [(0, rv x0), (1, .int x1), (2, .int x2)] → k41 x0 x1 x2 h = some rr → W p l e R s m args below meth c H locs cells slots (ZM D Hs iI rr below args s) (F0 m 41 ls [])) : ∀ (n : Nat) (x0 : Nat) (x1 : Int32) (x2 : Int32) (x3 : Int32) (h : Hp) (H : Heap) (locs : List Loc) (cells slots : Nat) (ls : Array Slot), HP D Hs h H → LO Hs locs → lv_has ls 5 [(0, rv x0), (1, .int x1), (2, .int x2), (3, .int x3)] → f_X4_goOn_48 k41 n x0 x1 x2 x3 h = some rr → W p l e R s m args below meth c H locs cells slots (ZM D Hs iI rr below args s) (F0 m 48 ls []) := by
  obtain ⟨⟨hx, hb, hml, hown, hts⟩, -⟩ := id C
  have hl9 := C.2.1.2.2.1
  intro n
  induction n with
  | zero =>
    intro x0 x1 x2 x3 h H locs cells slots ls hH hL hl hrun
    cases (show (none : Option _) = some rr from hrun)
  | succ n ih =>
    intro x0 x1 x2 x3 h H locs cells slots ls hH hL hl hrun
    rw [f_X4_goOn_48] at hrun
    refine lv_iload_n (pc := 48) hx hb dX4_goOn_48 rfl (lv_at hl 3 rfl) ?_
    refine V_aload_n (pc := 49) hx hb dX4_goOn_49 rfl (lv_at hl 0 rfl) ?_
    obtain ⟨c33, hrun⟩ := gd_some hrun
    refine V_getR (pc := 50) C hH fr_X4_16 dX4_goOn_50 c33 rfl ?_
    obtain ⟨c36, hrun⟩ := gd_some hrun
    refine V_bd (pc := 53) C hL rfl hrun (fun rr1 e1 => Z_runV (rest := [.int x3]) C hH (m_J2_size hl9 e1) wV_X4_94 c36 rfl (by decide) rfl rfl ⟨by decide, by decide⟩ rfl (Nat.le_of_ble_eq_true rfl) hl.1 dX4_goOn_53) (fun v34 h35 H locs cells slots hH hL hrun => ?_)
    refine lv_icmp_ge (tgt := 110) (pc := 56) hx hb dX4_goOn_56 (by decide) (fun c_ => ?_) (fun c_ => ?_)
    · have hrun := ite_t hrun c_
      refine V_aload_n (pc := 110) hx hb dX4_goOn_110 rfl (lv_at hl 0 rfl) ?_
      refine lv_dup (pc := 111) hx hb dX4_goOn_111 (rv_cat _) ?_
      obtain ⟨c37, hrun⟩ := gd_some hrun
      refine V_getI (pc := 112) C hH fr_X4_43 dX4_goOn_112 c37 rfl ?_
      refine lv_iconst (v := (1 : Int32)) (pc := 115) hx hb dX4_goOn_115 (by decide) ?_
      refine lv_iadd (pc := 116) hx hb dX4_goOn_116 ?_
      refine V_putI (pc := 117) C hH hL fl_X4_43 dX4_goOn_117 c37 (fok_i _) rfl (fun q => Bool.noConfusion q) hrun (fun h38 H locs hH hL hrun => ?_)
      refine lv_iconst (v := (0 : Int32)) (pc := 120) hx hb dX4_goOn_120 (by decide) ?_
      refine lv_istore_n (i := 3) (lv' := [(3, .int (0 : Int32)), (0, rv x0), (1, .int x1), (2, .int x2)]) (pc := 121) hx hb dX4_goOn_121 rfl hl (by decide) rfl (fun ls hl => ?_)
      exact b_X4_goOn_122 C K41 FU x0 x1 x2 (0 : Int32) h38 H locs cells slots ls hH hL (lv_sub hl [1, 2, 3, 0] rfl) hrun
    · have hrun := ite_f hrun c_
      refine V_aload_n (pc := 59) hx hb dX4_goOn_59 rfl (lv_at hl 0 rfl) ?_
      obtain ⟨c39, hrun⟩ := gd_some hrun
      refine V_getR (pc := 60) C hH fr_X4_16 dX4_goOn_60 c39 rfl ?_
      refine lv_iload_n (pc := 63) hx hb dX4_goOn_63 rfl (lv_at hl 3 rfl) ?_
      obtain ⟨c42, hrun⟩ := gd_some hrun
      refine V_bd (pc := 64) C hL rfl hrun (fun rr1 e1 => Z_runV (rest := []) C hH (m_J2_get hl9 e1) wV_X4_108 c42 rfl (by decide) rfl rfl ⟨by decide, by decide⟩ rfl (Nat.le_of_ble_eq_true rfl) hl.1 dX4_goOn_64) (fun v40 h41 H locs cells slots hH hL hrun => ?_)
      obtain ⟨c43, hrun⟩ := gd_some hrun
      refine V_castX (pc := 67) (ci := 5) C hH rfl (by decide) q1946 dX4_goOn_67 c43 ?_
      refine V_astore (i := 4) (lv' := [(4, rv v40), (0, rv x0), (1, .int x1), (2, .int x2), (3, .int x3)]) (pc := 70) hx hb dX4_goOn_70 hl (by decide) rfl (fun ls hl => ?_)
      refine V_aload (pc := 72) hx hb dX4_goOn_72 (lv_at hl 0 rfl) ?_
      refine lv_dup (pc := 74) hx hb dX4_goOn_74 (rv_cat _) ?_
      obtain ⟨c44, hrun⟩ := gd_some hrun
      refine V_getI (pc := 75) C hH fr_X4_114 dX4_goOn_75 c44 rfl ?_
      refine V_aload (pc := 78) hx hb dX4_goOn_78 (lv_at hl 0 rfl) ?_
      refine V_getI (pc := 80) C hH fr_X4_117 dX4_goOn_80 c44 rfl ?_
      refine lv_if_le (tgt := 99) (pc := 83) hx hb dX4_goOn_83 (by decide) (fun c_ => ?_) (fun c_ => ?_)
      · have hrun := ite_t hrun c_
        exact b_X4_goOn_99 C K41 ih x0 x1 x2 x3 v40 (kI h41 511 v40) h41 H locs cells slots ls hH hL (lv_sub hl [1, 2, 3, 4] rfl) hrun
      · have hrun := ite_f hrun c_
        refine V_aload_n (pc := 86) hx hb dX4_goOn_86 rfl (lv_at hl 1 rfl) ?_
        refine V_aload (pc := 87) hx hb dX4_goOn_87 (lv_at hl 0 rfl) ?_
        obtain ⟨c47, hrun⟩ := gd_some hrun
        refine V_bd (pc := 89) C hL rfl hrun (fun rr1 e1 => Z_runV (rest := [.int (kI h41 511 v40), rv v40]) C hH (m_X4_isIn hl9 e1) wV_X4_120 c47 rfl (by decide) rfl rfl ⟨by decide, by decide⟩ rfl (by simp [csum, rv_cat, cat_i, cat_l, cat_f, cat_d]) hl.1 dX4_goOn_89) (fun v45 h46 H locs cells slots hH hL hrun => ?_)
        refine lv_if_ne (tgt := 99) (pc := 92) hx hb dX4_goOn_92 (by decide) (fun c_ => ?_) (fun c_ => ?_)
        · have hrun := ite_f hrun c_
          exact b_X4_goOn_99 C K41 ih x0 x1 x2 x3 v40 (kI h41 511 v40) h46 H locs cells slots ls hH hL (lv_sub hl [1, 2, 3, 4] rfl) hrun
        · have hrun := ite_t hrun c_
          refine lv_iconst (v := (1 : Int32)) (pc := 95) hx hb dX4_goOn_95 (by decide) ?_
          refine lv_goto (tgt := 100) (pc := 96) hx hb dX4_goOn_96 (by decide) ?_
          exact b_X4_goOn_100 C K41 ih x0 x1 x2 x3 v40 (kI h41 511 v40) (1 : Int32) h46 H locs cells slots ls hH hL (lv_sub hl [1, 2, 3, 4] rfl) hrun

theorem b_X4_goOn_41 {rr : (Int32 ⊕ Ex) × Hp}  (C : CX p l R s m args meth c D Hs cX4_goOn "MassclaimModel" 5 (some .int) [] 5 89)  : ∀ (n : Nat) (x0 : Nat) (x1 : Int32) (x2 : Int32) (h : Hp) (H : Heap) (locs : List Loc) (cells slots : Nat) (ls : Array Slot), HP D Hs h H → LO Hs locs → lv_has ls 5 [(0, rv x0), (1, .int x1), (2, .int x2)] → f_X4_goOn_41 n x0 x1 x2 h = some rr → W p l e R s m args below meth c H locs cells slots (ZM D Hs iI rr below args s) (F0 m 41 ls []) := by
  obtain ⟨⟨hx, hb, hml, hown, hts⟩, -⟩ := id C
  have hl9 := C.2.1.2.2.1
  intro n
  induction n with
  | zero =>
    intro x0 x1 x2 h H locs cells slots ls hH hL hl hrun
    cases (show (none : Option _) = some rr from hrun)
  | succ n ih =>
    intro x0 x1 x2 h H locs cells slots ls hH hL hl hrun
    rw [f_X4_goOn_41] at hrun
    refine lv_iload_n (pc := 41) hx hb dX4_goOn_41 rfl (lv_at hl 2 rfl) ?_
    refine lv_iload_n (pc := 42) hx hb dX4_goOn_42 rfl (lv_at hl 1 rfl) ?_
    refine lv_icmp_ge (tgt := 230) (pc := 43) hx hb dX4_goOn_43 (by decide) (fun c_ => ?_) (fun c_ => ?_)
    · have hrun := ite_t hrun c_
      refine V_aload_n (pc := 230) hx hb dX4_goOn_230 rfl (lv_at hl 0 rfl) ?_
      obtain ⟨c48, hrun⟩ := gd_some hrun
      refine V_getI (pc := 231) C hH fr_X4_43 dX4_goOn_231 c48 rfl ?_
      exact V_iret (pc := 234) C hH hL hrun dX4_goOn_234
    · have hrun := ite_f hrun c_
      refine lv_iconst (v := (0 : Int32)) (pc := 46) hx hb dX4_goOn_46 (by decide) ?_
      refine lv_istore_n (i := 3) (lv' := [(3, .int (0 : Int32)), (0, rv x0), (1, .int x1), (2, .int x2)]) (pc := 47) hx hb dX4_goOn_47 rfl hl (by decide) rfl (fun ls hl => ?_)
      exact b_X4_goOn_48 C ih FU x0 x1 x2 (0 : Int32) h H locs cells slots ls hH hL (lv_sub hl [1, 2, 3, 0] rfl) hrun

theorem b_X4_goOn_30 {rr : (Int32 ⊕ Ex) × Hp}  (C : CX p l R s m args meth c D Hs cX4_goOn "MassclaimModel" 5 (some .int) [] 5 89)  : ∀ (x0 : Nat) (x1 : Int32) (y0 : Nat) (y1 : Int32) (h : Hp) (H : Heap) (locs : List Loc) (cells slots : Nat) (ls : Array Slot), HP D Hs h H → LO Hs locs → lv_has ls 5 [(0, rv x0), (1, .int x1)] → f_X4_goOn_30 x0 x1 y0 y1 h = some rr → W p l e R s m args below meth c H locs cells slots (ZM D Hs iI rr below args s) (F0 m 30 ls [.int y1, rv y0]) := by
  obtain ⟨⟨hx, hb, hml, hown, hts⟩, -⟩ := id C
  have hl9 := C.2.1.2.2.1
  intro x0 x1 y0 y1 h H locs cells slots ls hH hL hl hrun
  unfold f_X4_goOn_30 at hrun
  refine lv_iconst (v := (1 : Int32)) (pc := 30) hx hb dX4_goOn_30 (by decide) ?_
  obtain ⟨c51, hrun⟩ := gd_some hrun
  refine V_bd (pc := 31) C hL rfl hrun (fun rr1 e1 => Z_runV (rest := []) C hH (m_X4_isGood hl9 e1) wV_X4_104 c51 rfl (by decide) rfl rfl ⟨by decide, by decide⟩ rfl (Nat.le_of_ble_eq_true rfl) hl.1 dX4_goOn_31) (fun v49 h50 H locs cells slots hH hL hrun => ?_)
  refine lv_if_ne (tgt := 39) (pc := 34) hx hb dX4_goOn_34 (by decide) (fun c_ => ?_) (fun c_ => ?_)
  · have hrun := ite_f hrun c_
    refine lv_iconst (v := (0 : Int32)) (pc := 39) hx hb dX4_goOn_39 (by decide) ?_
    refine lv_istore_n (i := 2) (lv' := [(2, .int (0 : Int32)), (0, rv x0), (1, .int x1)]) (pc := 40) hx hb dX4_goOn_40 rfl hl (by decide) rfl (fun ls hl => ?_)
    exact b_X4_goOn_41 C FU x0 x1 (0 : Int32) h50 H locs cells slots ls hH hL (lv_sub hl [1, 2, 0] rfl) hrun
  · have hrun := ite_t hrun c_
    refine lv_iconst (v := (0 : Int32)) (pc := 37) hx hb dX4_goOn_37 (by decide) ?_
    exact V_iret (pc := 38) C hH hL hrun dX4_goOn_38

theorem b_X4_goOn_29 {rr : (Int32 ⊕ Ex) × Hp}  (C : CX p l R s m args meth c D Hs cX4_goOn "MassclaimModel" 5 (some .int) [] 5 89)  : ∀ (x0 : Nat) (x1 : Int32) (y0 : Nat) (h : Hp) (H : Heap) (locs : List Loc) (cells slots : Nat) (ls : Array Slot), HP D Hs h H → LO Hs locs → lv_has ls 5 [(0, rv x0), (1, .int x1)] → f_X4_goOn_29 x0 x1 y0 h = some rr → W p l e R s m args below meth c H locs cells slots (ZM D Hs iI rr below args s) (F0 m 29 ls [rv y0]) := by
  obtain ⟨⟨hx, hb, hml, hown, hts⟩, -⟩ := id C
  have hl9 := C.2.1.2.2.1
  intro x0 x1 y0 h H locs cells slots ls hH hL hl hrun
  unfold f_X4_goOn_29 at hrun
  refine lv_iconst (v := (0 : Int32)) (pc := 29) hx hb dX4_goOn_29 (by decide) ?_
  exact b_X4_goOn_30 C x0 x1 y0 (0 : Int32) h H locs cells slots ls hH hL (lv_sub hl [0, 1] rfl) hrun

theorem b_X4_goOn {rr : (Int32 ⊕ Ex) × Hp}  (C : CX p l R s m args meth c D Hs cX4_goOn "MassclaimModel" 5 (some .int) [] 5 89)  : ∀ (x0 : Nat) (x1 : Int32) (h : Hp) (H : Heap) (locs : List Loc) (cells slots : Nat) (ls : Array Slot), HP D Hs h H → LO Hs locs → lv_has ls 5 [(0, rv x0), (1, .int x1)] → f_X4_goOn x0 x1 h = some rr → W p l e R s m args below meth c H locs cells slots (ZM D Hs iI rr below args s) (F0 m 0 ls []) := by
  obtain ⟨⟨hx, hb, hml, hown, hts⟩, -⟩ := id C
  have hl9 := C.2.1.2.2.1
  intro x0 x1 h H locs cells slots ls hH hL hl hrun
  unfold f_X4_goOn at hrun
  refine V_aload_n (pc := 0) hx hb dX4_goOn_0 rfl (lv_at hl 0 rfl) ?_
  refine lv_iload_n (pc := 1) hx hb dX4_goOn_1 rfl (lv_at hl 1 rfl) ?_
  refine lv_i2l (pc := 2) hx hb dX4_goOn_2 rfl ?_
  refine lv_lconst (v := (1 : Int64)) (pc := 3) hx hb dX4_goOn_3 (by decide) ?_
  refine lv_ldc2 (pc := 4) hx hb hown (hts _ q1937) dX4_goOn_4 ?_
  refine V_bd (pc := 7) C hL rfl hrun (fun rr1 e1 => Z_runS (rest := [rv x0]) C hH (m_X4_isWithin hl9 e1) wS_X4_100 rfl ⟨by decide, by decide⟩ rfl (by simp [csum, rv_cat, cat_i, cat_l, cat_f, cat_d]) hl.1 dX4_goOn_7) (fun v52 h53 H locs cells slots hH hL hrun => ?_)
  refine lv_if_eq (tgt := 29) (pc := 10) hx hb dX4_goOn_10 (by decide) (fun c_ => ?_) (fun c_ => ?_)
  · have hrun := ite_t hrun c_
    exact b_X4_goOn_29 C x0 x1 x0 h53 H locs cells slots ls hH hL (lv_sub hl [0, 1] rfl) hrun
  · have hrun := ite_f hrun c_
    refine V_aload_n (pc := 13) hx hb dX4_goOn_13 rfl (lv_at hl 0 rfl) ?_
    obtain ⟨c54, hrun⟩ := gd_some hrun
    refine V_getI (pc := 14) C hH fr_X4_43 dX4_goOn_14 c54 rfl ?_
    refine lv_iload_n (pc := 17) hx hb dX4_goOn_17 rfl (lv_at hl 1 rfl) ?_
    refine lv_iadd (pc := 18) hx hb dX4_goOn_18 ?_
    refine lv_sipush (v := (20000 : Int32)) (pc := 19) hx hb dX4_goOn_19 (by decide) ?_
    refine lv_icmp_gt (tgt := 29) (pc := 22) hx hb dX4_goOn_22 (by decide) (fun c_ => ?_) (fun c_ => ?_)
    · have hrun := ite_t hrun c_
      exact b_X4_goOn_29 C x0 x1 x0 h53 H locs cells slots ls hH hL (lv_sub hl [0, 1] rfl) hrun
    · have hrun := ite_f hrun c_
      refine lv_iconst (v := (1 : Int32)) (pc := 25) hx hb dX4_goOn_25 (by decide) ?_
      refine lv_goto (tgt := 30) (pc := 26) hx hb dX4_goOn_26 (by decide) ?_
      exact b_X4_goOn_30 C x0 x1 x0 (1 : Int32) h53 H locs cells slots ls hH hL (lv_sub hl [0, 1] rfl) hrun

theorem m_X4_goOn {l : Launch} {D : va_G} {Hs : Heap} {h : Hp} {rr : (Int32 ⊕ Ex) × Hp} (hl9 : l.stackTraces = false) {x0 : Nat} {x1 : Int32} (hrun : f_X4_goOn x0 x1 h = some rr) : CM l yX4_goOn (ws_ yX4_goOn cX4_goOn 5 (some .int)) 5 89 iI [rv x0, .int x1] D Hs h rr := by
  refine CM.of (lv := [(0, rv x0), (1, .int x1)]) (plainFor_of_name (by decide)) hl9 (by simp [lv_args, rv_cat, cat_i, cat_l, cat_f, cat_d]) (by simp [lg_sl, rv_cat, cat_i, cat_l, cat_f, cat_d]) ?_
  intro p e R s m args below meth c H ls C hH hl hin
  exact b_X4_goOn C x0 x1 _ H [] _ _ ls hH (fun _ q => nomatch q) (lv_sub hl [0, 1] rfl) hrun

/-! MassclaimModel.thrown()I -/
def f_X4_thrown  (x0 : Nat) (h : Hp) : Rt Int32 :=
  gd (kC h x0 = 4) <| some (.inl (kI h 300 x0), h)
theorem b_X4_thrown {rr : (Int32 ⊕ Ex) × Hp}  (C : CX p l R s m args meth c D Hs cX4_thrown "MassclaimModel" 1 (some .int) [] 1 0)  : ∀ (x0 : Nat) (h : Hp) (H : Heap) (locs : List Loc) (cells slots : Nat) (ls : Array Slot), HP D Hs h H → LO Hs locs → lv_has ls 1 [(0, rv x0)] → f_X4_thrown x0 h = some rr → W p l e R s m args below meth c H locs cells slots (ZM D Hs iI rr below args s) (F0 m 0 ls []) := by
  obtain ⟨⟨hx, hb, hml, hown, hts⟩, -⟩ := id C
  have hl9 := C.2.1.2.2.1
  intro x0 h H locs cells slots ls hH hL hl hrun
  unfold f_X4_thrown at hrun
  refine V_aload_n (pc := 0) hx hb dX4_thrown_0 rfl (lv_at hl 0 rfl) ?_
  obtain ⟨c1, hrun⟩ := gd_some hrun
  refine V_getI (pc := 1) C hH fr_X4_1 dX4_thrown_1 c1 rfl ?_
  exact V_iret (pc := 4) C hH hL hrun dX4_thrown_4

theorem m_X4_thrown {l : Launch} {D : va_G} {Hs : Heap} {h : Hp} {rr : (Int32 ⊕ Ex) × Hp} (hl9 : l.stackTraces = false) {x0 : Nat} (hrun : f_X4_thrown x0 h = some rr) : CM l yX4_thrown (ws_ yX4_thrown cX4_thrown 1 (some .int)) 1 0 iI [rv x0] D Hs h rr := by
  refine CM.of (lv := [(0, rv x0)]) (plainFor_of_name (by decide)) hl9 (by simp [lv_args, rv_cat, cat_i, cat_l, cat_f, cat_d]) (by simp [lg_sl, rv_cat, cat_i, cat_l, cat_f, cat_d]) ?_
  intro p e R s m args below meth c H ls C hH hl hin
  exact b_X4_thrown C x0 _ H [] _ _ ls hH (fun _ q => nomatch q) (lv_sub hl [0] rfl) hrun

/-! Massclaim$Person.<init>(LMassclaim;IIIII)V -/
def f_X5_init  (x0 : Nat) (x1 : Nat) (x2 : Int32) (x3 : Int32) (x4 : Int32) (x5 : Int32) (x6 : Int32) (h : Hp) : Rt Unit :=
  gd (kC h x0 = 5) <| vl (sR h 421 x0 x1) fun h2 => gd (kC h2 x0 = 5) <| vl (sI h2 406 x0 (-1 : Int32)) fun h4 => gd (kC h4 x0 = 5) <| vl (sI h4 409 x0 (1 : Int32)) fun h6 => gd (kC h6 x0 = 5) <| vl (sI h6 410 x0 (-1 : Int32)) fun h8 => gd (kC h8 x0 = 5) <| vl (sI h8 413 x0 (-1 : Int32)) fun h10 => nw h10 18 3 fun q11 h12 => gd (kC h12 q11 = 18) <| bd (f_J2_init q11 h12) fun _ h14 => gd (kC h14 x0 = 5) <| vl (sR h14 419 x0 q11) fun h17 => gd (kC h17 x0 = 5) <| vl (sI h17 400 x0 x2) fun h19 => gd (kC h19 x0 = 5) <| vl (sI h19 401 x0 x3) fun h21 => gd (kC h21 x0 = 5) <| vl (sI h21 402 x0 x4) fun h23 => gd (kC h23 x0 = 5) <| vl (sI h23 403 x0 x5) fun h25 => gd (kC h25 x0 = 5) <| vl (sI h25 404 x0 x6) fun h27 => some (.inl (), h27)
theorem b_X5_init {rr : (Unit ⊕ Ex) × Hp}  (C : CX p l R s m args meth c D Hs cX5_init "Massclaim$Person" 7 none [] 4 80) (hin : meth.name = "<init>")  : ∀ (x0 : Nat) (x1 : Nat) (x2 : Int32) (x3 : Int32) (x4 : Int32) (x5 : Int32) (x6 : Int32) (h : Hp) (H : Heap) (locs : List Loc) (cells slots : Nat) (ls : Array Slot), HP D Hs h H → LO Hs locs → lv_has ls 7 [(0, rv x0), (1, rv x1), (2, .int x2), (3, .int x3), (4, .int x4), (5, .int x5), (6, .int x6)] → f_X5_init x0 x1 x2 x3 x4 x5 x6 h = some rr → W p l e R s m args below meth c H locs cells slots (ZM D Hs iV rr below args s) (F0 m 0 ls []) := by
  obtain ⟨⟨hx, hb, hml, hown, hts⟩, -⟩ := id C
  have hl9 := C.2.1.2.2.1
  intro x0 x1 x2 x3 x4 x5 x6 h H locs cells slots ls hH hL hl hrun
  unfold f_X5_init at hrun
  refine V_aload_n (pc := 0) hx hb dX5_init_0 rfl (lv_at hl 0 rfl) ?_
  refine V_aload_n (pc := 1) hx hb dX5_init_1 rfl (lv_at hl 1 rfl) ?_
  obtain ⟨c1, hrun⟩ := gd_some hrun
  refine V_putR (pc := 2) C hH hL fl_X5_3 dX5_init_2 c1 (fok_o _ _) rfl (fun _ => hin) hrun (fun h2 H locs hH hL hrun => ?_)
  refine V_aload_n (pc := 5) hx hb dX5_init_5 rfl (lv_at hl 0 rfl) ?_
  obtain ⟨c3, hrun⟩ := gd_some hrun
  refine V_objInit (pc := 6) C q598 q113 q114 (hH.pos c3) dX5_init_6 (by decide) (by simp [csum, rv_cat, cat_i, cat_l, cat_f, cat_d]) hl.1 ?_
  refine V_aload_n (pc := 9) hx hb dX5_init_9 rfl (lv_at hl 0 rfl) ?_
  refine lv_iconst (v := (-1 : Int32)) (pc := 10) hx hb dX5_init_10 (by decide) ?_
  refine V_putI (pc := 11) C hH hL fl_X5_15 dX5_init_11 c3 (fok_i _) rfl (fun q => Bool.noConfusion q) hrun (fun h4 H locs hH hL hrun => ?_)
  refine V_aload_n (pc := 14) hx hb dX5_init_14 rfl (lv_at hl 0 rfl) ?_
  refine lv_iconst (v := (1 : Int32)) (pc := 15) hx hb dX5_init_15 (by decide) ?_
  obtain ⟨c5, hrun⟩ := gd_some hrun
  refine V_putI (pc := 16) C hH hL fl_X5_19 dX5_init_16 c5 (fok_z (Or.inr rfl)) rfl (fun q => Bool.noConfusion q) hrun (fun h6 H locs hH hL hrun => ?_)
  refine V_aload_n (pc := 19) hx hb dX5_init_19 rfl (lv_at hl 0 rfl) ?_
  refine lv_iconst (v := (-1 : Int32)) (pc := 20) hx hb dX5_init_20 (by decide) ?_
  obtain ⟨c7, hrun⟩ := gd_some hrun
  refine V_putI (pc := 21) C hH hL fl_X5_23 dX5_init_21 c7 (fok_i _) rfl (fun q => Bool.noConfusion q) hrun (fun h8 H locs hH hL hrun => ?_)
  refine V_aload_n (pc := 24) hx hb dX5_init_24 rfl (lv_at hl 0 rfl) ?_
  refine lv_iconst (v := (-1 : Int32)) (pc := 25) hx hb dX5_init_25 (by decide) ?_
  obtain ⟨c9, hrun⟩ := gd_some hrun
  refine V_putI (pc := 26) C hH hL fl_X5_26 dX5_init_26 c9 (fok_i _) rfl (fun q => Bool.noConfusion q) hrun (fun h10 H locs hH hL hrun => ?_)
  refine V_aload_n (pc := 29) hx hb dX5_init_29 rfl (lv_at hl 0 rfl) ?_
  refine V_new (pc := 30) C hH nl_X5_29 dX5_init_30 hrun (fun q11 h12 H cells slots hH hrun => ?_)
  refine lv_dup (pc := 33) hx hb dX5_init_33 (rv_cat _) ?_
  obtain ⟨c15, hrun⟩ := gd_some hrun
  refine V_bd (pc := 34) C hL rfl hrun (fun rr1 e1 => Z_runI (rest := [rv q11, rv x0]) C hH (m_J2_init hl9 e1) wI_X5_31 (hH.pos c15) rfl ⟨by decide, by decide⟩ rfl (by simp [csum, rv_cat, cat_i, cat_l, cat_f, cat_d]) hl.1 dX5_init_34) (fun _ h14 H locs cells slots hH hL hrun => ?_)
  obtain ⟨c16, hrun⟩ := gd_some hrun
  refine V_putR (pc := 37) C hH hL fl_X5_32 dX5_init_37 c16 (fok_o _ _) rfl (fun _ => hin) hrun (fun h17 H locs hH hL hrun => ?_)
  refine V_aload_n (pc := 40) hx hb dX5_init_40 rfl (lv_at hl 0 rfl) ?_
  refine lv_iload_n (pc := 41) hx hb dX5_init_41 rfl (lv_at hl 2 rfl) ?_
  obtain ⟨c18, hrun⟩ := gd_some hrun
  refine V_putI (pc := 42) C hH hL fl_X5_36 dX5_init_42 c18 (fok_i _) rfl (fun _ => hin) hrun (fun h19 H locs hH hL hrun => ?_)
  refine V_aload_n (pc := 45) hx hb dX5_init_45 rfl (lv_at hl 0 rfl) ?_
  refine lv_iload_n (pc := 46) hx hb dX5_init_46 rfl (lv_at hl 3 rfl) ?_
  obtain ⟨c20, hrun⟩ := gd_some hrun
  refine V_putI (pc := 47) C hH hL fl_X5_39 dX5_init_47 c20 (fok_i _) rfl (fun _ => hin) hrun (fun h21 H locs hH hL hrun => ?_)
  refine V_aload_n (pc := 50) hx hb dX5_init_50 rfl (lv_at hl 0 rfl) ?_
  refine lv_iload (pc := 51) hx hb dX5_init_51 (lv_at hl 4 rfl) ?_
  obtain ⟨c22, hrun⟩ := gd_some hrun
  refine V_putI (pc := 53) C hH hL fl_X5_42 dX5_init_53 c22 (fok_i _) rfl (fun _ => hin) hrun (fun h23 H locs hH hL hrun => ?_)
  refine V_aload_n (pc := 56) hx hb dX5_init_56 rfl (lv_at hl 0 rfl) ?_
  refine lv_iload (pc := 57) hx hb dX5_init_57 (lv_at hl 5 rfl) ?_
  obtain ⟨c24, hrun⟩ := gd_some hrun
  refine V_putI (pc := 59) C hH hL fl_X5_45 dX5_init_59 c24 (fok_i _) rfl (fun _ => hin) hrun (fun h25 H locs hH hL hrun => ?_)
  refine V_aload_n (pc := 62) hx hb dX5_init_62 rfl (lv_at hl 0 rfl) ?_
  refine lv_iload (pc := 63) hx hb dX5_init_63 (lv_at hl 6 rfl) ?_
  obtain ⟨c26, hrun⟩ := gd_some hrun
  refine V_putI (pc := 65) C hH hL fl_X5_48 dX5_init_65 c26 (fok_i _) rfl (fun _ => hin) hrun (fun h27 H locs hH hL hrun => ?_)
  exact V_vret (pc := 68) C hH hL hrun dX5_init_68

theorem m_X5_init {l : Launch} {D : va_G} {Hs : Heap} {h : Hp} {rr : (Unit ⊕ Ex) × Hp} (hl9 : l.stackTraces = false) {x0 : Nat} {x1 : Nat} {x2 : Int32} {x3 : Int32} {x4 : Int32} {x5 : Int32} {x6 : Int32} (hrun : f_X5_init x0 x1 x2 x3 x4 x5 x6 h = some rr) : CM l yX5_init (ws_ yX5_init cX5_init 7 none) 4 80 iV [rv x0, rv x1, .int x2, .int x3, .int x4, .int x5, .int x6] D Hs h rr := by
  refine CM.of (lv := [(0, rv x0), (1, rv x1), (2, .int x2), (3, .int x3), (4, .int x4), (5, .int x5), (6, .int x6)]) (plainFor_of_name (by decide)) hl9 (by simp [lv_args, rv_cat, cat_i, cat_l, cat_f, cat_d]) (by simp [lg_sl, rv_cat, cat_i, cat_l, cat_f, cat_d]) ?_
  intro p e R s m args below meth c H ls C hH hl hin
  exact b_X5_init C hin x0 x1 x2 x3 x4 x5 x6 _ H [] _ _ ls hH (fun _ q => nomatch q) (lv_sub hl [0, 1, 2, 3, 4, 5, 6] rfl) hrun

/-! Massclaim$Row.hasRoom()Z -/
def f_X2_hasRoom_21  (y0 : Int32) (h : Hp) : Rt Int32 :=
  gd (b01 y0) <| some (.inl y0, h)
def f_X2_hasRoom  (x0 : Nat) (h : Hp) : Rt Int32 :=
  gd (kC h x0 = 2) <| gd (kC h (kR h 100 x0) = 18) <| bd (f_J2_size (kR h 100 x0) h) fun v3 h4 => gd (kC h4 x0 = 2) <| if (kI h4 101 x0) ≤ v3 then
  (f_X2_hasRoom_21 (0 : Int32) h4)
  else
  (f_X2_hasRoom_21 (1 : Int32) h4)
theorem b_X2_hasRoom_21 {rr : (Int32 ⊕ Ex) × Hp}  (C : CX p l R s m args meth c D Hs cX2_hasRoom "Massclaim$Row" 1 (some .boolean) [] 2 20)  : ∀ (y0 : Int32) (h : Hp) (H : Heap) (locs : List Loc) (cells slots : Nat) (ls : Array Slot), HP D Hs h H → LO Hs locs → lv_has ls 1 [] → f_X2_hasRoom_21 y0 h = some rr → W p l e R s m args below meth c H locs cells slots (ZM D Hs iI rr below args s) (F0 m 21 ls [.int y0]) := by
  obtain ⟨⟨hx, hb, hml, hown, hts⟩, -⟩ := id C
  have hl9 := C.2.1.2.2.1
  intro y0 h H locs cells slots ls hH hL hl hrun
  unfold f_X2_hasRoom_21 at hrun
  obtain ⟨c1, hrun⟩ := gd_some hrun
  exact V_zret (pc := 21) C hH hL c1 hrun dX2_hasRoom_21

theorem b_X2_hasRoom {rr : (Int32 ⊕ Ex) × Hp}  (C : CX p l R s m args meth c D Hs cX2_hasRoom "Massclaim$Row" 1 (some .boolean) [] 2 20)  : ∀ (x0 : Nat) (h : Hp) (H : Heap) (locs : List Loc) (cells slots : Nat) (ls : Array Slot), HP D Hs h H → LO Hs locs → lv_has ls 1 [(0, rv x0)] → f_X2_hasRoom x0 h = some rr → W p l e R s m args below meth c H locs cells slots (ZM D Hs iI rr below args s) (F0 m 0 ls []) := by
  obtain ⟨⟨hx, hb, hml, hown, hts⟩, -⟩ := id C
  have hl9 := C.2.1.2.2.1
  intro x0 h H locs cells slots ls hH hL hl hrun
  unfold f_X2_hasRoom at hrun
  refine V_aload_n (pc := 0) hx hb dX2_hasRoom_0 rfl (lv_at hl 0 rfl) ?_
  obtain ⟨c2, hrun⟩ := gd_some hrun
  refine V_getR (pc := 1) C hH fr_X2_10 dX2_hasRoom_1 c2 rfl ?_
  obtain ⟨c5, hrun⟩ := gd_some hrun
  refine V_bd5 (pc := 4) C hL rfl hrun (fun rr1 e1 => Z_runF (rest := []) C hH (m_J2_size hl9 e1) rfl wF_X2_20_J2 c5 (by decide) rfl ⟨by decide, by decide⟩ rfl (Nat.le_of_ble_eq_true rfl) hl.1 dX2_hasRoom_4) (fun v3 h4 H locs cells slots hH hL hrun => ?_)
  refine V_aload_n (pc := 9) hx hb dX2_hasRoom_9 rfl (lv_at hl 0 rfl) ?_
  obtain ⟨c6, hrun⟩ := gd_some hrun
  refine V_getI (pc := 10) C hH fr_X2_16 dX2_hasRoom_10 c6 rfl ?_
  refine lv_icmp_ge (tgt := 20) (pc := 13) hx hb dX2_hasRoom_13 (by decide) (fun c_ => ?_) (fun c_ => ?_)
  · have hrun := ite_t hrun c_
    refine lv_iconst (v := (0 : Int32)) (pc := 20) hx hb dX2_hasRoom_20 (by decide) ?_
    exact b_X2_hasRoom_21 C (0 : Int32) h4 H locs cells slots ls hH hL (lv_sub hl [] rfl) hrun
  · have hrun := ite_f hrun c_
    refine lv_iconst (v := (1 : Int32)) (pc := 16) hx hb dX2_hasRoom_16 (by decide) ?_
    refine lv_goto (tgt := 21) (pc := 17) hx hb dX2_hasRoom_17 (by decide) ?_
    exact b_X2_hasRoom_21 C (1 : Int32) h4 H locs cells slots ls hH hL (lv_sub hl [] rfl) hrun

theorem m_X2_hasRoom {l : Launch} {D : va_G} {Hs : Heap} {h : Hp} {rr : (Int32 ⊕ Ex) × Hp} (hl9 : l.stackTraces = false) {x0 : Nat} (hrun : f_X2_hasRoom x0 h = some rr) : CM l yX2_hasRoom (ws_ yX2_hasRoom cX2_hasRoom 1 (some .boolean)) 2 20 iI [rv x0] D Hs h rr := by
  refine CM.of (lv := [(0, rv x0)]) (plainFor_of_name (by decide)) hl9 (by simp [lv_args, rv_cat, cat_i, cat_l, cat_f, cat_d]) (by simp [lg_sl, rv_cat, cat_i, cat_l, cat_f, cat_d]) ?_
  intro p e R s m args below meth c H ls C hH hl hin
  exact b_X2_hasRoom C x0 _ H [] _ _ ls hH (fun _ q => nomatch q) (lv_sub hl [0] rfl) hrun

/-! Massclaim.requireState(Z)V -/
def f_X1_requireState  (x0 : Int32) (h : Hp) : Rt Unit :=
  if x0 = 0 then
  (th 903 h)
  else
  (some (.inl (), h))
theorem b_X1_requireState {rr : (Unit ⊕ Ex) × Hp}  (C : CX p l R s m args meth c D Hs cX1_requireState "Massclaim" 1 none [] 6 90)  : ∀ (x0 : Int32) (h : Hp) (H : Heap) (locs : List Loc) (cells slots : Nat) (ls : Array Slot), HP D Hs h H → LO Hs locs → lv_has ls 1 [(0, .int x0)] → f_X1_requireState x0 h = some rr → W p l e R s m args below meth c H locs cells slots (ZM D Hs iV rr below args s) (F0 m 0 ls []) := by
  obtain ⟨⟨hx, hb, hml, hown, hts⟩, -⟩ := id C
  have hl9 := C.2.1.2.2.1
  intro x0 h H locs cells slots ls hH hL hl hrun
  unfold f_X1_requireState at hrun
  refine lv_iload_n (pc := 0) hx hb dX1_requireState_0 rfl (lv_at hl 0 rfl) ?_
  refine lv_if_ne (tgt := 12) (pc := 1) hx hb dX1_requireState_1 (by decide) (fun c_ => ?_) (fun c_ => ?_)
  · have hrun := ite_f hrun c_
    exact V_vret (pc := 12) C hH hL hrun dX1_requireState_12
  · have hrun := ite_t hrun c_
    exact V_throw0 (pc := 4) C hH hL nt_X1_10 hrun rfl dX1_requireState_4 dX1_requireState_7 dX1_requireState_8 dX1_requireState_11 (by decide) (by simp [csum, rv_cat, cat_i, cat_l, cat_f, cat_d]) hl.1

theorem m_X1_requireState {l : Launch} {D : va_G} {Hs : Heap} {h : Hp} {rr : (Unit ⊕ Ex) × Hp} (hl9 : l.stackTraces = false) {x0 : Int32} (hrun : f_X1_requireState x0 h = some rr) : CM l yX1_requireState (ws_ yX1_requireState cX1_requireState 1 none) 6 90 iV [.int x0] D Hs h rr := by
  refine CM.of (lv := [(0, .int x0)]) (plainFor_of_name (by decide)) hl9 (by simp [lv_args, rv_cat, cat_i, cat_l, cat_f, cat_d]) (by simp [lg_sl, rv_cat, cat_i, cat_l, cat_f, cat_d]) ?_
  intro p e R s m args below meth c H ls C hH hl hin
  exact b_X1_requireState C x0 _ H [] _ _ ls hH (fun _ q => nomatch q) (lv_sub hl [0] rfl) hrun

/-! java/lang/Math.max(II)I -/
def f_J10_max_10  (y0 : Int32) (h : Hp) : Rt Int32 :=
  some (.inl y0, h)
def f_J10_max  (x0 : Int32) (x1 : Int32) (h : Hp) : Rt Int32 :=
  if x0 < x1 then
  (f_J10_max_10 x1 h)
  else
  (f_J10_max_10 x0 h)
theorem b_J10_max_10 {rr : (Int32 ⊕ Ex) × Hp}  (C : CX p l R s m args meth c D Hs cJ10_max "java/lang/Math" 2 (some .int) [] 1 0)  : ∀ (y0 : Int32) (h : Hp) (H : Heap) (locs : List Loc) (cells slots : Nat) (ls : Array Slot), HP D Hs h H → LO Hs locs → lv_has ls 2 [] → f_J10_max_10 y0 h = some rr → W p l e R s m args below meth c H locs cells slots (ZM D Hs iI rr below args s) (F0 m 10 ls [.int y0]) := by
  obtain ⟨⟨hx, hb, hml, hown, hts⟩, -⟩ := id C
  have hl9 := C.2.1.2.2.1
  intro y0 h H locs cells slots ls hH hL hl hrun
  unfold f_J10_max_10 at hrun
  exact V_iret (pc := 10) C hH hL hrun dJ10_max_10

theorem b_J10_max {rr : (Int32 ⊕ Ex) × Hp}  (C : CX p l R s m args meth c D Hs cJ10_max "java/lang/Math" 2 (some .int) [] 1 0)  : ∀ (x0 : Int32) (x1 : Int32) (h : Hp) (H : Heap) (locs : List Loc) (cells slots : Nat) (ls : Array Slot), HP D Hs h H → LO Hs locs → lv_has ls 2 [(0, .int x0), (1, .int x1)] → f_J10_max x0 x1 h = some rr → W p l e R s m args below meth c H locs cells slots (ZM D Hs iI rr below args s) (F0 m 0 ls []) := by
  obtain ⟨⟨hx, hb, hml, hown, hts⟩, -⟩ := id C
  have hl9 := C.2.1.2.2.1
  intro x0 x1 h H locs cells slots ls hH hL hl hrun
  unfold f_J10_max at hrun
  refine lv_iload_n (pc := 0) hx hb dJ10_max_0 rfl (lv_at hl 0 rfl) ?_
  refine lv_iload_n (pc := 1) hx hb dJ10_max_1 rfl (lv_at hl 1 rfl) ?_
  refine lv_icmp_lt (tgt := 9) (pc := 2) hx hb dJ10_max_2 (by decide) (fun c_ => ?_) (fun c_ => ?_)
  · have hrun := ite_t hrun c_
    refine lv_iload_n (pc := 9) hx hb dJ10_max_9 rfl (lv_at hl 1 rfl) ?_
    exact b_J10_max_10 C x1 h H locs cells slots ls hH hL (lv_sub hl [] rfl) hrun
  · have hrun := ite_f hrun c_
    refine lv_iload_n (pc := 5) hx hb dJ10_max_5 rfl (lv_at hl 0 rfl) ?_
    refine lv_goto (tgt := 10) (pc := 6) hx hb dJ10_max_6 (by decide) ?_
    exact b_J10_max_10 C x0 h H locs cells slots ls hH hL (lv_sub hl [] rfl) hrun

theorem m_J10_max {l : Launch} {D : va_G} {Hs : Heap} {h : Hp} {rr : (Int32 ⊕ Ex) × Hp} (hl9 : l.stackTraces = false) {x0 : Int32} {x1 : Int32} (hrun : f_J10_max x0 x1 h = some rr) : CM l yJ10_max (ws_ yJ10_max cJ10_max 2 (some .int)) 1 0 iI [.int x0, .int x1] D Hs h rr := by
  refine CM.of (lv := [(0, .int x0), (1, .int x1)]) (by decide +kernel) hl9 (by simp [lv_args, rv_cat, cat_i, cat_l, cat_f, cat_d]) (by simp [lg_sl, rv_cat, cat_i, cat_l, cat_f, cat_d]) ?_
  intro p e R s m args below meth c H ls C hH hl hin
  exact b_J10_max C x0 x1 _ H [] _ _ ls hH (fun _ q => nomatch q) (lv_sub hl [0, 1] rfl) hrun

/-! jdk/internal/util/ArraysSupport.newLength(III)I -/
def f_J12_newLength_21  (x0 : Int32) (x1 : Int32) (h : Hp) : Rt Int32 :=
  none
def f_J12_newLength  (x0 : Int32) (x1 : Int32) (x2 : Int32) (h : Hp) : Rt Int32 :=
  bd (f_J10_max x1 x2 h) fun v1 h2 => vl (x0 + v1) fun v3 => if v3 ≤ (0 : Int32) then
  (f_J12_newLength_21 x0 x1 h2)
  else
  (if (2147483639 : Int32) < v3 then
  (f_J12_newLength_21 x0 x1 h2)
  else
  (some (.inl v3, h2)))
theorem b_J12_newLength_21 {rr : (Int32 ⊕ Ex) × Hp}  (C : CX p l R s m args meth c D Hs cJ12_newLength "jdk/internal/util/ArraysSupport" 4 (some .int) [] 2 21)  : ∀ (x0 : Int32) (x1 : Int32) (h : Hp) (H : Heap) (locs : List Loc) (cells slots : Nat) (ls : Array Slot), HP D Hs h H → LO Hs locs → lv_has ls 4 [(0, .int x0), (1, .int x1)] → f_J12_newLength_21 x0 x1 h = some rr → W p l e R s m args below meth c H locs cells slots (ZM D Hs iI rr below args s) (F0 m 21 ls []) := by
  obtain ⟨⟨hx, hb, hml, hown, hts⟩, -⟩ := id C
  have hl9 := C.2.1.2.2.1
  intro x0 x1 h H locs cells slots ls hH hL hl hrun
  unfold f_J12_newLength_21 at hrun
  refine lv_iload_n (pc := 21) hx hb dJ12_newLength_21 rfl (lv_at hl 0 rfl) ?_
  refine lv_iload_n (pc := 22) hx hb dJ12_newLength_22 rfl (lv_at hl 1 rfl) ?_
  cases hrun

theorem b_J12_newLength {rr : (Int32 ⊕ Ex) × Hp}  (C : CX p l R s m args meth c D Hs cJ12_newLength "jdk/internal/util/ArraysSupport" 4 (some .int) [] 2 21)  : ∀ (x0 : Int32) (x1 : Int32) (x2 : Int32) (h : Hp) (H : Heap) (locs : List Loc) (cells slots : Nat) (ls : Array Slot), HP D Hs h H → LO Hs locs → lv_has ls 4 [(0, .int x0), (1, .int x1), (2, .int x2)] → f_J12_newLength x0 x1 x2 h = some rr → W p l e R s m args below meth c H locs cells slots (ZM D Hs iI rr below args s) (F0 m 0 ls []) := by
  obtain ⟨⟨hx, hb, hml, hown, hts⟩, -⟩ := id C
  have hl9 := C.2.1.2.2.1
  intro x0 x1 x2 h H locs cells slots ls hH hL hl hrun
  unfold f_J12_newLength at hrun
  refine lv_iload_n (pc := 0) hx hb dJ12_newLength_0 rfl (lv_at hl 0 rfl) ?_
  refine lv_iload_n (pc := 1) hx hb dJ12_newLength_1 rfl (lv_at hl 1 rfl) ?_
  refine lv_iload_n (pc := 2) hx hb dJ12_newLength_2 rfl (lv_at hl 2 rfl) ?_
  refine V_bd (pc := 3) C hL rfl hrun (fun rr1 e1 => Z_runS (rest := [.int x0]) C hH (m_J10_max hl9 e1) wS_J12_194 rfl ⟨by decide, by decide⟩ rfl (Nat.le_of_ble_eq_true rfl) hl.1 dJ12_newLength_3) (fun v1 h2 H locs cells slots hH hL hrun => ?_)
  refine lv_iadd (pc := 6) hx hb dJ12_newLength_6 ?_
  refine lv_topi (fun v3 ev3 => ?_)
  have hrun := vl_at hrun v3 ev3
  refine lv_istore_n (i := 3) (lv' := [(3, .int v3), (0, .int x0), (1, .int x1), (2, .int x2)]) (pc := 7) hx hb dJ12_newLength_7 rfl hl (by decide) rfl (fun ls hl => ?_)
  refine lv_iconst (v := (0 : Int32)) (pc := 8) hx hb dJ12_newLength_8 (by decide) ?_
  refine lv_iload_n (pc := 9) hx hb dJ12_newLength_9 rfl (lv_at hl 0 rfl) ?_
  refine lv_icmp_ge (tgt := 21) (pc := 10) hx hb dJ12_newLength_10 (by decide) (fun c_ => ?_) (fun c_ => ?_)
  · have hrun := ite_t hrun c_
    exact b_J12_newLength_21 C x0 x1 h2 H locs cells slots ls hH hL (lv_sub hl [1, 2] rfl) hrun
  · have hrun := ite_f hrun c_
    refine lv_iload_n (pc := 13) hx hb dJ12_newLength_13 rfl (lv_at hl 0 rfl) ?_
    refine lv_ldc (pc := 14) hx hb hown (hts _ q742) dJ12_newLength_14 ?_
    refine lv_icmp_gt (tgt := 21) (pc := 16) hx hb dJ12_newLength_16 (by decide) (fun c_ => ?_) (fun c_ => ?_)
    · have hrun := ite_t hrun c_
      exact b_J12_newLength_21 C x0 x1 h2 H locs cells slots ls hH hL (lv_sub hl [1, 2] rfl) hrun
    · have hrun := ite_f hrun c_
      refine lv_iload_n (pc := 19) hx hb dJ12_newLength_19 rfl (lv_at hl 0 rfl) ?_
      exact V_iret (pc := 20) C hH hL hrun dJ12_newLength_20

theorem m_J12_newLength {l : Launch} {D : va_G} {Hs : Heap} {h : Hp} {rr : (Int32 ⊕ Ex) × Hp} (hl9 : l.stackTraces = false) {x0 : Int32} {x1 : Int32} {x2 : Int32} (hrun : f_J12_newLength x0 x1 x2 h = some rr) : CM l yJ12_newLength (ws_ yJ12_newLength cJ12_newLength 4 (some .int)) 2 21 iI [.int x0, .int x1, .int x2] D Hs h rr := by
  refine CM.of (lv := [(0, .int x0), (1, .int x1), (2, .int x2)]) (by decide +kernel) hl9 (by simp [lv_args, rv_cat, cat_i, cat_l, cat_f, cat_d]) (by simp [lg_sl, rv_cat, cat_i, cat_l, cat_f, cat_d]) ?_
  intro p e R s m args below meth c H ls C hH hl hin
  exact b_J12_newLength C x0 x1 x2 _ H [] _ _ ls hH (fun _ q => nomatch q) (lv_sub hl [0, 1, 2] rfl) hrun

/-! java/lang/Math.min(II)I -/
def f_J10_min_2_10  (y0 : Int32) (h : Hp) : Rt Int32 :=
  some (.inl y0, h)
def f_J10_min_2  (x0 : Int32) (x1 : Int32) (h : Hp) : Rt Int32 :=
  if x1 < x0 then
  (f_J10_min_2_10 x1 h)
  else
  (f_J10_min_2_10 x0 h)
theorem b_J10_min_2_10 {rr : (Int32 ⊕ Ex) × Hp}  (C : CX p l R s m args meth c D Hs cJ10_min_2 "java/lang/Math" 2 (some .int) [] 1 0)  : ∀ (y0 : Int32) (h : Hp) (H : Heap) (locs : List Loc) (cells slots : Nat) (ls : Array Slot), HP D Hs h H → LO Hs locs → lv_has ls 2 [] → f_J10_min_2_10 y0 h = some rr → W p l e R s m args below meth c H locs cells slots (ZM D Hs iI rr below args s) (F0 m 10 ls [.int y0]) := by
  obtain ⟨⟨hx, hb, hml, hown, hts⟩, -⟩ := id C
  have hl9 := C.2.1.2.2.1
  intro y0 h H locs cells slots ls hH hL hl hrun
  unfold f_J10_min_2_10 at hrun
  exact V_iret (pc := 10) C hH hL hrun dJ10_min_2_10

theorem b_J10_min_2 {rr : (Int32 ⊕ Ex) × Hp}  (C : CX p l R s m args meth c D Hs cJ10_min_2 "java/lang/Math" 2 (some .int) [] 1 0)  : ∀ (x0 : Int32) (x1 : Int32) (h : Hp) (H : Heap) (locs : List Loc) (cells slots : Nat) (ls : Array Slot), HP D Hs h H → LO Hs locs → lv_has ls 2 [(0, .int x0), (1, .int x1)] → f_J10_min_2 x0 x1 h = some rr → W p l e R s m args below meth c H locs cells slots (ZM D Hs iI rr below args s) (F0 m 0 ls []) := by
  obtain ⟨⟨hx, hb, hml, hown, hts⟩, -⟩ := id C
  have hl9 := C.2.1.2.2.1
  intro x0 x1 h H locs cells slots ls hH hL hl hrun
  unfold f_J10_min_2 at hrun
  refine lv_iload_n (pc := 0) hx hb dJ10_min_2_0 rfl (lv_at hl 0 rfl) ?_
  refine lv_iload_n (pc := 1) hx hb dJ10_min_2_1 rfl (lv_at hl 1 rfl) ?_
  refine lv_icmp_gt (tgt := 9) (pc := 2) hx hb dJ10_min_2_2 (by decide) (fun c_ => ?_) (fun c_ => ?_)
  · have hrun := ite_t hrun c_
    refine lv_iload_n (pc := 9) hx hb dJ10_min_2_9 rfl (lv_at hl 1 rfl) ?_
    exact b_J10_min_2_10 C x1 h H locs cells slots ls hH hL (lv_sub hl [] rfl) hrun
  · have hrun := ite_f hrun c_
    refine lv_iload_n (pc := 5) hx hb dJ10_min_2_5 rfl (lv_at hl 0 rfl) ?_
    refine lv_goto (tgt := 10) (pc := 6) hx hb dJ10_min_2_6 (by decide) ?_
    exact b_J10_min_2_10 C x0 h H locs cells slots ls hH hL (lv_sub hl [] rfl) hrun

theorem m_J10_min_2 {l : Launch} {D : va_G} {Hs : Heap} {h : Hp} {rr : (Int32 ⊕ Ex) × Hp} (hl9 : l.stackTraces = false) {x0 : Int32} {x1 : Int32} (hrun : f_J10_min_2 x0 x1 h = some rr) : CM l yJ10_min_2 (ws_ yJ10_min_2 cJ10_min_2 2 (some .int)) 1 0 iI [.int x0, .int x1] D Hs h rr := by
  refine CM.of (lv := [(0, .int x0), (1, .int x1)]) (by decide +kernel) hl9 (by simp [lv_args, rv_cat, cat_i, cat_l, cat_f, cat_d]) (by simp [lg_sl, rv_cat, cat_i, cat_l, cat_f, cat_d]) ?_
  intro p e R s m args below meth c H ls C hH hl hin
  exact b_J10_min_2 C x0 x1 _ H [] _ _ ls hH (fun _ q => nomatch q) (lv_sub hl [0, 1] rfl) hrun

/-! java/util/Arrays.copyOf([Ljava/lang/Object;ILjava/lang/Class;)[Ljava/lang/Object; -/
def f_J13_copyOf_2  (x0 : Nat) (x1 : Int32) (x2 : Nat) (h : Hp) : Rt Nat :=
  if x2 = (kM h) then
  (na h 103 x1 fun q1 h2 => gd (kC h2 x0 = 103 ∨ x0 = kE h2) <| bd (f_J10_min_2 (Int32.ofNat (kN h2 x0)) x1 h2) fun v4 h5 => ac_ h5 x0 (0 : Int32) q1 (0 : Int32) v4 fun h6 => some (.inl q1, h6))
  else
  (none)
theorem b_J13_copyOf_2 {rr : (Nat ⊕ Ex) × Hp}  (C : CX p l R s m args meth c D Hs cJ13_copyOf_2 "java/util/Arrays" 4 (some (.array (.object "java/lang/Object"))) [] 2 200)  : ∀ (x0 : Nat) (x1 : Int32) (x2 : Nat) (h : Hp) (H : Heap) (locs : List Loc) (cells slots : Nat) (ls : Array Slot), HP D Hs h H → LO Hs locs → lv_has ls 4 [(0, rv x0), (1, .int x1), (2, rv x2)] → f_J13_copyOf_2 x0 x1 x2 h = some rr → W p l e R s m args below meth c H locs cells slots (ZM D Hs iR rr below args s) (F0 m 0 ls []) := by
  obtain ⟨⟨hx, hb, hml, hown, hts⟩, -⟩ := id C
  have hl9 := C.2.1.2.2.1
  intro x0 x1 x2 h H locs cells slots ls hH hL hl hrun
  unfold f_J13_copyOf_2 at hrun
  refine V_aload_n (pc := 0) hx hb dJ13_copyOf_2_0 rfl (lv_at hl 2 rfl) ?_
  refine V_ldcM (pc := 1) C hH q781 dJ13_copyOf_2_1 ?_
  refine V_acmp_ne (tgt := 13) (pc := 3) hx hb dJ13_copyOf_2_3 (by decide) hrun (fun c_ hrun => ?_) (fun c_ hrun => ?_)
  · refine V_aload_n (pc := 13) hx hb dJ13_copyOf_2_13 rfl (lv_at hl 2 rfl) ?_
    cases hrun
  · refine lv_iload_n (pc := 6) hx hb dJ13_copyOf_2_6 rfl (lv_at hl 1 rfl) ?_
    refine V_anew (pc := 7) C hH q783 dJ13_copyOf_2_7 hrun (fun q1 h2 H cells slots hH hrun => ?_)
    refine lv_goto (tgt := 24) (pc := 10) hx hb dJ13_copyOf_2_10 (by decide) ?_
    refine V_astore_n (i := 3) (lv' := [(3, rv q1), (0, rv x0), (1, .int x1), (2, rv x2)]) (pc := 24) hx hb dJ13_copyOf_2_24 rfl hl (by decide) (by simp [rv_cat, cat_i, cat_l, cat_f, cat_d]) (fun ls hl => ?_)
    refine V_aload_n (pc := 25) hx hb dJ13_copyOf_2_25 rfl (lv_at hl 1 rfl) ?_
    refine lv_iconst (v := (0 : Int32)) (pc := 26) hx hb dJ13_copyOf_2_26 (by decide) ?_
    refine V_aload_n (pc := 27) hx hb dJ13_copyOf_2_27 rfl (lv_at hl 0 rfl) ?_
    refine lv_iconst (v := (0 : Int32)) (pc := 28) hx hb dJ13_copyOf_2_28 (by decide) ?_
    refine V_aload_n (pc := 29) hx hb dJ13_copyOf_2_29 rfl (lv_at hl 1 rfl) ?_
    obtain ⟨c3, hrun⟩ := gd_some hrun
    refine V_alenE (pc := 30) C hH dJ13_copyOf_2_30 c3 ?_
    refine lv_iload_n (pc := 31) hx hb dJ13_copyOf_2_31 rfl (lv_at hl 2 rfl) ?_
    refine V_bd (pc := 32) C hL rfl hrun (fun rr1 e1 => Z_runS (rest := [.int (0 : Int32), rv q1, .int (0 : Int32), rv x0]) C hH (m_J10_min_2 hl9 e1) wS_J13_304 rfl ⟨by decide, by decide⟩ rfl (by simp [csum, rv_cat, cat_i, cat_l, cat_f, cat_d]) hl.1 dJ13_copyOf_2_32) (fun v4 h5 H locs cells slots hH hL hrun => ?_)
    refine V_copy (pc := 35) C hH hL q787 dJ13_copyOf_2_35 hrun (by decide) (by simp [csum, rv_cat, cat_i, cat_l, cat_f, cat_d, nativeFrameWords]) hl.1 (fun h6 H locs hH hL hrun => ?_)
    refine V_aload_n (pc := 38) hx hb dJ13_copyOf_2_38 rfl (lv_at hl 0 rfl) ?_
    exact V_aret (pc := 39) C (Or.inr ⟨_, rfl⟩) hH hL hrun dJ13_copyOf_2_39

theorem m_J13_copyOf_2 {l : Launch} {D : va_G} {Hs : Heap} {h : Hp} {rr : (Nat ⊕ Ex) × Hp} (hl9 : l.stackTraces = false) {x0 : Nat} {x1 : Int32} {x2 : Nat} (hrun : f_J13_copyOf_2 x0 x1 x2 h = some rr) : CM l yJ13_copyOf_2 (ws_ yJ13_copyOf_2 cJ13_copyOf_2 4 (some (.array (.object "java/lang/Object")))) 2 200 iR [rv x0, .int x1, rv x2] D Hs h rr := by
  refine CM.of (lv := [(0, rv x0), (1, .int x1), (2, rv x2)]) (by decide +kernel) hl9 (by simp [lv_args, rv_cat, cat_i, cat_l, cat_f, cat_d]) (by simp [lg_sl, rv_cat, cat_i, cat_l, cat_f, cat_d]) ?_
  intro p e R s m args below meth c H ls C hH hl hin
  exact b_J13_copyOf_2 C x0 x1 x2 _ H [] _ _ ls hH (fun _ q => nomatch q) (lv_sub hl [0, 1, 2] rfl) hrun

/-! java/util/Arrays.copyOf([Ljava/lang/Object;I)[Ljava/lang/Object; -/
def f_J13_copyOf  (x0 : Nat) (x1 : Int32) (h : Hp) : Rt Nat :=
  gd (kC h x0 = 103) <| bd (f_J13_copyOf_2 x0 x1 (kM h) h) fun v2 h3 => some (.inl v2, h3)
theorem b_J13_copyOf {rr : (Nat ⊕ Ex) × Hp}  (C : CX p l R s m args meth c D Hs cJ13_copyOf "java/util/Arrays" 2 (some (.array (.object "java/lang/Object"))) [] 3 223)  : ∀ (x0 : Nat) (x1 : Int32) (h : Hp) (H : Heap) (locs : List Loc) (cells slots : Nat) (ls : Array Slot), HP D Hs h H → LO Hs locs → lv_has ls 2 [(0, rv x0), (1, .int x1)] → f_J13_copyOf x0 x1 h = some rr → W p l e R s m args below meth c H locs cells slots (ZM D Hs iR rr below args s) (F0 m 0 ls []) := by
  obtain ⟨⟨hx, hb, hml, hown, hts⟩, -⟩ := id C
  have hl9 := C.2.1.2.2.1
  intro x0 x1 h H locs cells slots ls hH hL hl hrun
  unfold f_J13_copyOf at hrun
  refine V_aload_n (pc := 0) hx hb dJ13_copyOf_0 rfl (lv_at hl 0 rfl) ?_
  refine lv_iload_n (pc := 1) hx hb dJ13_copyOf_1 rfl (lv_at hl 1 rfl) ?_
  refine V_aload_n (pc := 2) hx hb dJ13_copyOf_2 rfl (lv_at hl 0 rfl) ?_
  obtain ⟨c1, hrun⟩ := gd_some hrun
  refine V_getC (pc := 3) C hH q749 c1 dJ13_copyOf_3 (by decide) (by simp [csum, rv_cat, cat_i, cat_l, cat_f, cat_d]) hl.1 ?_
  refine V_bd (pc := 6) C hL rfl hrun (fun rr1 e1 => Z_runS (rest := []) C hH (m_J13_copyOf_2 hl9 e1) wS_J13_300 rfl ⟨by decide, by decide⟩ rfl (Nat.le_of_ble_eq_true rfl) hl.1 dJ13_copyOf_6) (fun v2 h3 H locs cells slots hH hL hrun => ?_)
  exact V_aret (pc := 9) C (Or.inr ⟨_, rfl⟩) hH hL hrun dJ13_copyOf_9

theorem m_J13_copyOf {l : Launch} {D : va_G} {Hs : Heap} {h : Hp} {rr : (Nat ⊕ Ex) × Hp} (hl9 : l.stackTraces = false) {x0 : Nat} {x1 : Int32} (hrun : f_J13_copyOf x0 x1 h = some rr) : CM l yJ13_copyOf (ws_ yJ13_copyOf cJ13_copyOf 2 (some (.array (.object "java/lang/Object")))) 3 223 iR [rv x0, .int x1] D Hs h rr := by
  refine CM.of (lv := [(0, rv x0), (1, .int x1)]) (by decide +kernel) hl9 (by simp [lv_args, rv_cat, cat_i, cat_l, cat_f, cat_d]) (by simp [lg_sl, rv_cat, cat_i, cat_l, cat_f, cat_d]) ?_
  intro p e R s m args below meth c H ls C hH hl hin
  exact b_J13_copyOf C x0 x1 _ H [] _ _ ls hH (fun _ q => nomatch q) (lv_sub hl [0, 1] rfl) hrun
end WK1

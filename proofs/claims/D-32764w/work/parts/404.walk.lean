section WK4
variable {p : Program} {l : Launch} {e : Env} {R : Room} {s : State} {m : MethodId} {args : Array Value} {below : List Frame} {meth : Method} {c : Code} {D : va_G} {Hs : Heap} {F X : Nat}
/-! Massclaim.personAt(II)I -/
def f_X1_personAt_188  (y0 : Int32) (h : Hp) : Rt Int32 :=
  some (.inl y0, h)
def f_X1_personAt  (x0 : Nat) (x1 : Int32) (x2 : Int32) (h : Hp) : Rt Int32 :=
  gd (kC h x0 = 1) <| gd (kC h (kR h 0 x0) = 2) <| bd (f_X2_at (kR h 0 x0) x1 h) fun v2 h3 => gd (v2 = 0 ∨ kC h3 v2 = 5) <| bd (f_X1_isIn (x2.toInt64) (0 : Int64) (8 : Int64) h3) fun v6 h7 => bd (f_X1_requireArgument v6 h7) fun _ h9 => if x2 = (0 : Int32) then
  (gd (kC h9 v2 = 5) <| f_X1_personAt_188 (kI h9 405 v2) h9)
  else
  if x2 = (1 : Int32) then
  (gd (kC h9 v2 = 5) <| bd (f_X5_isMember v2 h9) fun v11 h12 => if v11 = 0 then
  (f_X1_personAt_188 (0 : Int32) h12)
  else
  (f_X1_personAt_188 (1 : Int32) h12))
  else
  if x2 = (2 : Int32) then
  (gd (kC h9 v2 = 5) <| bd (f_X5_subclass v2 h9) fun v14 h15 => if v14 = 0 then
  (f_X1_personAt_188 (-1 : Int32) h15)
  else
  (gd (kC h15 v2 = 5) <| bd (f_X5_subclass v2 h15) fun v17 h18 => gd (kC h18 v17 = 7) <| f_X1_personAt_188 (kI h18 600 v17) h18))
  else
  if x2 = (3 : Int32) then
  (gd (kC h9 v2 = 5) <| f_X1_personAt_188 (kI h9 407 v2) h9)
  else
  if x2 = (4 : Int32) then
  (gd (kC h9 v2 = 5) <| bd (f_X5_isBarred v2 h9) fun v22 h23 => if v22 = 0 then
  (f_X1_personAt_188 (0 : Int32) h23)
  else
  (f_X1_personAt_188 (1 : Int32) h23))
  else
  if x2 = (5 : Int32) then
  (gd (kC h9 v2 = 5) <| f_X1_personAt_188 (kI h9 410 v2) h9)
  else
  if x2 = (6 : Int32) then
  (gd (kC h9 v2 = 5) <| if (kR h9 415 v2) = 0 then
  (f_X1_personAt_188 (-1 : Int32) h9)
  else
  (gd (kC h9 (kR h9 415 v2) = 12) <| f_X1_personAt_188 (kI h9 1100 (kR h9 415 v2)) h9))
  else
  if x2 = (7 : Int32) then
  (gd (kC h9 x0 = 1) <| gd (kC h9 v2 = 5) <| bd (f_X5_age v2 (kI h9 18 x0) h9) fun v29 h30 => f_X1_personAt_188 v29 h30)
  else
  (gd (kC h9 v2 = 5) <| if (kI h9 408 v2) = 0 then
  (f_X1_personAt_188 (0 : Int32) h9)
  else
  (f_X1_personAt_188 (1 : Int32) h9))
theorem b_X1_personAt_188 {rr : (Int32 ⊕ Ex) × Hp}  (C : CX p l R s m args meth c D Hs cX1_personAt "Massclaim" 4 (some .int) [] 9 354)  : ∀ (y0 : Int32) (h : Hp) (H : Heap) (locs : List Loc) (cells slots : Nat) (ls : Array Slot), HP D Hs h H → LO Hs locs → lv_has ls 4 [] → f_X1_personAt_188 y0 h = some rr → W p l e R s m args below meth c H locs cells slots (ZM D Hs iI rr below args s) (F0 m 188 ls [.int y0]) := by
  obtain ⟨⟨hx, hb, hml, hown, hts⟩, -⟩ := id C
  have hl9 := C.2.1.2.2.1
  intro y0 h H locs cells slots ls hH hL hl hrun
  unfold f_X1_personAt_188 at hrun
  exact V_iret (pc := 188) C hH hL hrun dX1_personAt_188

theorem b_X1_personAt {rr : (Int32 ⊕ Ex) × Hp}  (C : CX p l R s m args meth c D Hs cX1_personAt "Massclaim" 4 (some .int) [] 9 354)  : ∀ (x0 : Nat) (x1 : Int32) (x2 : Int32) (h : Hp) (H : Heap) (locs : List Loc) (cells slots : Nat) (ls : Array Slot), HP D Hs h H → LO Hs locs → lv_has ls 4 [(0, rv x0), (1, .int x1), (2, .int x2)] → f_X1_personAt x0 x1 x2 h = some rr → W p l e R s m args below meth c H locs cells slots (ZM D Hs iI rr below args s) (F0 m 0 ls []) := by
  obtain ⟨⟨hx, hb, hml, hown, hts⟩, -⟩ := id C
  have hl9 := C.2.1.2.2.1
  intro x0 x1 x2 h H locs cells slots ls hH hL hl hrun
  unfold f_X1_personAt at hrun
  refine V_aload_n (pc := 0) hx hb dX1_personAt_0 rfl (lv_at hl 0 rfl) ?_
  obtain ⟨c1, hrun⟩ := gd_some hrun
  refine V_getR (pc := 1) C hH fr_X1_42 dX1_personAt_1 c1 rfl ?_
  refine lv_iload_n (pc := 4) hx hb dX1_personAt_4 rfl (lv_at hl 1 rfl) ?_
  obtain ⟨c4, hrun⟩ := gd_some hrun
  refine V_bd (pc := 5) C hL rfl hrun (fun rr1 e1 => Z_runV (rest := []) C hH (m_X2_at hl9 e1) wV_X1_136 c4 rfl (by decide) rfl rfl ⟨by decide, by decide⟩ rfl (Nat.le_of_ble_eq_true rfl) hl.1 dX1_personAt_5) (fun v2 h3 H locs cells slots hH hL hrun => ?_)
  obtain ⟨c5, hrun⟩ := gd_some hrun
  refine V_castX (pc := 8) (ci := 4) C hH rfl (by decide) q376 dX1_personAt_8 c5 ?_
  refine V_astore_n (i := 3) (lv' := [(3, rv v2), (0, rv x0), (1, .int x1), (2, .int x2)]) (pc := 11) hx hb dX1_personAt_11 rfl hl (by decide) rfl (fun ls hl => ?_)
  refine lv_iload_n (pc := 12) hx hb dX1_personAt_12 rfl (lv_at hl 3 rfl) ?_
  refine lv_i2l (pc := 13) hx hb dX1_personAt_13 rfl ?_
  refine lv_lconst (v := (0 : Int64)) (pc := 14) hx hb dX1_personAt_14 (by decide) ?_
  refine lv_ldc2 (pc := 15) hx hb hown (hts _ q935) dX1_personAt_15 ?_
  refine V_bd (pc := 18) C hL rfl hrun (fun rr1 e1 => Z_runS (rest := []) C hH (m_X1_isIn hl9 e1) wS_X1_127 rfl ⟨by decide, by decide⟩ rfl (Nat.le_of_ble_eq_true rfl) hl.1 dX1_personAt_18) (fun v6 h7 H locs cells slots hH hL hrun => ?_)
  refine V_bd (pc := 21) C hL rfl hrun (fun rr1 e1 => Z_runS (rest := []) C hH (m_X1_requireArgument hl9 e1) wS_X1_131 rfl ⟨by decide, by decide⟩ rfl (Nat.le_of_ble_eq_true rfl) hl.1 dX1_personAt_21) (fun _ h9 H locs cells slots hH hL hrun => ?_)
  refine lv_iload_n (pc := 24) hx hb dX1_personAt_24 rfl (lv_at hl 3 rfl) ?_
  by_cases n0 : x2 = (0 : Int32)
  · have hrun := ite_t hrun n0
    refine lv_tableIn (pc := 25) (off := 47) (tgt := 72) hx hb dX1_personAt_25 (by rw [n0]; decide) (by rw [n0]; decide) (by rw [n0]; decide) (by decide) ?_
    refine V_aload_n (pc := 72) hx hb dX1_personAt_72 rfl (lv_at hl 0 rfl) ?_
    obtain ⟨c10, hrun⟩ := gd_some hrun
    refine V_getNI (pc := 73) C hH fn_X1_145 dX1_personAt_73 c10 rfl ?_
    refine lv_goto (tgt := 188) (pc := 76) hx hb dX1_personAt_76 (by decide) ?_
    exact b_X1_personAt_188 C (kI h9 405 v2) h9 H locs cells slots ls hH hL (lv_sub hl [] rfl) hrun
  have hrun := ite_f hrun n0
  by_cases n1 : x2 = (1 : Int32)
  · have hrun := ite_t hrun n1
    refine lv_tableIn (pc := 25) (off := 54) (tgt := 79) hx hb dX1_personAt_25 (by rw [n1]; decide) (by rw [n1]; decide) (by rw [n1]; decide) (by decide) ?_
    refine V_aload_n (pc := 79) hx hb dX1_personAt_79 rfl (lv_at hl 0 rfl) ?_
    obtain ⟨c13, hrun⟩ := gd_some hrun
    refine V_bd (pc := 80) C hL rfl hrun (fun rr1 e1 => Z_runV (rest := []) C hH (m_X5_isMember hl9 e1) wV_X1_148 c13 rfl (by decide) rfl rfl ⟨by decide, by decide⟩ rfl (Nat.le_of_ble_eq_true rfl) hl.1 dX1_personAt_80) (fun v11 h12 H locs cells slots hH hL hrun => ?_)
    refine lv_if_eq (tgt := 90) (pc := 83) hx hb dX1_personAt_83 (by decide) (fun c_ => ?_) (fun c_ => ?_)
    · have hrun := ite_t hrun c_
      refine lv_iconst (v := (0 : Int32)) (pc := 90) hx hb dX1_personAt_90 (by decide) ?_
      refine lv_goto (tgt := 188) (pc := 91) hx hb dX1_personAt_91 (by decide) ?_
      exact b_X1_personAt_188 C (0 : Int32) h12 H locs cells slots ls hH hL (lv_sub hl [] rfl) hrun
    · have hrun := ite_f hrun c_
      refine lv_iconst (v := (1 : Int32)) (pc := 86) hx hb dX1_personAt_86 (by decide) ?_
      refine lv_goto (tgt := 188) (pc := 87) hx hb dX1_personAt_87 (by decide) ?_
      exact b_X1_personAt_188 C (1 : Int32) h12 H locs cells slots ls hH hL (lv_sub hl [] rfl) hrun
  have hrun := ite_f hrun n1
  by_cases n2 : x2 = (2 : Int32)
  · have hrun := ite_t hrun n2
    refine lv_tableIn (pc := 25) (off := 69) (tgt := 94) hx hb dX1_personAt_25 (by rw [n2]; decide) (by rw [n2]; decide) (by rw [n2]; decide) (by decide) ?_
    refine V_aload_n (pc := 94) hx hb dX1_personAt_94 rfl (lv_at hl 0 rfl) ?_
    obtain ⟨c16, hrun⟩ := gd_some hrun
    refine V_bd (pc := 95) C hL rfl hrun (fun rr1 e1 => Z_runV (rest := []) C hH (m_X5_subclass hl9 e1) wV_X1_238 c16 rfl (by decide) rfl rfl ⟨by decide, by decide⟩ rfl (Nat.le_of_ble_eq_true rfl) hl.1 dX1_personAt_95) (fun v14 h15 H locs cells slots hH hL hrun => ?_)
    refine V_ifnonnull (tgt := 105) (pc := 98) hx hb dX1_personAt_98 (by decide) hrun (fun c_ hrun => ?_) (fun c_ hrun => ?_)
    · refine V_aload_n (pc := 105) hx hb dX1_personAt_105 rfl (lv_at hl 0 rfl) ?_
      obtain ⟨c19, hrun⟩ := gd_some hrun
      refine V_bd (pc := 106) C hL rfl hrun (fun rr1 e1 => Z_runV (rest := []) C hH (m_X5_subclass hl9 e1) wV_X1_238 c19 rfl (by decide) rfl rfl ⟨by decide, by decide⟩ rfl (Nat.le_of_ble_eq_true rfl) hl.1 dX1_personAt_106) (fun v17 h18 H locs cells slots hH hL hrun => ?_)
      obtain ⟨c20, hrun⟩ := gd_some hrun
      refine V_getNI (pc := 109) C hH fn_X1_242 dX1_personAt_109 c20 rfl ?_
      refine lv_goto (tgt := 188) (pc := 112) hx hb dX1_personAt_112 (by decide) ?_
      exact b_X1_personAt_188 C (kI h18 600 v17) h18 H locs cells slots ls hH hL (lv_sub hl [] rfl) hrun
    · refine lv_iconst (v := (-1 : Int32)) (pc := 101) hx hb dX1_personAt_101 (by decide) ?_
      refine lv_goto (tgt := 188) (pc := 102) hx hb dX1_personAt_102 (by decide) ?_
      exact b_X1_personAt_188 C (-1 : Int32) h15 H locs cells slots ls hH hL (lv_sub hl [] rfl) hrun
  have hrun := ite_f hrun n2
  by_cases n3 : x2 = (3 : Int32)
  · have hrun := ite_t hrun n3
    refine lv_tableIn (pc := 25) (off := 90) (tgt := 115) hx hb dX1_personAt_25 (by rw [n3]; decide) (by rw [n3]; decide) (by rw [n3]; decide) (by decide) ?_
    refine V_aload_n (pc := 115) hx hb dX1_personAt_115 rfl (lv_at hl 0 rfl) ?_
    obtain ⟨c21, hrun⟩ := gd_some hrun
    refine V_getNI (pc := 116) C hH fn_X1_142 dX1_personAt_116 c21 rfl ?_
    refine lv_goto (tgt := 188) (pc := 119) hx hb dX1_personAt_119 (by decide) ?_
    exact b_X1_personAt_188 C (kI h9 407 v2) h9 H locs cells slots ls hH hL (lv_sub hl [] rfl) hrun
  have hrun := ite_f hrun n3
  by_cases n4 : x2 = (4 : Int32)
  · have hrun := ite_t hrun n4
    refine lv_tableIn (pc := 25) (off := 97) (tgt := 122) hx hb dX1_personAt_25 (by rw [n4]; decide) (by rw [n4]; decide) (by rw [n4]; decide) (by decide) ?_
    refine V_aload_n (pc := 122) hx hb dX1_personAt_122 rfl (lv_at hl 0 rfl) ?_
    obtain ⟨c24, hrun⟩ := gd_some hrun
    refine V_bd (pc := 123) C hL rfl hrun (fun rr1 e1 => Z_runV (rest := []) C hH (m_X5_isBarred hl9 e1) wV_X1_245 c24 rfl (by decide) rfl rfl ⟨by decide, by decide⟩ rfl (Nat.le_of_ble_eq_true rfl) hl.1 dX1_personAt_123) (fun v22 h23 H locs cells slots hH hL hrun => ?_)
    refine lv_if_eq (tgt := 133) (pc := 126) hx hb dX1_personAt_126 (by decide) (fun c_ => ?_) (fun c_ => ?_)
    · have hrun := ite_t hrun c_
      refine lv_iconst (v := (0 : Int32)) (pc := 133) hx hb dX1_personAt_133 (by decide) ?_
      refine lv_goto (tgt := 188) (pc := 134) hx hb dX1_personAt_134 (by decide) ?_
      exact b_X1_personAt_188 C (0 : Int32) h23 H locs cells slots ls hH hL (lv_sub hl [] rfl) hrun
    · have hrun := ite_f hrun c_
      refine lv_iconst (v := (1 : Int32)) (pc := 129) hx hb dX1_personAt_129 (by decide) ?_
      refine lv_goto (tgt := 188) (pc := 130) hx hb dX1_personAt_130 (by decide) ?_
      exact b_X1_personAt_188 C (1 : Int32) h23 H locs cells slots ls hH hL (lv_sub hl [] rfl) hrun
  have hrun := ite_f hrun n4
  by_cases n5 : x2 = (5 : Int32)
  · have hrun := ite_t hrun n5
    refine lv_tableIn (pc := 25) (off := 112) (tgt := 137) hx hb dX1_personAt_25 (by rw [n5]; decide) (by rw [n5]; decide) (by rw [n5]; decide) (by decide) ?_
    refine V_aload_n (pc := 137) hx hb dX1_personAt_137 rfl (lv_at hl 0 rfl) ?_
    obtain ⟨c25, hrun⟩ := gd_some hrun
    refine V_getNI (pc := 138) C hH fn_X1_248 dX1_personAt_138 c25 rfl ?_
    refine lv_goto (tgt := 188) (pc := 141) hx hb dX1_personAt_141 (by decide) ?_
    exact b_X1_personAt_188 C (kI h9 410 v2) h9 H locs cells slots ls hH hL (lv_sub hl [] rfl) hrun
  have hrun := ite_f hrun n5
  by_cases n6 : x2 = (6 : Int32)
  · have hrun := ite_t hrun n6
    refine lv_tableIn (pc := 25) (off := 119) (tgt := 144) hx hb dX1_personAt_25 (by rw [n6]; decide) (by rw [n6]; decide) (by rw [n6]; decide) (by decide) ?_
    refine V_aload_n (pc := 144) hx hb dX1_personAt_144 rfl (lv_at hl 0 rfl) ?_
    obtain ⟨c26, hrun⟩ := gd_some hrun
    refine V_getNR (pc := 145) C hH fn_X1_251 dX1_personAt_145 c26 rfl ?_
    refine V_ifnonnull (tgt := 155) (pc := 148) hx hb dX1_personAt_148 (by decide) hrun (fun c_ hrun => ?_) (fun c_ hrun => ?_)
    · refine V_aload_n (pc := 155) hx hb dX1_personAt_155 rfl (lv_at hl 0 rfl) ?_
      refine V_getNR (pc := 156) C hH fn_X1_251 dX1_personAt_156 c26 rfl ?_
      obtain ⟨c27, hrun⟩ := gd_some hrun
      refine V_getNI (pc := 159) C hH fn_X1_255 dX1_personAt_159 c27 rfl ?_
      refine lv_goto (tgt := 188) (pc := 162) hx hb dX1_personAt_162 (by decide) ?_
      exact b_X1_personAt_188 C (kI h9 1100 (kR h9 415 v2)) h9 H locs cells slots ls hH hL (lv_sub hl [] rfl) hrun
    · refine lv_iconst (v := (-1 : Int32)) (pc := 151) hx hb dX1_personAt_151 (by decide) ?_
      refine lv_goto (tgt := 188) (pc := 152) hx hb dX1_personAt_152 (by decide) ?_
      exact b_X1_personAt_188 C (-1 : Int32) h9 H locs cells slots ls hH hL (lv_sub hl [] rfl) hrun
  have hrun := ite_f hrun n6
  by_cases n7 : x2 = (7 : Int32)
  · have hrun := ite_t hrun n7
    refine lv_tableIn (pc := 25) (off := 140) (tgt := 165) hx hb dX1_personAt_25 (by rw [n7]; decide) (by rw [n7]; decide) (by rw [n7]; decide) (by decide) ?_
    refine V_aload_n (pc := 165) hx hb dX1_personAt_165 rfl (lv_at hl 0 rfl) ?_
    refine V_aload_n (pc := 166) hx hb dX1_personAt_166 rfl (lv_at hl 1 rfl) ?_
    obtain ⟨c28, hrun⟩ := gd_some hrun
    refine V_getI (pc := 167) C hH fr_X1_115 dX1_personAt_167 c28 rfl ?_
    obtain ⟨c31, hrun⟩ := gd_some hrun
    refine V_bd (pc := 170) C hL rfl hrun (fun rr1 e1 => Z_runV (rest := []) C hH (m_X5_age hl9 e1) wV_X1_256 c31 rfl (by decide) rfl rfl ⟨by decide, by decide⟩ rfl (Nat.le_of_ble_eq_true rfl) hl.1 dX1_personAt_170) (fun v29 h30 H locs cells slots hH hL hrun => ?_)
    refine lv_goto (tgt := 188) (pc := 173) hx hb dX1_personAt_173 (by decide) ?_
    exact b_X1_personAt_188 C v29 h30 H locs cells slots ls hH hL (lv_sub hl [] rfl) hrun
  have hrun := ite_f hrun n7
  refine lv_tableOut (pc := 25) (tgt := 176) hx hb dX1_personAt_25 (sw_out [0, 1, 2, 3, 4, 5, 6, 7] (by decide) (by decide) ⟨by decide, by decide⟩ (List.forall_mem_cons.mpr ⟨sw_ne (v := (0 : Int32)) (by decide) n0, (List.forall_mem_cons.mpr ⟨sw_ne (v := (1 : Int32)) (by decide) n1, (List.forall_mem_cons.mpr ⟨sw_ne (v := (2 : Int32)) (by decide) n2, (List.forall_mem_cons.mpr ⟨sw_ne (v := (3 : Int32)) (by decide) n3, (List.forall_mem_cons.mpr ⟨sw_ne (v := (4 : Int32)) (by decide) n4, (List.forall_mem_cons.mpr ⟨sw_ne (v := (5 : Int32)) (by decide) n5, (List.forall_mem_cons.mpr ⟨sw_ne (v := (6 : Int32)) (by decide) n6, (List.forall_mem_cons.mpr ⟨sw_ne (v := (7 : Int32)) (by decide) n7, (fun _ z => nomatch z)⟩)⟩)⟩)⟩)⟩)⟩)⟩)⟩)) (by decide) ?_
  refine V_aload_n (pc := 176) hx hb dX1_personAt_176 rfl (lv_at hl 0 rfl) ?_
  obtain ⟨c32, hrun⟩ := gd_some hrun
  refine V_getNI (pc := 177) C hH fn_X1_260 dX1_personAt_177 c32 rfl ?_
  refine lv_if_eq (tgt := 187) (pc := 180) hx hb dX1_personAt_180 (by decide) (fun c_ => ?_) (fun c_ => ?_)
  · have hrun := ite_t hrun c_
    refine lv_iconst (v := (0 : Int32)) (pc := 187) hx hb dX1_personAt_187 (by decide) ?_
    exact b_X1_personAt_188 C (0 : Int32) h9 H locs cells slots ls hH hL (lv_sub hl [] rfl) hrun
  · have hrun := ite_f hrun c_
    refine lv_iconst (v := (1 : Int32)) (pc := 183) hx hb dX1_personAt_183 (by decide) ?_
    refine lv_goto (tgt := 188) (pc := 184) hx hb dX1_personAt_184 (by decide) ?_
    exact b_X1_personAt_188 C (1 : Int32) h9 H locs cells slots ls hH hL (lv_sub hl [] rfl) hrun

theorem m_X1_personAt {l : Launch} {D : va_G} {Hs : Heap} {h : Hp} {rr : (Int32 ⊕ Ex) × Hp} (hl9 : l.stackTraces = false) {x0 : Nat} {x1 : Int32} {x2 : Int32} (hrun : f_X1_personAt x0 x1 x2 h = some rr) : CM l yX1_personAt (ws_ yX1_personAt cX1_personAt 4 (some .int)) 9 354 iI [rv x0, .int x1, .int x2] D Hs h rr := by
  refine CM.of (lv := [(0, rv x0), (1, .int x1), (2, .int x2)]) (plainFor_of_name (by decide)) hl9 (by simp [lv_args, rv_cat, cat_i, cat_l, cat_f, cat_d]) (by simp [lg_sl, rv_cat, cat_i, cat_l, cat_f, cat_d]) ?_
  intro p e R s m args below meth c H ls C hH hl hin
  exact b_X1_personAt C x0 x1 x2 _ H [] _ _ ls hH (fun _ q => nomatch q) (lv_sub hl [0, 1, 2] rfl) hrun

/-! MassclaimLaw.personAt(LMassclaim;II[J)I -/
def f_X0_personAt_13  (y0 : Nat) (h : Hp) : Rt Int32 :=
  some (.inl (1 : Int32), h)
def f_X0_personAt_17  (y0 : Nat) (h : Hp) : Rt Int32 :=
  some (.inl (2 : Int32), h)
def f_X0_personAt  (x0 : Nat) (x1 : Int32) (x2 : Int32) (x3 : Nat) (h : Hp) : Rt Int32 :=
  gd (kC h x0 = 1) <| bdH (f_X1_personAt x0 x1 x2 h)
  (fun v1 h2 => gd (kC h2 x3 = 102 ∧ ixo (0 : Int32) (kN h2 x3)) <| vl (tL h2 x3 ((0 : Int32)).toNatClampNeg (v1.toInt64)) fun h5 => some (.inl (0 : Int32), h5))
  (fun ex6 h7 => if ex6.1 = 901 then
  (f_X0_personAt_13 ex6.2 h7)
  else
  if ex6.1 = 902 then
  (f_X0_personAt_17 ex6.2 h7)
  else
  none)
theorem b_X0_personAt_13 {rr : (Int32 ⊕ Ex) × Hp}  (C : CX p l R s m args meth c D Hs cX0_personAt "MassclaimLaw" 5 (some .int) [(0, 10, 13, 25), (0, 10, 17, 13)] 10 377)  : ∀ (y0 : Nat) (h : Hp) (H : Heap) (locs : List Loc) (cells slots : Nat) (ls : Array Slot), HP D Hs h H → LO Hs locs → lv_has ls 5 [] → f_X0_personAt_13 y0 h = some rr → W p l e R s m args below meth c H locs cells slots (ZM D Hs iI rr below args s) (F0 m 13 ls [rv y0]) := by
  obtain ⟨⟨hx, hb, hml, hown, hts⟩, -⟩ := id C
  have hl9 := C.2.1.2.2.1
  intro y0 h H locs cells slots ls hH hL hl hrun
  unfold f_X0_personAt_13 at hrun
  refine V_astore (i := 4) (lv' := [(4, rv y0)]) (pc := 13) hx hb dX0_personAt_13 hl (by decide) rfl (fun ls hl => ?_)
  refine lv_iconst (v := (1 : Int32)) (pc := 15) hx hb dX0_personAt_15 (by decide) ?_
  exact V_iret (pc := 16) C hH hL hrun dX0_personAt_16

theorem b_X0_personAt_17 {rr : (Int32 ⊕ Ex) × Hp}  (C : CX p l R s m args meth c D Hs cX0_personAt "MassclaimLaw" 5 (some .int) [(0, 10, 13, 25), (0, 10, 17, 13)] 10 377)  : ∀ (y0 : Nat) (h : Hp) (H : Heap) (locs : List Loc) (cells slots : Nat) (ls : Array Slot), HP D Hs h H → LO Hs locs → lv_has ls 5 [] → f_X0_personAt_17 y0 h = some rr → W p l e R s m args below meth c H locs cells slots (ZM D Hs iI rr below args s) (F0 m 17 ls [rv y0]) := by
  obtain ⟨⟨hx, hb, hml, hown, hts⟩, -⟩ := id C
  have hl9 := C.2.1.2.2.1
  intro y0 h H locs cells slots ls hH hL hl hrun
  unfold f_X0_personAt_17 at hrun
  refine V_astore (i := 4) (lv' := [(4, rv y0)]) (pc := 17) hx hb dX0_personAt_17 hl (by decide) rfl (fun ls hl => ?_)
  refine lv_iconst (v := (2 : Int32)) (pc := 19) hx hb dX0_personAt_19 (by decide) ?_
  exact V_iret (pc := 20) C hH hL hrun dX0_personAt_20

theorem b_X0_personAt {rr : (Int32 ⊕ Ex) × Hp}  (C : CX p l R s m args meth c D Hs cX0_personAt "MassclaimLaw" 5 (some .int) [(0, 10, 13, 25), (0, 10, 17, 13)] 10 377)  : ∀ (x0 : Nat) (x1 : Int32) (x2 : Int32) (x3 : Nat) (h : Hp) (H : Heap) (locs : List Loc) (cells slots : Nat) (ls : Array Slot), HP D Hs h H → LO Hs locs → lv_has ls 5 [(0, rv x0), (1, .int x1), (2, .int x2), (3, rv x3)] → f_X0_personAt x0 x1 x2 x3 h = some rr → W p l e R s m args below meth c H locs cells slots (ZM D Hs iI rr below args s) (F0 m 0 ls []) := by
  obtain ⟨⟨hx, hb, hml, hown, hts⟩, -⟩ := id C
  have hl9 := C.2.1.2.2.1
  intro x0 x1 x2 x3 h H locs cells slots ls hH hL hl hrun
  unfold f_X0_personAt at hrun
  refine V_aload_n (pc := 0) hx hb dX0_personAt_0 rfl (lv_at hl 3 rfl) ?_
  refine lv_iconst (v := (0 : Int32)) (pc := 1) hx hb dX0_personAt_1 (by decide) ?_
  refine V_aload_n (pc := 2) hx hb dX0_personAt_2 rfl (lv_at hl 0 rfl) ?_
  refine lv_iload_n (pc := 3) hx hb dX0_personAt_3 rfl (lv_at hl 1 rfl) ?_
  refine lv_iload_n (pc := 4) hx hb dX0_personAt_4 rfl (lv_at hl 2 rfl) ?_
  obtain ⟨c3, hrun⟩ := gd_some hrun
  refine V_bdH (pc := 5) hL hrun (fun rr1 e1 => Z_runV (rest := [.int (0 : Int32), rv x3]) C hH (m_X1_personAt hl9 e1) wV_X0_39 c3 rfl (by decide) rfl rfl ⟨by decide, by decide⟩ rfl (by simp [csum, rv_cat, cat_i, cat_l, cat_f, cat_d]) hl.1 dX0_personAt_5) (fun v1 h2 H locs cells slots hH hL hrun => ?_) (fun x_ q_ ce_ h7 H locs cells slots hH hL hrun hc_ hv_ hcl_ => ?_)
  · refine lv_i2l (pc := 8) hx hb dX0_personAt_8 rfl ?_
    obtain ⟨c4, hrun⟩ := gd_some hrun
    refine V_last (pc := 9) C hH hL dX0_personAt_9 c4 hrun (fun h5 H locs hH hL hrun => ?_)
    refine lv_goto (tgt := 21) (pc := 10) hx hb dX0_personAt_10 (by decide) ?_
    refine lv_iconst (v := (0 : Int32)) (pc := 21) hx hb dX0_personAt_21 (by decide) ?_
    exact V_iret (pc := 22) C hH hL hrun dX0_personAt_22
  · by_cases n901 : x_ = 901
    · subst n901
      have hrun := ite_t hrun rfl
      refine vx_catch (E := "java/lang/IndexOutOfBoundsException") (name := "java/lang/IndexOutOfBoundsException") hown (tableOf []) ⟨0, 10, 13, 25⟩ (tableOf [(0, 10, 17, 13)]) (by rw [C.2.1.2.2.2.2]; rfl) (fun z hz => nomatch hz) (by decide) (by decide) (hts _ q829) (va_Nw.use rfl (C.2.1.2.2.2.1.2.1 _ q537 rfl)) hc_ hv_ hcl_ ?_
      exact b_X0_personAt_13 C (q_ + 1) h7 H locs cells slots ls hH hL (lv_sub hl [] rfl) hrun
    have hrun := ite_f hrun n901
    by_cases n902 : x_ = 902
    · subst n902
      have hrun := ite_t hrun rfl
      refine vx_catch (E := "java/lang/IllegalArgumentException") (name := "java/lang/IllegalArgumentException") hown (tableOf [(0, 10, 13, 25)]) ⟨0, 10, 17, 13⟩ (tableOf []) (by rw [C.2.1.2.2.2.2]; rfl) (fun z hz => by simp only [tableOf, List.map, List.mem_cons, List.not_mem_nil, or_false] at hz; rcases hz with rfl <;> first | exact Or.inr ⟨by decide, "java/lang/IndexOutOfBoundsException", hts _ q829, nc_at C (by decide)⟩) (by decide) (by decide) (hts _ q449) (va_Nw.use rfl (C.2.1.2.2.2.1.2.1 _ q463 rfl)) hc_ hv_ hcl_ ?_
      exact b_X0_personAt_17 C (q_ + 1) h7 H locs cells slots ls hH hL (lv_sub hl [] rfl) hrun
    have hrun := ite_f hrun n902
    cases hrun

theorem m_X0_personAt {l : Launch} {D : va_G} {Hs : Heap} {h : Hp} {rr : (Int32 ⊕ Ex) × Hp} (hl9 : l.stackTraces = false) {x0 : Nat} {x1 : Int32} {x2 : Int32} {x3 : Nat} (hrun : f_X0_personAt x0 x1 x2 x3 h = some rr) : CM l yX0_personAt (wsW_ yX0_personAt cX0_personAt 5 (some .int) [(0, 10, 13, 25), (0, 10, 17, 13)]) 10 377 iI [rv x0, .int x1, .int x2, rv x3] D Hs h rr := by
  refine CM.ofH (lv := [(0, rv x0), (1, .int x1), (2, .int x2), (3, rv x3)]) (plainFor_of_name (by decide)) hl9 (by simp [lv_args, rv_cat, cat_i, cat_l, cat_f, cat_d]) (by simp [lg_sl, rv_cat, cat_i, cat_l, cat_f, cat_d]) ?_
  intro p e R s m args below meth c H ls C hH hl hin
  exact b_X0_personAt C x0 x1 x2 x3 _ H [] _ _ ls hH (fun _ q => nomatch q) (lv_sub hl [0, 1, 2, 3] rfl) hrun

/-! MassclaimModel.subclassOf(LMassclaimModel$Person;)I -/
def f_X4_subclassOf_75  (x2 : Int32) (h : Hp) : Rt Int32 :=
  some (.inl x2, h)
def f_X4_subclassOf_68 (k12 : Nat → Nat → Int32 → Int32 → Hp → Rt Int32) (x0 : Nat) (x1 : Nat) (x3 : Int32) (y0 : Int32) (h : Hp) : Rt Int32 :=
  vl (x3 + (-1 : Int32)) fun v1 => k12 x0 x1 y0 v1 h
def f_X4_subclassOf_12  : Nat → Nat → Nat → Int32 → Int32 → Hp → Rt Int32
  | 0, _, _, _, _, _ => none
  | n + 1, x0, x1, x2, x3, h => if x3 < 0 then
  (f_X4_subclassOf_75 x2 h)
  else
  (gd (kC h x0 = 4) <| bd (f_X4_isIn x0 x1 h) fun v2 h3 => if v2 = 0 then
  (f_X4_subclassOf_75 x2 h3)
  else
  (gd (kC h3 x1 = 6) <| gd (kC h3 x0 = 4) <| gd (kC h3 (kR h3 307 x0) = 18) <| bd (f_J2_get (kR h3 307 x0) x3 h3) fun v7 h8 => gd (kC h8 v7 = 101) <| gd (kC h8 v7 = 101 ∧ ixo (0 : Int32) (kN h8 v7)) <| gd (kC h8 x0 = 4) <| gd (kC h8 (kR h8 307 x0) = 18) <| bd (f_J2_get (kR h8 307 x0) x3 h8) fun v13 h14 => gd (kC h14 v13 = 101) <| gd (kC h14 v13 = 101 ∧ ixo (1 : Int32) (kN h14 v13)) <| bd (f_X4_isWithin ((kI h3 504 x1).toInt64) ((jI h8 v7 ((0 : Int32)).toNatClampNeg).toInt64) ((jI h14 v13 ((1 : Int32)).toNatClampNeg).toInt64) h14) fun v18 h19 => if v18 = 0 then
  (f_X4_subclassOf_68 (f_X4_subclassOf_12 n) x0 x1 x3 x2 h19)
  else
  (f_X4_subclassOf_68 (f_X4_subclassOf_12 n) x0 x1 x3 x3 h19)))
def f_X4_subclassOf  (x0 : Nat) (x1 : Nat) (h : Hp) : Rt Int32 :=
  gd (kC h x0 = 4) <| gd (kC h (kR h 307 x0) = 18) <| bd (f_J2_size (kR h 307 x0) h) fun v21 h22 => vl (v21 - (1 : Int32)) fun v24 => f_X4_subclassOf_12 FU x0 x1 (-1 : Int32) v24 h22
theorem b_X4_subclassOf_75 {rr : (Int32 ⊕ Ex) × Hp}  (C : CX p l R s m args meth c D Hs cX4_subclassOf "MassclaimModel" 4 (some .int) [] 4 64)  : ∀ (x2 : Int32) (h : Hp) (H : Heap) (locs : List Loc) (cells slots : Nat) (ls : Array Slot), HP D Hs h H → LO Hs locs → lv_has ls 4 [(2, .int x2)] → f_X4_subclassOf_75 x2 h = some rr → W p l e R s m args below meth c H locs cells slots (ZM D Hs iI rr below args s) (F0 m 75 ls []) := by
  obtain ⟨⟨hx, hb, hml, hown, hts⟩, -⟩ := id C
  have hl9 := C.2.1.2.2.1
  intro x2 h H locs cells slots ls hH hL hl hrun
  unfold f_X4_subclassOf_75 at hrun
  refine lv_iload_n (pc := 75) hx hb dX4_subclassOf_75 rfl (lv_at hl 0 rfl) ?_
  exact V_iret (pc := 76) C hH hL hrun dX4_subclassOf_76

theorem b_X4_subclassOf_68 {rr : (Int32 ⊕ Ex) × Hp} {k12 : Nat → Nat → Int32 → Int32 → Hp → Rt Int32} (C : CX p l R s m args meth c D Hs cX4_subclassOf "MassclaimModel" 4 (some .int) [] 4 64) (K12 : ∀ (x0 : Nat) (x1 : Nat) (x2 : Int32) (x3 : Int32) (h : Hp) (H : Heap) (locs : List Loc) (cells slots : Nat) (ls : Array Slot), HP D Hs h H → LO Hs locs → lv_has ls 4 [(0, rv x0), (1, rv x1), (2, .int x2), (3, .int x3)] → k12 x0 x1 x2 x3 h = some rr → W p l e R s m args below meth c H locs cells slots (ZM D Hs iI rr below args s) (F0 m 12 ls [])) : ∀ (x0 : Nat) (x1 : Nat) (x3 : Int32) (y0 : Int32) (h : Hp) (H : Heap) (locs : List Loc) (cells slots : Nat) (ls : Array Slot), HP D Hs h H → LO Hs locs → lv_has ls 4 [(0, rv x0), (1, rv x1), (3, .int x3)] → f_X4_subclassOf_68 k12 x0 x1 x3 y0 h = some rr → W p l e R s m args below meth c H locs cells slots (ZM D Hs iI rr below args s) (F0 m 68 ls [.int y0]) := by
  obtain ⟨⟨hx, hb, hml, hown, hts⟩, -⟩ := id C
  have hl9 := C.2.1.2.2.1
  intro x0 x1 x3 y0 h H locs cells slots ls hH hL hl hrun
  unfold f_X4_subclassOf_68 at hrun
  refine lv_istore_n (i := 2) (lv' := [(2, .int y0), (0, rv x0), (1, rv x1), (3, .int x3)]) (pc := 68) hx hb dX4_subclassOf_68 rfl hl (by decide) (by simp [rv_cat, cat_i, cat_l, cat_f, cat_d]) (fun ls hl => ?_)
  obtain ⟨v1, ev1⟩ : ∃ y : Int32, y = x3 + (-1 : Int32) := ⟨_, rfl⟩
  have hrun := vl_at hrun v1 ev1
  refine lv_iinc (v := v1) (lv' := [(3, .int v1), (2, .int y0), (0, rv x0), (1, rv x1)]) (pc := 69) hx hb dX4_subclassOf_69 hl (k := 3) rfl (by rw [ev1]; rfl) (by decide) (by first | rfl | simp [rv_cat, cat_i, cat_l, cat_f, cat_d]) (fun ls hl => ?_)
  refine lv_goto (tgt := 12) (pc := 72) hx hb dX4_subclassOf_72 (by decide) ?_
  exact K12 x0 x1 y0 v1 h H locs cells slots ls hH hL (lv_sub hl [2, 3, 1, 0] rfl) hrun

theorem b_X4_subclassOf_12 {rr : (Int32 ⊕ Ex) × Hp}  (C : CX p l R s m args meth c D Hs cX4_subclassOf "MassclaimModel" 4 (some .int) [] 4 64)  : ∀ (n : Nat) (x0 : Nat) (x1 : Nat) (x2 : Int32) (x3 : Int32) (h : Hp) (H : Heap) (locs : List Loc) (cells slots : Nat) (ls : Array Slot), HP D Hs h H → LO Hs locs → lv_has ls 4 [(0, rv x0), (1, rv x1), (2, .int x2), (3, .int x3)] → f_X4_subclassOf_12 n x0 x1 x2 x3 h = some rr → W p l e R s m args below meth c H locs cells slots (ZM D Hs iI rr below args s) (F0 m 12 ls []) := by
  obtain ⟨⟨hx, hb, hml, hown, hts⟩, -⟩ := id C
  have hl9 := C.2.1.2.2.1
  intro n
  induction n with
  | zero =>
    intro x0 x1 x2 x3 h H locs cells slots ls hH hL hl hrun
    cases (show (none : Option _) = some rr from hrun)
  | succ n ih =>
    intro x0 x1 x2 x3 h H locs cells slots ls hH hL hl hrun
    rw [f_X4_subclassOf_12] at hrun
    refine lv_iload_n (pc := 12) hx hb dX4_subclassOf_12 rfl (lv_at hl 3 rfl) ?_
    refine lv_if_lt (tgt := 75) (pc := 13) hx hb dX4_subclassOf_13 (by decide) (fun c_ => ?_) (fun c_ => ?_)
    · have hrun := ite_t hrun c_
      exact b_X4_subclassOf_75 C x2 h H locs cells slots ls hH hL (lv_sub hl [2] rfl) hrun
    · have hrun := ite_f hrun c_
      refine V_aload_n (pc := 16) hx hb dX4_subclassOf_16 rfl (lv_at hl 0 rfl) ?_
      refine V_aload_n (pc := 17) hx hb dX4_subclassOf_17 rfl (lv_at hl 1 rfl) ?_
      obtain ⟨c4, hrun⟩ := gd_some hrun
      refine V_bd (pc := 18) C hL rfl hrun (fun rr1 e1 => Z_runV (rest := []) C hH (m_X4_isIn hl9 e1) wV_X4_120 c4 rfl (by decide) rfl rfl ⟨by decide, by decide⟩ rfl (Nat.le_of_ble_eq_true rfl) hl.1 dX4_subclassOf_18) (fun v2 h3 H locs cells slots hH hL hrun => ?_)
      refine lv_if_eq (tgt := 75) (pc := 21) hx hb dX4_subclassOf_21 (by decide) (fun c_ => ?_) (fun c_ => ?_)
      · have hrun := ite_t hrun c_
        exact b_X4_subclassOf_75 C x2 h3 H locs cells slots ls hH hL (lv_sub hl [2] rfl) hrun
      · have hrun := ite_f hrun c_
        refine V_aload_n (pc := 24) hx hb dX4_subclassOf_24 rfl (lv_at hl 1 rfl) ?_
        obtain ⟨c5, hrun⟩ := gd_some hrun
        refine V_getI (pc := 25) C hH fr_X4_117 dX4_subclassOf_25 c5 rfl ?_
        refine lv_i2l (pc := 28) hx hb dX4_subclassOf_28 rfl ?_
        refine V_aload_n (pc := 29) hx hb dX4_subclassOf_29 rfl (lv_at hl 0 rfl) ?_
        obtain ⟨c6, hrun⟩ := gd_some hrun
        refine V_getR (pc := 30) C hH fr_X4_20 dX4_subclassOf_30 c6 rfl ?_
        refine lv_iload_n (pc := 33) hx hb dX4_subclassOf_33 rfl (lv_at hl 3 rfl) ?_
        obtain ⟨c9, hrun⟩ := gd_some hrun
        refine V_bd (pc := 34) C hL rfl hrun (fun rr1 e1 => Z_runV (rest := [.long ((kI h3 504 x1).toInt64)]) C hH (m_J2_get hl9 e1) wV_X4_108 c9 rfl (by decide) rfl rfl ⟨by decide, by decide⟩ rfl (Nat.le_of_ble_eq_true rfl) hl.1 dX4_subclassOf_34) (fun v7 h8 H locs cells slots hH hL hrun => ?_)
        obtain ⟨c10, hrun⟩ := gd_some hrun
        refine V_castI (pc := 37) C hH q2109 dX4_subclassOf_37 c10 ?_
        refine lv_iconst (v := (0 : Int32)) (pc := 40) hx hb dX4_subclassOf_40 (by decide) ?_
        obtain ⟨c11, hrun⟩ := gd_some hrun
        refine V_iald (pc := 41) C hH dX4_subclassOf_41 c11 ?_
        refine lv_i2l (pc := 42) hx hb dX4_subclassOf_42 rfl ?_
        refine V_aload_n (pc := 43) hx hb dX4_subclassOf_43 rfl (lv_at hl 0 rfl) ?_
        obtain ⟨c12, hrun⟩ := gd_some hrun
        refine V_getR (pc := 44) C hH fr_X4_20 dX4_subclassOf_44 c12 rfl ?_
        refine lv_iload_n (pc := 47) hx hb dX4_subclassOf_47 rfl (lv_at hl 3 rfl) ?_
        obtain ⟨c15, hrun⟩ := gd_some hrun
        refine V_bd (pc := 48) C hL rfl hrun (fun rr1 e1 => Z_runV (rest := [.long ((jI h8 v7 ((0 : Int32)).toNatClampNeg).toInt64), .long ((kI h3 504 x1).toInt64)]) C hH (m_J2_get hl9 e1) wV_X4_108 c15 rfl (by decide) rfl rfl ⟨by decide, by decide⟩ rfl (Nat.le_of_ble_eq_true rfl) hl.1 dX4_subclassOf_48) (fun v13 h14 H locs cells slots hH hL hrun => ?_)
        obtain ⟨c16, hrun⟩ := gd_some hrun
        refine V_castI (pc := 51) C hH q2109 dX4_subclassOf_51 c16 ?_
        refine lv_iconst (v := (1 : Int32)) (pc := 54) hx hb dX4_subclassOf_54 (by decide) ?_
        obtain ⟨c17, hrun⟩ := gd_some hrun
        refine V_iald (pc := 55) C hH dX4_subclassOf_55 c17 ?_
        refine lv_i2l (pc := 56) hx hb dX4_subclassOf_56 rfl ?_
        refine V_bd (pc := 57) C hL rfl hrun (fun rr1 e1 => Z_runS (rest := []) C hH (m_X4_isWithin hl9 e1) wS_X4_100 rfl ⟨by decide, by decide⟩ rfl (Nat.le_of_ble_eq_true rfl) hl.1 dX4_subclassOf_57) (fun v18 h19 H locs cells slots hH hL hrun => ?_)
        refine lv_if_eq (tgt := 67) (pc := 60) hx hb dX4_subclassOf_60 (by decide) (fun c_ => ?_) (fun c_ => ?_)
        · have hrun := ite_t hrun c_
          refine lv_iload_n (pc := 67) hx hb dX4_subclassOf_67 rfl (lv_at hl 2 rfl) ?_
          exact b_X4_subclassOf_68 C ih x0 x1 x3 x2 h19 H locs cells slots ls hH hL (lv_sub hl [0, 1, 3] rfl) hrun
        · have hrun := ite_f hrun c_
          refine lv_iload_n (pc := 63) hx hb dX4_subclassOf_63 rfl (lv_at hl 3 rfl) ?_
          refine lv_goto (tgt := 68) (pc := 64) hx hb dX4_subclassOf_64 (by decide) ?_
          exact b_X4_subclassOf_68 C ih x0 x1 x3 x3 h19 H locs cells slots ls hH hL (lv_sub hl [0, 1, 3] rfl) hrun

theorem b_X4_subclassOf {rr : (Int32 ⊕ Ex) × Hp}  (C : CX p l R s m args meth c D Hs cX4_subclassOf "MassclaimModel" 4 (some .int) [] 4 64)  : ∀ (x0 : Nat) (x1 : Nat) (h : Hp) (H : Heap) (locs : List Loc) (cells slots : Nat) (ls : Array Slot), HP D Hs h H → LO Hs locs → lv_has ls 4 [(0, rv x0), (1, rv x1)] → f_X4_subclassOf x0 x1 h = some rr → W p l e R s m args below meth c H locs cells slots (ZM D Hs iI rr below args s) (F0 m 0 ls []) := by
  obtain ⟨⟨hx, hb, hml, hown, hts⟩, -⟩ := id C
  have hl9 := C.2.1.2.2.1
  intro x0 x1 h H locs cells slots ls hH hL hl hrun
  unfold f_X4_subclassOf at hrun
  refine lv_iconst (v := (-1 : Int32)) (pc := 0) hx hb dX4_subclassOf_0 (by decide) ?_
  refine lv_istore_n (i := 2) (lv' := [(2, .int (-1 : Int32)), (0, rv x0), (1, rv x1)]) (pc := 1) hx hb dX4_subclassOf_1 rfl hl (by decide) (by simp [rv_cat, cat_i, cat_l, cat_f, cat_d]) (fun ls hl => ?_)
  refine V_aload_n (pc := 2) hx hb dX4_subclassOf_2 rfl (lv_at hl 1 rfl) ?_
  obtain ⟨c20, hrun⟩ := gd_some hrun
  refine V_getR (pc := 3) C hH fr_X4_20 dX4_subclassOf_3 c20 rfl ?_
  obtain ⟨c23, hrun⟩ := gd_some hrun
  refine V_bd (pc := 6) C hL rfl hrun (fun rr1 e1 => Z_runV (rest := []) C hH (m_J2_size hl9 e1) wV_X4_94 c23 rfl (by decide) rfl rfl ⟨by decide, by decide⟩ rfl (Nat.le_of_ble_eq_true rfl) hl.1 dX4_subclassOf_6) (fun v21 h22 H locs cells slots hH hL hrun => ?_)
  refine lv_iconst (v := (1 : Int32)) (pc := 9) hx hb dX4_subclassOf_9 (by decide) ?_
  refine lv_isub (pc := 10) hx hb dX4_subclassOf_10 ?_
  refine lv_topi (fun v24 ev24 => ?_)
  have hrun := vl_at hrun v24 ev24
  refine lv_istore_n (i := 3) (lv' := [(3, .int v24), (2, .int (-1 : Int32)), (0, rv x0), (1, rv x1)]) (pc := 11) hx hb dX4_subclassOf_11 rfl hl (by decide) rfl (fun ls hl => ?_)
  exact b_X4_subclassOf_12 C FU x0 x1 (-1 : Int32) v24 h22 H locs cells slots ls hH hL (lv_sub hl [2, 3, 1, 0] rfl) hrun

theorem m_X4_subclassOf {l : Launch} {D : va_G} {Hs : Heap} {h : Hp} {rr : (Int32 ⊕ Ex) × Hp} (hl9 : l.stackTraces = false) {x0 : Nat} {x1 : Nat} (hrun : f_X4_subclassOf x0 x1 h = some rr) : CM l yX4_subclassOf (ws_ yX4_subclassOf cX4_subclassOf 4 (some .int)) 4 64 iI [rv x0, rv x1] D Hs h rr := by
  refine CM.of (lv := [(0, rv x0), (1, rv x1)]) (plainFor_of_name (by decide)) hl9 (by simp [lv_args, rv_cat, cat_i, cat_l, cat_f, cat_d]) (by simp [lg_sl, rv_cat, cat_i, cat_l, cat_f, cat_d]) ?_
  intro p e R s m args below meth c H ls C hH hl hin
  exact b_X4_subclassOf C x0 x1 _ H [] _ _ ls hH (fun _ q => nomatch q) (lv_sub hl [0, 1] rfl) hrun

/-! java/lang/Object.equals(Ljava/lang/Object;)Z -/
def f_J23_equals_10  (y0 : Int32) (h : Hp) : Rt Int32 :=
  gd (b01 y0) <| some (.inl y0, h)
def f_J23_equals  (x0 : Nat) (x1 : Nat) (h : Hp) : Rt Int32 :=
  if x0 = x1 then
  (f_J23_equals_10 (1 : Int32) h)
  else
  (f_J23_equals_10 (0 : Int32) h)
theorem b_J23_equals_10 {rr : (Int32 ⊕ Ex) × Hp}  (C : CX p l R s m args meth c D Hs cJ23_equals "java/lang/Object" 2 (some .boolean) [] 1 0)  : ∀ (y0 : Int32) (h : Hp) (H : Heap) (locs : List Loc) (cells slots : Nat) (ls : Array Slot), HP D Hs h H → LO Hs locs → lv_has ls 2 [] → f_J23_equals_10 y0 h = some rr → W p l e R s m args below meth c H locs cells slots (ZM D Hs iI rr below args s) (F0 m 10 ls [.int y0]) := by
  obtain ⟨⟨hx, hb, hml, hown, hts⟩, -⟩ := id C
  have hl9 := C.2.1.2.2.1
  intro y0 h H locs cells slots ls hH hL hl hrun
  unfold f_J23_equals_10 at hrun
  obtain ⟨c1, hrun⟩ := gd_some hrun
  exact V_zret (pc := 10) C hH hL c1 hrun dJ23_equals_10

theorem b_J23_equals {rr : (Int32 ⊕ Ex) × Hp}  (C : CX p l R s m args meth c D Hs cJ23_equals "java/lang/Object" 2 (some .boolean) [] 1 0)  : ∀ (x0 : Nat) (x1 : Nat) (h : Hp) (H : Heap) (locs : List Loc) (cells slots : Nat) (ls : Array Slot), HP D Hs h H → LO Hs locs → lv_has ls 2 [(0, rv x0), (1, rv x1)] → f_J23_equals x0 x1 h = some rr → W p l e R s m args below meth c H locs cells slots (ZM D Hs iI rr below args s) (F0 m 0 ls []) := by
  obtain ⟨⟨hx, hb, hml, hown, hts⟩, -⟩ := id C
  have hl9 := C.2.1.2.2.1
  intro x0 x1 h H locs cells slots ls hH hL hl hrun
  unfold f_J23_equals at hrun
  refine V_aload_n (pc := 0) hx hb dJ23_equals_0 rfl (lv_at hl 0 rfl) ?_
  refine V_aload_n (pc := 1) hx hb dJ23_equals_1 rfl (lv_at hl 1 rfl) ?_
  refine V_acmp_ne (tgt := 9) (pc := 2) hx hb dJ23_equals_2 (by decide) hrun (fun c_ hrun => ?_) (fun c_ hrun => ?_)
  · refine lv_iconst (v := (0 : Int32)) (pc := 9) hx hb dJ23_equals_9 (by decide) ?_
    exact b_J23_equals_10 C (0 : Int32) h H locs cells slots ls hH hL (lv_sub hl [] rfl) hrun
  · refine lv_iconst (v := (1 : Int32)) (pc := 5) hx hb dJ23_equals_5 (by decide) ?_
    refine lv_goto (tgt := 10) (pc := 6) hx hb dJ23_equals_6 (by decide) ?_
    exact b_J23_equals_10 C (1 : Int32) h H locs cells slots ls hH hL (lv_sub hl [] rfl) hrun

theorem m_J23_equals {l : Launch} {D : va_G} {Hs : Heap} {h : Hp} {rr : (Int32 ⊕ Ex) × Hp} (hl9 : l.stackTraces = false) {x0 : Nat} {x1 : Nat} (hrun : f_J23_equals x0 x1 h = some rr) : CM l yJ23_equals (ws_ yJ23_equals cJ23_equals 2 (some .boolean)) 1 0 iI [rv x0, rv x1] D Hs h rr := by
  refine CM.of (lv := [(0, rv x0), (1, rv x1)]) (by decide +kernel) hl9 (by simp [lv_args, rv_cat, cat_i, cat_l, cat_f, cat_d]) (by simp [lg_sl, rv_cat, cat_i, cat_l, cat_f, cat_d]) ?_
  intro p e R s m args below meth c H ls C hH hl hin
  exact b_J23_equals C x0 x1 _ H [] _ _ ls hH (fun _ q => nomatch q) (lv_sub hl [0, 1] rfl) hrun

/-! java/util/ArrayList.indexOfRange(Ljava/lang/Object;II)I -/
def f_J2_indexOfRange_69  (h : Hp) : Rt Int32 :=
  some (.inl (-1 : Int32), h)
def f_J2_indexOfRange_42  : Nat → Nat → Int32 → Nat → Int32 → Hp → Rt Int32
  | 0, _, _, _, _, _ => none
  | n + 1, x1, x3, x4, x5, h => if x3 ≤ x5 then
  (f_J2_indexOfRange_69  h)
  else
  (gd (kC h x4 = 103 ∧ ixo x5 (kN h x4)) <| gd (kC h x1 = 6 ∨ kC h x1 = 13) <| bd (f_J23_equals x1 (jR h x4 (x5).toNatClampNeg) h) fun v2 h3 => if v2 = 0 then
  (vl (x5 + (1 : Int32)) fun v5 => f_J2_indexOfRange_42 n x1 x3 x4 v5 h3)
  else
  (some (.inl x5, h3)))
def f_J2_indexOfRange_13  : Nat → Int32 → Nat → Int32 → Hp → Rt Int32
  | 0, _, _, _, _ => none
  | n + 1, x3, x4, x5, h => if x3 ≤ x5 then
  (f_J2_indexOfRange_69  h)
  else
  (gd (kC h x4 = 103 ∧ ixo x5 (kN h x4)) <| if (jR h x4 (x5).toNatClampNeg) = 0 then
  (some (.inl x5, h))
  else
  (vl (x5 + (1 : Int32)) fun v7 => f_J2_indexOfRange_13 n x3 x4 v7 h))
def f_J2_indexOfRange  (x0 : Nat) (x1 : Nat) (x2 : Int32) (x3 : Int32) (h : Hp) : Rt Int32 :=
  gd (kC h x0 = 18) <| vl (kR h 1701 x0) fun v9 => if x1 = 0 then
  (f_J2_indexOfRange_13 FU x3 v9 x2 h)
  else
  (f_J2_indexOfRange_42 FU x1 x3 v9 x2 h)
theorem b_J2_indexOfRange_69 {rr : (Int32 ⊕ Ex) × Hp}  (C : CX p l R s m args meth c D Hs cJ2_indexOfRange "java/util/ArrayList" 6 (some .int) [] 2 21)  : ∀ (h : Hp) (H : Heap) (locs : List Loc) (cells slots : Nat) (ls : Array Slot), HP D Hs h H → LO Hs locs → lv_has ls 6 [] → f_J2_indexOfRange_69 h = some rr → W p l e R s m args below meth c H locs cells slots (ZM D Hs iI rr below args s) (F0 m 69 ls []) := by
  obtain ⟨⟨hx, hb, hml, hown, hts⟩, -⟩ := id C
  have hl9 := C.2.1.2.2.1
  intro h H locs cells slots ls hH hL hl hrun
  unfold f_J2_indexOfRange_69 at hrun
  refine lv_iconst (v := (-1 : Int32)) (pc := 69) hx hb dJ2_indexOfRange_69 (by decide) ?_
  exact V_iret (pc := 70) C hH hL hrun dJ2_indexOfRange_70

theorem b_J2_indexOfRange_42 {rr : (Int32 ⊕ Ex) × Hp}  (C : CX p l R s m args meth c D Hs cJ2_indexOfRange "java/util/ArrayList" 6 (some .int) [] 2 21)  : ∀ (n : Nat) (x1 : Nat) (x3 : Int32) (x4 : Nat) (x5 : Int32) (h : Hp) (H : Heap) (locs : List Loc) (cells slots : Nat) (ls : Array Slot), HP D Hs h H → LO Hs locs → lv_has ls 6 [(1, rv x1), (3, .int x3), (4, rv x4), (5, .int x5)] → f_J2_indexOfRange_42 n x1 x3 x4 x5 h = some rr → W p l e R s m args below meth c H locs cells slots (ZM D Hs iI rr below args s) (F0 m 42 ls []) := by
  obtain ⟨⟨hx, hb, hml, hown, hts⟩, -⟩ := id C
  have hl9 := C.2.1.2.2.1
  intro n
  induction n with
  | zero =>
    intro x1 x3 x4 x5 h H locs cells slots ls hH hL hl hrun
    cases (show (none : Option _) = some rr from hrun)
  | succ n ih =>
    intro x1 x3 x4 x5 h H locs cells slots ls hH hL hl hrun
    rw [f_J2_indexOfRange_42] at hrun
    refine lv_iload (pc := 42) hx hb dJ2_indexOfRange_42 (lv_at hl 3 rfl) ?_
    refine lv_iload_n (pc := 44) hx hb dJ2_indexOfRange_44 rfl (lv_at hl 1 rfl) ?_
    refine lv_icmp_ge (tgt := 69) (pc := 45) hx hb dJ2_indexOfRange_45 (by decide) (fun c_ => ?_) (fun c_ => ?_)
    · have hrun := ite_t hrun c_
      exact b_J2_indexOfRange_69 C h H locs cells slots ls hH hL (lv_sub hl [] rfl) hrun
    · have hrun := ite_f hrun c_
      refine V_aload_n (pc := 48) hx hb dJ2_indexOfRange_48 rfl (lv_at hl 0 rfl) ?_
      refine V_aload (pc := 49) hx hb dJ2_indexOfRange_49 (lv_at hl 2 rfl) ?_
      refine lv_iload (pc := 51) hx hb dJ2_indexOfRange_51 (lv_at hl 3 rfl) ?_
      obtain ⟨c1, hrun⟩ := gd_some hrun
      refine V_aald (pc := 53) C hH dJ2_indexOfRange_53 c1 ?_
      obtain ⟨c4, hrun⟩ := gd_some hrun
      refine V_bd (pc := 54) C hL rfl hrun (fun rr1 e1 => (c4.elim (fun c_ => Z_runU (rest := []) C hH (m_J23_equals hl9 e1) rfl wU_J2_93_X6 c_ (by decide) rfl ⟨by decide, by decide⟩ rfl (Nat.le_of_ble_eq_true rfl) hl.1 dJ2_indexOfRange_54) (fun c_ => Z_runU (rest := []) C hH (m_J23_equals hl9 e1) rfl wU_J2_93_X13 c_ (by decide) rfl ⟨by decide, by decide⟩ rfl (Nat.le_of_ble_eq_true rfl) hl.1 dJ2_indexOfRange_54))) (fun v2 h3 H locs cells slots hH hL hrun => ?_)
      refine lv_if_eq (tgt := 63) (pc := 57) hx hb dJ2_indexOfRange_57 (by decide) (fun c_ => ?_) (fun c_ => ?_)
      · have hrun := ite_t hrun c_
        obtain ⟨v5, ev5⟩ : ∃ y : Int32, y = x5 + (1 : Int32) := ⟨_, rfl⟩
        have hrun := vl_at hrun v5 ev5
        refine lv_iinc (v := v5) (lv' := [(5, .int v5), (1, rv x1), (3, .int x3), (4, rv x4)]) (pc := 63) hx hb dJ2_indexOfRange_63 hl (k := 3) rfl (by rw [ev5]; rfl) (by decide) (by first | rfl | simp [rv_cat, cat_i, cat_l, cat_f, cat_d]) (fun ls hl => ?_)
        refine lv_goto (tgt := 42) (pc := 66) hx hb dJ2_indexOfRange_66 (by decide) ?_
        exact ih x1 x3 x4 v5 h3 H locs cells slots ls hH hL (lv_sub hl [1, 2, 3, 0] rfl) hrun
      · have hrun := ite_f hrun c_
        refine lv_iload (pc := 60) hx hb dJ2_indexOfRange_60 (lv_at hl 3 rfl) ?_
        exact V_iret (pc := 62) C hH hL hrun dJ2_indexOfRange_62

theorem b_J2_indexOfRange_13 {rr : (Int32 ⊕ Ex) × Hp}  (C : CX p l R s m args meth c D Hs cJ2_indexOfRange "java/util/ArrayList" 6 (some .int) [] 2 21)  : ∀ (n : Nat) (x3 : Int32) (x4 : Nat) (x5 : Int32) (h : Hp) (H : Heap) (locs : List Loc) (cells slots : Nat) (ls : Array Slot), HP D Hs h H → LO Hs locs → lv_has ls 6 [(3, .int x3), (4, rv x4), (5, .int x5)] → f_J2_indexOfRange_13 n x3 x4 x5 h = some rr → W p l e R s m args below meth c H locs cells slots (ZM D Hs iI rr below args s) (F0 m 13 ls []) := by
  obtain ⟨⟨hx, hb, hml, hown, hts⟩, -⟩ := id C
  have hl9 := C.2.1.2.2.1
  intro n
  induction n with
  | zero =>
    intro x3 x4 x5 h H locs cells slots ls hH hL hl hrun
    cases (show (none : Option _) = some rr from hrun)
  | succ n ih =>
    intro x3 x4 x5 h H locs cells slots ls hH hL hl hrun
    rw [f_J2_indexOfRange_13] at hrun
    refine lv_iload (pc := 13) hx hb dJ2_indexOfRange_13 (lv_at hl 2 rfl) ?_
    refine lv_iload_n (pc := 15) hx hb dJ2_indexOfRange_15 rfl (lv_at hl 0 rfl) ?_
    refine lv_icmp_ge (tgt := 36) (pc := 16) hx hb dJ2_indexOfRange_16 (by decide) (fun c_ => ?_) (fun c_ => ?_)
    · have hrun := ite_t hrun c_
      refine lv_goto (tgt := 69) (pc := 36) hx hb dJ2_indexOfRange_36 (by decide) ?_
      exact b_J2_indexOfRange_69 C h H locs cells slots ls hH hL (lv_sub hl [] rfl) hrun
    · have hrun := ite_f hrun c_
      refine V_aload (pc := 19) hx hb dJ2_indexOfRange_19 (lv_at hl 1 rfl) ?_
      refine lv_iload (pc := 21) hx hb dJ2_indexOfRange_21 (lv_at hl 2 rfl) ?_
      obtain ⟨c6, hrun⟩ := gd_some hrun
      refine V_aald (pc := 23) C hH dJ2_indexOfRange_23 c6 ?_
      refine V_ifnonnull (tgt := 30) (pc := 24) hx hb dJ2_indexOfRange_24 (by decide) hrun (fun c_ hrun => ?_) (fun c_ hrun => ?_)
      · obtain ⟨v7, ev7⟩ : ∃ y : Int32, y = x5 + (1 : Int32) := ⟨_, rfl⟩
        have hrun := vl_at hrun v7 ev7
        refine lv_iinc (v := v7) (lv' := [(5, .int v7), (3, .int x3), (4, rv x4)]) (pc := 30) hx hb dJ2_indexOfRange_30 hl (k := 2) rfl (by rw [ev7]; rfl) (by decide) (by first | rfl | simp [rv_cat, cat_i, cat_l, cat_f, cat_d]) (fun ls hl => ?_)
        refine lv_goto (tgt := 13) (pc := 33) hx hb dJ2_indexOfRange_33 (by decide) ?_
        exact ih x3 x4 v7 h H locs cells slots ls hH hL (lv_sub hl [1, 2, 0] rfl) hrun
      · refine lv_iload (pc := 27) hx hb dJ2_indexOfRange_27 (lv_at hl 2 rfl) ?_
        exact V_iret (pc := 29) C hH hL hrun dJ2_indexOfRange_29

theorem b_J2_indexOfRange {rr : (Int32 ⊕ Ex) × Hp}  (C : CX p l R s m args meth c D Hs cJ2_indexOfRange "java/util/ArrayList" 6 (some .int) [] 2 21)  : ∀ (x0 : Nat) (x1 : Nat) (x2 : Int32) (x3 : Int32) (h : Hp) (H : Heap) (locs : List Loc) (cells slots : Nat) (ls : Array Slot), HP D Hs h H → LO Hs locs → lv_has ls 6 [(0, rv x0), (1, rv x1), (2, .int x2), (3, .int x3)] → f_J2_indexOfRange x0 x1 x2 x3 h = some rr → W p l e R s m args below meth c H locs cells slots (ZM D Hs iI rr below args s) (F0 m 0 ls []) := by
  obtain ⟨⟨hx, hb, hml, hown, hts⟩, -⟩ := id C
  have hl9 := C.2.1.2.2.1
  intro x0 x1 x2 x3 h H locs cells slots ls hH hL hl hrun
  unfold f_J2_indexOfRange at hrun
  refine V_aload_n (pc := 0) hx hb dJ2_indexOfRange_0 rfl (lv_at hl 0 rfl) ?_
  obtain ⟨c8, hrun⟩ := gd_some hrun
  refine V_getR (pc := 1) C hH fr_J2_9 dJ2_indexOfRange_1 c8 rfl ?_
  refine V_topr (fun v9 ev9 => ?_)
  have hrun := vl_at hrun v9 ev9
  refine V_astore (i := 4) (lv' := [(4, rv v9), (0, rv x0), (1, rv x1), (2, .int x2), (3, .int x3)]) (pc := 4) hx hb dJ2_indexOfRange_4 hl (by decide) rfl (fun ls hl => ?_)
  refine V_aload_n (pc := 6) hx hb dJ2_indexOfRange_6 rfl (lv_at hl 2 rfl) ?_
  refine V_ifnonnull (tgt := 39) (pc := 7) hx hb dJ2_indexOfRange_7 (by decide) hrun (fun c_ hrun => ?_) (fun c_ hrun => ?_)
  · refine lv_iload_n (pc := 39) hx hb dJ2_indexOfRange_39 rfl (lv_at hl 3 rfl) ?_
    refine lv_istore (i := 5) (lv' := [(5, .int x2), (4, rv v9), (0, rv x0), (1, rv x1), (2, .int x2), (3, .int x3)]) (pc := 40) hx hb dJ2_indexOfRange_40 hl (by decide) (by simp [rv_cat, cat_i, cat_l, cat_f, cat_d]) (fun ls hl => ?_)
    exact b_J2_indexOfRange_42 C FU x1 x3 v9 x2 h H locs cells slots ls hH hL (lv_sub hl [3, 5, 1, 0] rfl) hrun
  · refine lv_iload_n (pc := 10) hx hb dJ2_indexOfRange_10 rfl (lv_at hl 3 rfl) ?_
    refine lv_istore (i := 5) (lv' := [(5, .int x2), (4, rv v9), (0, rv x0), (1, rv x1), (2, .int x2), (3, .int x3)]) (pc := 11) hx hb dJ2_indexOfRange_11 hl (by decide) (by simp [rv_cat, cat_i, cat_l, cat_f, cat_d]) (fun ls hl => ?_)
    exact b_J2_indexOfRange_13 C FU x3 v9 x2 h H locs cells slots ls hH hL (lv_sub hl [5, 1, 0] rfl) hrun

theorem m_J2_indexOfRange {l : Launch} {D : va_G} {Hs : Heap} {h : Hp} {rr : (Int32 ⊕ Ex) × Hp} (hl9 : l.stackTraces = false) {x0 : Nat} {x1 : Nat} {x2 : Int32} {x3 : Int32} (hrun : f_J2_indexOfRange x0 x1 x2 x3 h = some rr) : CM l yJ2_indexOfRange (ws_ yJ2_indexOfRange cJ2_indexOfRange 6 (some .int)) 2 21 iI [rv x0, rv x1, .int x2, .int x3] D Hs h rr := by
  refine CM.of (lv := [(0, rv x0), (1, rv x1), (2, .int x2), (3, .int x3)]) (by decide +kernel) hl9 (by simp [lv_args, rv_cat, cat_i, cat_l, cat_f, cat_d]) (by simp [lg_sl, rv_cat, cat_i, cat_l, cat_f, cat_d]) ?_
  intro p e R s m args below meth c H ls C hH hl hin
  exact b_J2_indexOfRange C x0 x1 x2 x3 _ H [] _ _ ls hH (fun _ q => nomatch q) (lv_sub hl [0, 1, 2, 3] rfl) hrun

/-! java/util/ArrayList.indexOf(Ljava/lang/Object;)I -/
def f_J2_indexOf  (x0 : Nat) (x1 : Nat) (h : Hp) : Rt Int32 :=
  gd (kC h x0 = 18) <| bd (f_J2_indexOfRange x0 x1 (0 : Int32) (kI h 1702 x0) h) fun v2 h3 => some (.inl v2, h3)
theorem b_J2_indexOf {rr : (Int32 ⊕ Ex) × Hp}  (C : CX p l R s m args meth c D Hs cJ2_indexOf "java/util/ArrayList" 2 (some .int) [] 3 46)  : ∀ (x0 : Nat) (x1 : Nat) (h : Hp) (H : Heap) (locs : List Loc) (cells slots : Nat) (ls : Array Slot), HP D Hs h H → LO Hs locs → lv_has ls 2 [(0, rv x0), (1, rv x1)] → f_J2_indexOf x0 x1 h = some rr → W p l e R s m args below meth c H locs cells slots (ZM D Hs iI rr below args s) (F0 m 0 ls []) := by
  obtain ⟨⟨hx, hb, hml, hown, hts⟩, -⟩ := id C
  have hl9 := C.2.1.2.2.1
  intro x0 x1 h H locs cells slots ls hH hL hl hrun
  unfold f_J2_indexOf at hrun
  refine V_aload_n (pc := 0) hx hb dJ2_indexOf_0 rfl (lv_at hl 0 rfl) ?_
  refine V_aload_n (pc := 1) hx hb dJ2_indexOf_1 rfl (lv_at hl 1 rfl) ?_
  refine lv_iconst (v := (0 : Int32)) (pc := 2) hx hb dJ2_indexOf_2 (by decide) ?_
  refine V_aload_n (pc := 3) hx hb dJ2_indexOf_3 rfl (lv_at hl 0 rfl) ?_
  obtain ⟨c1, hrun⟩ := gd_some hrun
  refine V_getI (pc := 4) C hH fr_J2_48 dJ2_indexOf_4 c1 rfl ?_
  refine V_bd (pc := 7) C hL rfl hrun (fun rr1 e1 => Z_runV (rest := []) C hH (m_J2_indexOfRange hl9 e1) wV_J2_89 c1 rfl (by decide) rfl rfl ⟨by decide, by decide⟩ rfl (Nat.le_of_ble_eq_true rfl) hl.1 dJ2_indexOf_7) (fun v2 h3 H locs cells slots hH hL hrun => ?_)
  exact V_iret (pc := 10) C hH hL hrun dJ2_indexOf_10

theorem m_J2_indexOf {l : Launch} {D : va_G} {Hs : Heap} {h : Hp} {rr : (Int32 ⊕ Ex) × Hp} (hl9 : l.stackTraces = false) {x0 : Nat} {x1 : Nat} (hrun : f_J2_indexOf x0 x1 h = some rr) : CM l yJ2_indexOf (ws_ yJ2_indexOf cJ2_indexOf 2 (some .int)) 3 46 iI [rv x0, rv x1] D Hs h rr := by
  refine CM.of (lv := [(0, rv x0), (1, rv x1)]) (by decide +kernel) hl9 (by simp [lv_args, rv_cat, cat_i, cat_l, cat_f, cat_d]) (by simp [lg_sl, rv_cat, cat_i, cat_l, cat_f, cat_d]) ?_
  intro p e R s m args below meth c H ls C hH hl hin
  exact b_J2_indexOf C x0 x1 _ H [] _ _ ls hH (fun _ q => nomatch q) (lv_sub hl [0, 1] rfl) hrun

/-! MassclaimModel.personAt(II)I -/
def f_X4_personAt_30  (h : Hp) : Rt Int32 :=
  some (.inl (0 : Int32), h)
def f_X4_personAt_176  (y0 : Int32) (h : Hp) : Rt Int32 :=
  some (.inl y0, h)
def f_X4_personAt_137  (y0 : Int32) (h : Hp) : Rt Int32 :=
  some (.inl y0, h)
def f_X4_personAt_110  (y0 : Int32) (h : Hp) : Rt Int32 :=
  some (.inl y0, h)
def f_X4_personAt  (x0 : Nat) (x1 : Int32) (x2 : Int32) (h : Hp) : Rt Int32 :=
  gd (kC h x0 = 4) <| bd (f_X4_isPerson x0 x1 h) fun v1 h2 => gd (kC h2 x0 = 4) <| bd (f_X4_isGood x0 v1 (1 : Int32) h2) fun v4 h5 => if v4 = 0 then
  (f_X4_personAt_30  h5)
  else
  (bd (f_X4_isWithin (x2.toInt64) (0 : Int64) (8 : Int64) h5) fun v7 h8 => gd (kC h8 x0 = 4) <| bd (f_X4_isGood x0 v7 (2 : Int32) h8) fun v9 h10 => if v9 = 0 then
  (f_X4_personAt_30  h10)
  else
  (gd (kC h10 x0 = 4) <| gd (kC h10 (kR h10 302 x0) = 18) <| bd (f_J2_get (kR h10 302 x0) x1 h10) fun v13 h14 => gd (v13 = 0 ∨ kC h14 v13 = 6) <| if x2 = (0 : Int32) then
  (gd (kC h14 v13 = 6) <| some (.inl (kI h14 504 v13), h14))
  else
  if x2 = (1 : Int32) then
  (gd (kC h14 x0 = 4) <| bd (f_X4_isIn x0 v13 h14) fun v18 h19 => if v18 = 0 then
  (f_X4_personAt_110 (0 : Int32) h19)
  else
  (f_X4_personAt_110 (1 : Int32) h19))
  else
  if x2 = (2 : Int32) then
  (gd (kC h14 x0 = 4) <| bd (f_X4_subclassOf x0 v13 h14) fun v21 h22 => some (.inl v21, h22))
  else
  if x2 = (3 : Int32) then
  (gd (kC h14 v13 = 6) <| some (.inl (kI h14 511 v13), h14))
  else
  if x2 = (4 : Int32) then
  (gd (kC h14 v13 = 6) <| if (kI h14 511 v13) < (1080 : Int32) then
  (f_X4_personAt_137 (0 : Int32) h14)
  else
  (f_X4_personAt_137 (1 : Int32) h14))
  else
  if x2 = (5 : Int32) then
  (gd (kC h14 v13 = 6) <| some (.inl (kI h14 509 v13), h14))
  else
  if x2 = (6 : Int32) then
  (gd (kC h14 x0 = 4) <| gd (kC h14 v13 = 6) <| gd (kC h14 (kR h14 320 x0) = 18) <| bd (f_J2_indexOf (kR h14 320 x0) (kR h14 517 v13) h14) fun v29 h30 => some (.inl v29, h30))
  else
  if x2 = (7 : Int32) then
  (gd (kC h14 x0 = 4) <| gd (kC h14 v13 = 6) <| bd (f_X6_age v13 (kI h14 301 x0) h14) fun v33 h34 => some (.inl v33, h34))
  else
  (gd (kC h14 v13 = 6) <| if (kI h14 510 v13) = 0 then
  (f_X4_personAt_176 (0 : Int32) h14)
  else
  (f_X4_personAt_176 (1 : Int32) h14))))
theorem b_X4_personAt_30 {rr : (Int32 ⊕ Ex) × Hp}  (C : CX p l R s m args meth c D Hs cX4_personAt "MassclaimModel" 4 (some .int) [] 5 87)  : ∀ (h : Hp) (H : Heap) (locs : List Loc) (cells slots : Nat) (ls : Array Slot), HP D Hs h H → LO Hs locs → lv_has ls 4 [] → f_X4_personAt_30 h = some rr → W p l e R s m args below meth c H locs cells slots (ZM D Hs iI rr below args s) (F0 m 30 ls []) := by
  obtain ⟨⟨hx, hb, hml, hown, hts⟩, -⟩ := id C
  have hl9 := C.2.1.2.2.1
  intro h H locs cells slots ls hH hL hl hrun
  unfold f_X4_personAt_30 at hrun
  refine lv_iconst (v := (0 : Int32)) (pc := 30) hx hb dX4_personAt_30 (by decide) ?_
  exact V_iret (pc := 31) C hH hL hrun dX4_personAt_31

theorem b_X4_personAt_176 {rr : (Int32 ⊕ Ex) × Hp}  (C : CX p l R s m args meth c D Hs cX4_personAt "MassclaimModel" 4 (some .int) [] 5 87)  : ∀ (y0 : Int32) (h : Hp) (H : Heap) (locs : List Loc) (cells slots : Nat) (ls : Array Slot), HP D Hs h H → LO Hs locs → lv_has ls 4 [] → f_X4_personAt_176 y0 h = some rr → W p l e R s m args below meth c H locs cells slots (ZM D Hs iI rr below args s) (F0 m 176 ls [.int y0]) := by
  obtain ⟨⟨hx, hb, hml, hown, hts⟩, -⟩ := id C
  have hl9 := C.2.1.2.2.1
  intro y0 h H locs cells slots ls hH hL hl hrun
  unfold f_X4_personAt_176 at hrun
  exact V_iret (pc := 176) C hH hL hrun dX4_personAt_176

theorem b_X4_personAt_137 {rr : (Int32 ⊕ Ex) × Hp}  (C : CX p l R s m args meth c D Hs cX4_personAt "MassclaimModel" 4 (some .int) [] 5 87)  : ∀ (y0 : Int32) (h : Hp) (H : Heap) (locs : List Loc) (cells slots : Nat) (ls : Array Slot), HP D Hs h H → LO Hs locs → lv_has ls 4 [] → f_X4_personAt_137 y0 h = some rr → W p l e R s m args below meth c H locs cells slots (ZM D Hs iI rr below args s) (F0 m 137 ls [.int y0]) := by
  obtain ⟨⟨hx, hb, hml, hown, hts⟩, -⟩ := id C
  have hl9 := C.2.1.2.2.1
  intro y0 h H locs cells slots ls hH hL hl hrun
  unfold f_X4_personAt_137 at hrun
  exact V_iret (pc := 137) C hH hL hrun dX4_personAt_137

theorem b_X4_personAt_110 {rr : (Int32 ⊕ Ex) × Hp}  (C : CX p l R s m args meth c D Hs cX4_personAt "MassclaimModel" 4 (some .int) [] 5 87)  : ∀ (y0 : Int32) (h : Hp) (H : Heap) (locs : List Loc) (cells slots : Nat) (ls : Array Slot), HP D Hs h H → LO Hs locs → lv_has ls 4 [] → f_X4_personAt_110 y0 h = some rr → W p l e R s m args below meth c H locs cells slots (ZM D Hs iI rr below args s) (F0 m 110 ls [.int y0]) := by
  obtain ⟨⟨hx, hb, hml, hown, hts⟩, -⟩ := id C
  have hl9 := C.2.1.2.2.1
  intro y0 h H locs cells slots ls hH hL hl hrun
  unfold f_X4_personAt_110 at hrun
  exact V_iret (pc := 110) C hH hL hrun dX4_personAt_110

theorem b_X4_personAt {rr : (Int32 ⊕ Ex) × Hp}  (C : CX p l R s m args meth c D Hs cX4_personAt "MassclaimModel" 4 (some .int) [] 5 87)  : ∀ (x0 : Nat) (x1 : Int32) (x2 : Int32) (h : Hp) (H : Heap) (locs : List Loc) (cells slots : Nat) (ls : Array Slot), HP D Hs h H → LO Hs locs → lv_has ls 4 [(0, rv x0), (1, .int x1), (2, .int x2)] → f_X4_personAt x0 x1 x2 h = some rr → W p l e R s m args below meth c H locs cells slots (ZM D Hs iI rr below args s) (F0 m 0 ls []) := by
  obtain ⟨⟨hx, hb, hml, hown, hts⟩, -⟩ := id C
  have hl9 := C.2.1.2.2.1
  intro x0 x1 x2 h H locs cells slots ls hH hL hl hrun
  unfold f_X4_personAt at hrun
  refine V_aload_n (pc := 0) hx hb dX4_personAt_0 rfl (lv_at hl 0 rfl) ?_
  refine V_aload_n (pc := 1) hx hb dX4_personAt_1 rfl (lv_at hl 0 rfl) ?_
  refine lv_iload_n (pc := 2) hx hb dX4_personAt_2 rfl (lv_at hl 1 rfl) ?_
  obtain ⟨c3, hrun⟩ := gd_some hrun
  refine V_bd (pc := 3) C hL rfl hrun (fun rr1 e1 => Z_runV (rest := [rv x0]) C hH (m_X4_isPerson hl9 e1) wV_X4_190 c3 rfl (by decide) rfl rfl ⟨by decide, by decide⟩ rfl (by simp [csum, rv_cat, cat_i, cat_l, cat_f, cat_d]) hl.1 dX4_personAt_3) (fun v1 h2 H locs cells slots hH hL hrun => ?_)
  refine lv_iconst (v := (1 : Int32)) (pc := 6) hx hb dX4_personAt_6 (by decide) ?_
  obtain ⟨c6, hrun⟩ := gd_some hrun
  refine V_bd (pc := 7) C hL rfl hrun (fun rr1 e1 => Z_runV (rest := []) C hH (m_X4_isGood hl9 e1) wV_X4_104 c6 rfl (by decide) rfl rfl ⟨by decide, by decide⟩ rfl (Nat.le_of_ble_eq_true rfl) hl.1 dX4_personAt_7) (fun v4 h5 H locs cells slots hH hL hrun => ?_)
  refine lv_if_eq (tgt := 30) (pc := 10) hx hb dX4_personAt_10 (by decide) (fun c_ => ?_) (fun c_ => ?_)
  · have hrun := ite_t hrun c_
    exact b_X4_personAt_30 C h5 H locs cells slots ls hH hL (lv_sub hl [] rfl) hrun
  · have hrun := ite_f hrun c_
    refine V_aload_n (pc := 13) hx hb dX4_personAt_13 rfl (lv_at hl 0 rfl) ?_
    refine lv_iload_n (pc := 14) hx hb dX4_personAt_14 rfl (lv_at hl 2 rfl) ?_
    refine lv_i2l (pc := 15) hx hb dX4_personAt_15 rfl ?_
    refine lv_lconst (v := (0 : Int64)) (pc := 16) hx hb dX4_personAt_16 (by decide) ?_
    refine lv_ldc2 (pc := 17) hx hb hown (hts _ q2104) dX4_personAt_17 ?_
    refine V_bd (pc := 20) C hL rfl hrun (fun rr1 e1 => Z_runS (rest := [rv x0]) C hH (m_X4_isWithin hl9 e1) wS_X4_100 rfl ⟨by decide, by decide⟩ rfl (by simp [csum, rv_cat, cat_i, cat_l, cat_f, cat_d]) hl.1 dX4_personAt_20) (fun v7 h8 H locs cells slots hH hL hrun => ?_)
    refine lv_iconst (v := (2 : Int32)) (pc := 23) hx hb dX4_personAt_23 (by decide) ?_
    obtain ⟨c11, hrun⟩ := gd_some hrun
    refine V_bd (pc := 24) C hL rfl hrun (fun rr1 e1 => Z_runV (rest := []) C hH (m_X4_isGood hl9 e1) wV_X4_104 c11 rfl (by decide) rfl rfl ⟨by decide, by decide⟩ rfl (Nat.le_of_ble_eq_true rfl) hl.1 dX4_personAt_24) (fun v9 h10 H locs cells slots hH hL hrun => ?_)
    refine lv_if_ne (tgt := 32) (pc := 27) hx hb dX4_personAt_27 (by decide) (fun c_ => ?_) (fun c_ => ?_)
    · have hrun := ite_f hrun c_
      refine V_aload_n (pc := 32) hx hb dX4_personAt_32 rfl (lv_at hl 0 rfl) ?_
      obtain ⟨c12, hrun⟩ := gd_some hrun
      refine V_getR (pc := 33) C hH fr_X4_16 dX4_personAt_33 c12 rfl ?_
      refine lv_iload_n (pc := 36) hx hb dX4_personAt_36 rfl (lv_at hl 1 rfl) ?_
      obtain ⟨c15, hrun⟩ := gd_some hrun
      refine V_bd (pc := 37) C hL rfl hrun (fun rr1 e1 => Z_runV (rest := []) C hH (m_J2_get hl9 e1) wV_X4_108 c15 rfl (by decide) rfl rfl ⟨by decide, by decide⟩ rfl (Nat.le_of_ble_eq_true rfl) hl.1 dX4_personAt_37) (fun v13 h14 H locs cells slots hH hL hrun => ?_)
      obtain ⟨c16, hrun⟩ := gd_some hrun
      refine V_castX (pc := 40) (ci := 5) C hH rfl (by decide) q1946 dX4_personAt_40 c16 ?_
      refine V_astore_n (i := 3) (lv' := [(3, rv v13), (0, rv x0), (1, .int x1), (2, .int x2)]) (pc := 43) hx hb dX4_personAt_43 rfl hl (by decide) rfl (fun ls hl => ?_)
      refine lv_iload_n (pc := 44) hx hb dX4_personAt_44 rfl (lv_at hl 3 rfl) ?_
      by_cases n0 : x2 = (0 : Int32)
      · have hrun := ite_t hrun n0
        refine lv_tableIn (pc := 45) (off := 47) (tgt := 92) hx hb dX4_personAt_45 (by rw [n0]; decide) (by rw [n0]; decide) (by rw [n0]; decide) (by decide) ?_
        refine V_aload_n (pc := 92) hx hb dX4_personAt_92 rfl (lv_at hl 0 rfl) ?_
        obtain ⟨c17, hrun⟩ := gd_some hrun
        refine V_getI (pc := 93) C hH fr_X4_117 dX4_personAt_93 c17 rfl ?_
        exact V_iret (pc := 96) C hH hL hrun dX4_personAt_96
      have hrun := ite_f hrun n0
      by_cases n1 : x2 = (1 : Int32)
      · have hrun := ite_t hrun n1
        refine lv_tableIn (pc := 45) (off := 52) (tgt := 97) hx hb dX4_personAt_45 (by rw [n1]; decide) (by rw [n1]; decide) (by rw [n1]; decide) (by decide) ?_
        refine V_aload_n (pc := 97) hx hb dX4_personAt_97 rfl (lv_at hl 1 rfl) ?_
        refine V_aload_n (pc := 98) hx hb dX4_personAt_98 rfl (lv_at hl 0 rfl) ?_
        obtain ⟨c20, hrun⟩ := gd_some hrun
        refine V_bd (pc := 99) C hL rfl hrun (fun rr1 e1 => Z_runV (rest := []) C hH (m_X4_isIn hl9 e1) wV_X4_120 c20 rfl (by decide) rfl rfl ⟨by decide, by decide⟩ rfl (Nat.le_of_ble_eq_true rfl) hl.1 dX4_personAt_99) (fun v18 h19 H locs cells slots hH hL hrun => ?_)
        refine lv_if_eq (tgt := 109) (pc := 102) hx hb dX4_personAt_102 (by decide) (fun c_ => ?_) (fun c_ => ?_)
        · have hrun := ite_t hrun c_
          refine lv_iconst (v := (0 : Int32)) (pc := 109) hx hb dX4_personAt_109 (by decide) ?_
          exact b_X4_personAt_110 C (0 : Int32) h19 H locs cells slots ls hH hL (lv_sub hl [] rfl) hrun
        · have hrun := ite_f hrun c_
          refine lv_iconst (v := (1 : Int32)) (pc := 105) hx hb dX4_personAt_105 (by decide) ?_
          refine lv_goto (tgt := 110) (pc := 106) hx hb dX4_personAt_106 (by decide) ?_
          exact b_X4_personAt_110 C (1 : Int32) h19 H locs cells slots ls hH hL (lv_sub hl [] rfl) hrun
      have hrun := ite_f hrun n1
      by_cases n2 : x2 = (2 : Int32)
      · have hrun := ite_t hrun n2
        refine lv_tableIn (pc := 45) (off := 66) (tgt := 111) hx hb dX4_personAt_45 (by rw [n2]; decide) (by rw [n2]; decide) (by rw [n2]; decide) (by decide) ?_
        refine V_aload_n (pc := 111) hx hb dX4_personAt_111 rfl (lv_at hl 1 rfl) ?_
        refine V_aload_n (pc := 112) hx hb dX4_personAt_112 rfl (lv_at hl 0 rfl) ?_
        obtain ⟨c23, hrun⟩ := gd_some hrun
        refine V_bd (pc := 113) C hL rfl hrun (fun rr1 e1 => Z_runV (rest := []) C hH (m_X4_subclassOf hl9 e1) wV_X4_241 c23 rfl (by decide) rfl rfl ⟨by decide, by decide⟩ rfl (Nat.le_of_ble_eq_true rfl) hl.1 dX4_personAt_113) (fun v21 h22 H locs cells slots hH hL hrun => ?_)
        exact V_iret (pc := 116) C hH hL hrun dX4_personAt_116
      have hrun := ite_f hrun n2
      by_cases n3 : x2 = (3 : Int32)
      · have hrun := ite_t hrun n3
        refine lv_tableIn (pc := 45) (off := 72) (tgt := 117) hx hb dX4_personAt_45 (by rw [n3]; decide) (by rw [n3]; decide) (by rw [n3]; decide) (by decide) ?_
        refine V_aload_n (pc := 117) hx hb dX4_personAt_117 rfl (lv_at hl 0 rfl) ?_
        obtain ⟨c24, hrun⟩ := gd_some hrun
        refine V_getI (pc := 118) C hH fr_X4_114 dX4_personAt_118 c24 rfl ?_
        exact V_iret (pc := 121) C hH hL hrun dX4_personAt_121
      have hrun := ite_f hrun n3
      by_cases n4 : x2 = (4 : Int32)
      · have hrun := ite_t hrun n4
        refine lv_tableIn (pc := 45) (off := 77) (tgt := 122) hx hb dX4_personAt_45 (by rw [n4]; decide) (by rw [n4]; decide) (by rw [n4]; decide) (by decide) ?_
        refine V_aload_n (pc := 122) hx hb dX4_personAt_122 rfl (lv_at hl 0 rfl) ?_
        obtain ⟨c25, hrun⟩ := gd_some hrun
        refine V_getI (pc := 123) C hH fr_X4_114 dX4_personAt_123 c25 rfl ?_
        refine lv_sipush (v := (1080 : Int32)) (pc := 126) hx hb dX4_personAt_126 (by decide) ?_
        refine lv_icmp_lt (tgt := 136) (pc := 129) hx hb dX4_personAt_129 (by decide) (fun c_ => ?_) (fun c_ => ?_)
        · have hrun := ite_t hrun c_
          refine lv_iconst (v := (0 : Int32)) (pc := 136) hx hb dX4_personAt_136 (by decide) ?_
          exact b_X4_personAt_137 C (0 : Int32) h14 H locs cells slots ls hH hL (lv_sub hl [] rfl) hrun
        · have hrun := ite_f hrun c_
          refine lv_iconst (v := (1 : Int32)) (pc := 132) hx hb dX4_personAt_132 (by decide) ?_
          refine lv_goto (tgt := 137) (pc := 133) hx hb dX4_personAt_133 (by decide) ?_
          exact b_X4_personAt_137 C (1 : Int32) h14 H locs cells slots ls hH hL (lv_sub hl [] rfl) hrun
      have hrun := ite_f hrun n4
      by_cases n5 : x2 = (5 : Int32)
      · have hrun := ite_t hrun n5
        refine lv_tableIn (pc := 45) (off := 93) (tgt := 138) hx hb dX4_personAt_45 (by rw [n5]; decide) (by rw [n5]; decide) (by rw [n5]; decide) (by decide) ?_
        refine V_aload_n (pc := 138) hx hb dX4_personAt_138 rfl (lv_at hl 0 rfl) ?_
        obtain ⟨c26, hrun⟩ := gd_some hrun
        refine V_getI (pc := 139) C hH fr_X4_245 dX4_personAt_139 c26 rfl ?_
        exact V_iret (pc := 142) C hH hL hrun dX4_personAt_142
      have hrun := ite_f hrun n5
      by_cases n6 : x2 = (6 : Int32)
      · have hrun := ite_t hrun n6
        refine lv_tableIn (pc := 45) (off := 98) (tgt := 143) hx hb dX4_personAt_45 (by rw [n6]; decide) (by rw [n6]; decide) (by rw [n6]; decide) (by decide) ?_
        refine V_aload_n (pc := 143) hx hb dX4_personAt_143 rfl (lv_at hl 1 rfl) ?_
        obtain ⟨c27, hrun⟩ := gd_some hrun
        refine V_getR (pc := 144) C hH fr_X4_30 dX4_personAt_144 c27 rfl ?_
        refine V_aload_n (pc := 147) hx hb dX4_personAt_147 rfl (lv_at hl 0 rfl) ?_
        obtain ⟨c28, hrun⟩ := gd_some hrun
        refine V_getR (pc := 148) C hH fr_X4_248 dX4_personAt_148 c28 rfl ?_
        obtain ⟨c31, hrun⟩ := gd_some hrun
        refine V_bd (pc := 151) C hL rfl hrun (fun rr1 e1 => Z_runV (rest := []) C hH (m_J2_indexOf hl9 e1) wV_X4_252 c31 rfl (by decide) rfl rfl ⟨by decide, by decide⟩ rfl (Nat.le_of_ble_eq_true rfl) hl.1 dX4_personAt_151) (fun v29 h30 H locs cells slots hH hL hrun => ?_)
        exact V_iret (pc := 154) C hH hL hrun dX4_personAt_154
      have hrun := ite_f hrun n6
      by_cases n7 : x2 = (7 : Int32)
      · have hrun := ite_t hrun n7
        refine lv_tableIn (pc := 45) (off := 110) (tgt := 155) hx hb dX4_personAt_45 (by rw [n7]; decide) (by rw [n7]; decide) (by rw [n7]; decide) (by decide) ?_
        refine V_aload_n (pc := 155) hx hb dX4_personAt_155 rfl (lv_at hl 0 rfl) ?_
        refine V_aload_n (pc := 156) hx hb dX4_personAt_156 rfl (lv_at hl 1 rfl) ?_
        obtain ⟨c32, hrun⟩ := gd_some hrun
        refine V_getI (pc := 157) C hH fr_X4_43 dX4_personAt_157 c32 rfl ?_
        obtain ⟨c35, hrun⟩ := gd_some hrun
        refine V_bd (pc := 160) C hL rfl hrun (fun rr1 e1 => Z_runV (rest := []) C hH (m_X6_age hl9 e1) wV_X4_143 c35 rfl (by decide) rfl rfl ⟨by decide, by decide⟩ rfl (Nat.le_of_ble_eq_true rfl) hl.1 dX4_personAt_160) (fun v33 h34 H locs cells slots hH hL hrun => ?_)
        exact V_iret (pc := 163) C hH hL hrun dX4_personAt_163
      have hrun := ite_f hrun n7
      refine lv_tableOut (pc := 45) (tgt := 164) hx hb dX4_personAt_45 (sw_out [0, 1, 2, 3, 4, 5, 6, 7] (by decide) (by decide) ⟨by decide, by decide⟩ (List.forall_mem_cons.mpr ⟨sw_ne (v := (0 : Int32)) (by decide) n0, (List.forall_mem_cons.mpr ⟨sw_ne (v := (1 : Int32)) (by decide) n1, (List.forall_mem_cons.mpr ⟨sw_ne (v := (2 : Int32)) (by decide) n2, (List.forall_mem_cons.mpr ⟨sw_ne (v := (3 : Int32)) (by decide) n3, (List.forall_mem_cons.mpr ⟨sw_ne (v := (4 : Int32)) (by decide) n4, (List.forall_mem_cons.mpr ⟨sw_ne (v := (5 : Int32)) (by decide) n5, (List.forall_mem_cons.mpr ⟨sw_ne (v := (6 : Int32)) (by decide) n6, (List.forall_mem_cons.mpr ⟨sw_ne (v := (7 : Int32)) (by decide) n7, (fun _ z => nomatch z)⟩)⟩)⟩)⟩)⟩)⟩)⟩)⟩)) (by decide) ?_
      refine V_aload_n (pc := 164) hx hb dX4_personAt_164 rfl (lv_at hl 0 rfl) ?_
      obtain ⟨c36, hrun⟩ := gd_some hrun
      refine V_getI (pc := 165) C hH fr_X4_225 dX4_personAt_165 c36 rfl ?_
      refine lv_if_eq (tgt := 175) (pc := 168) hx hb dX4_personAt_168 (by decide) (fun c_ => ?_) (fun c_ => ?_)
      · have hrun := ite_t hrun c_
        refine lv_iconst (v := (0 : Int32)) (pc := 175) hx hb dX4_personAt_175 (by decide) ?_
        exact b_X4_personAt_176 C (0 : Int32) h14 H locs cells slots ls hH hL (lv_sub hl [] rfl) hrun
      · have hrun := ite_f hrun c_
        refine lv_iconst (v := (1 : Int32)) (pc := 171) hx hb dX4_personAt_171 (by decide) ?_
        refine lv_goto (tgt := 176) (pc := 172) hx hb dX4_personAt_172 (by decide) ?_
        exact b_X4_personAt_176 C (1 : Int32) h14 H locs cells slots ls hH hL (lv_sub hl [] rfl) hrun
    · have hrun := ite_t hrun c_
      exact b_X4_personAt_30 C h10 H locs cells slots ls hH hL (lv_sub hl [] rfl) hrun

theorem m_X4_personAt {l : Launch} {D : va_G} {Hs : Heap} {h : Hp} {rr : (Int32 ⊕ Ex) × Hp} (hl9 : l.stackTraces = false) {x0 : Nat} {x1 : Int32} {x2 : Int32} (hrun : f_X4_personAt x0 x1 x2 h = some rr) : CM l yX4_personAt (ws_ yX4_personAt cX4_personAt 4 (some .int)) 5 87 iI [rv x0, .int x1, .int x2] D Hs h rr := by
  refine CM.of (lv := [(0, rv x0), (1, .int x1), (2, .int x2)]) (plainFor_of_name (by decide)) hl9 (by simp [lv_args, rv_cat, cat_i, cat_l, cat_f, cat_d]) (by simp [lg_sl, rv_cat, cat_i, cat_l, cat_f, cat_d]) ?_
  intro p e R s m args below meth c H ls C hH hl hin
  exact b_X4_personAt C x0 x1 x2 _ H [] _ _ ls hH (fun _ q => nomatch q) (lv_sub hl [0, 1, 2] rfl) hrun

/-! Massclaim$Person.openLiens()J -/
def f_X5_openLiens_62 (k4 : Nat → Int64 → Int32 → Hp → Rt Int64) (x0 : Nat) (x3 : Int32) (y0 : Int64) (y1 : Int64) (h : Hp) : Rt Int64 :=
  vl (y0 + y1) fun v1 => vl (x3 + (1 : Int32)) fun v2 => k4 x0 v1 v2 h
def f_X5_openLiens_4  : Nat → Nat → Int64 → Int32 → Hp → Rt Int64
  | 0, _, _, _, _ => none
  | n + 1, x0, x1, x3, h => gd (kC h x0 = 5) <| gd (kC h (kR h 421 x0) = 1) <| gd (kC h (kR h 4 (kR h 421 x0)) = 2) <| bd (f_X2_size (kR h 4 (kR h 421 x0)) h) fun v5 h6 => if v5 ≤ x3 then
  (some (.inl x1, h6))
  else
  (gd (kC h6 x0 = 5) <| gd (kC h6 (kR h6 421 x0) = 1) <| gd (kC h6 (kR h6 4 (kR h6 421 x0)) = 2) <| bd (f_X2_at (kR h6 4 (kR h6 421 x0)) x3 h6) fun v10 h11 => gd (v10 = 0 ∨ kC h11 v10 = 16) <| gd (kC h11 v10 = 16) <| if (kR h11 1501 v10) = x0 then
  (gd (kC h11 x0 = 5) <| gd (kC h11 (kR h11 421 x0) = 1) <| gd (kC h11 (kR h11 4 (kR h11 421 x0)) = 2) <| bd (f_X2_at (kR h11 4 (kR h11 421 x0)) x3 h11) fun v17 h18 => gd (v17 = 0 ∨ kC h18 v17 = 16) <| gd (kC h18 v17 = 16) <| f_X5_openLiens_62 (f_X5_openLiens_4 n) x0 x3 x1 ((kI h18 1503 v17).toInt64) h18)
  else
  (f_X5_openLiens_62 (f_X5_openLiens_4 n) x0 x3 x1 (0 : Int64) h11))
def f_X5_openLiens  (x0 : Nat) (h : Hp) : Rt Int64 :=
  f_X5_openLiens_4 FU x0 (0 : Int64) (0 : Int32) h
theorem b_X5_openLiens_62 {rr : (Int64 ⊕ Ex) × Hp} {k4 : Nat → Int64 → Int32 → Hp → Rt Int64} (C : CX p l R s m args meth c D Hs cX5_openLiens "Massclaim$Person" 4 (some .long) [] 8 131) (K4 : ∀ (x0 : Nat) (x1 : Int64) (x3 : Int32) (h : Hp) (H : Heap) (locs : List Loc) (cells slots : Nat) (ls : Array Slot), HP D Hs h H → LO Hs locs → lv_has ls 4 [(0, rv x0), (1, .long x1), (3, .int x3)] → k4 x0 x1 x3 h = some rr → W p l e R s m args below meth c H locs cells slots (ZM D Hs iL rr below args s) (F0 m 4 ls [])) : ∀ (x0 : Nat) (x3 : Int32) (y0 : Int64) (y1 : Int64) (h : Hp) (H : Heap) (locs : List Loc) (cells slots : Nat) (ls : Array Slot), HP D Hs h H → LO Hs locs → lv_has ls 4 [(0, rv x0), (3, .int x3)] → f_X5_openLiens_62 k4 x0 x3 y0 y1 h = some rr → W p l e R s m args below meth c H locs cells slots (ZM D Hs iL rr below args s) (F0 m 62 ls [.long y1, .long y0]) := by
  obtain ⟨⟨hx, hb, hml, hown, hts⟩, -⟩ := id C
  have hl9 := C.2.1.2.2.1
  intro x0 x3 y0 y1 h H locs cells slots ls hH hL hl hrun
  unfold f_X5_openLiens_62 at hrun
  refine lv_ladd (pc := 62) hx hb dX5_openLiens_62 ?_
  refine lv_topl (fun v1 ev1 => ?_)
  have hrun := vl_at hrun v1 ev1
  refine lv_lstore_n (i := 1) (lv' := [(1, .long v1), (0, rv x0), (3, .int x3)]) (pc := 63) hx hb dX5_openLiens_63 rfl hl (by decide) (by simp [rv_cat, cat_i, cat_l, cat_f, cat_d]) (fun ls hl => ?_)
  obtain ⟨v2, ev2⟩ : ∃ y : Int32, y = x3 + (1 : Int32) := ⟨_, rfl⟩
  have hrun := vl_at hrun v2 ev2
  refine lv_iinc (v := v2) (lv' := [(3, .int v2), (1, .long v1), (0, rv x0)]) (pc := 64) hx hb dX5_openLiens_64 hl (k := 2) rfl (by rw [ev2]; rfl) (by decide) (by first | rfl | simp [rv_cat, cat_i, cat_l, cat_f, cat_d]) (fun ls hl => ?_)
  refine lv_goto (tgt := 4) (pc := 67) hx hb dX5_openLiens_67 (by decide) ?_
  exact K4 x0 v1 v2 h H locs cells slots ls hH hL (lv_sub hl [2, 1, 0] rfl) hrun

theorem b_X5_openLiens_4 {rr : (Int64 ⊕ Ex) × Hp}  (C : CX p l R s m args meth c D Hs cX5_openLiens "Massclaim$Person" 4 (some .long) [] 8 131)  : ∀ (n : Nat) (x0 : Nat) (x1 : Int64) (x3 : Int32) (h : Hp) (H : Heap) (locs : List Loc) (cells slots : Nat) (ls : Array Slot), HP D Hs h H → LO Hs locs → lv_has ls 4 [(0, rv x0), (1, .long x1), (3, .int x3)] → f_X5_openLiens_4 n x0 x1 x3 h = some rr → W p l e R s m args below meth c H locs cells slots (ZM D Hs iL rr below args s) (F0 m 4 ls []) := by
  obtain ⟨⟨hx, hb, hml, hown, hts⟩, -⟩ := id C
  have hl9 := C.2.1.2.2.1
  intro n
  induction n with
  | zero =>
    intro x0 x1 x3 h H locs cells slots ls hH hL hl hrun
    cases (show (none : Option _) = some rr from hrun)
  | succ n ih =>
    intro x0 x1 x3 h H locs cells slots ls hH hL hl hrun
    rw [f_X5_openLiens_4] at hrun
    refine lv_iload_n (pc := 4) hx hb dX5_openLiens_4 rfl (lv_at hl 2 rfl) ?_
    refine V_aload_n (pc := 5) hx hb dX5_openLiens_5 rfl (lv_at hl 0 rfl) ?_
    obtain ⟨c3, hrun⟩ := gd_some hrun
    refine V_getR (pc := 6) C hH fr_X5_3 dX5_openLiens_6 c3 rfl ?_
    obtain ⟨c4, hrun⟩ := gd_some hrun
    refine V_getNR (pc := 9) C hH fn_X5_166 dX5_openLiens_9 c4 rfl ?_
    obtain ⟨c7, hrun⟩ := gd_some hrun
    refine V_bd (pc := 12) C hL rfl hrun (fun rr1 e1 => Z_runV (rest := [.int x3]) C hH (m_X2_size hl9 e1) wV_X5_78 c7 rfl (by decide) rfl rfl ⟨by decide, by decide⟩ rfl (Nat.le_of_ble_eq_true rfl) hl.1 dX5_openLiens_12) (fun v5 h6 H locs cells slots hH hL hrun => ?_)
    refine lv_icmp_ge (tgt := 70) (pc := 15) hx hb dX5_openLiens_15 (by decide) (fun c_ => ?_) (fun c_ => ?_)
    · have hrun := ite_t hrun c_
      refine lv_lload_n (pc := 70) hx hb dX5_openLiens_70 rfl (lv_at hl 1 rfl) ?_
      exact V_lret (pc := 71) C hH hL hrun dX5_openLiens_71
    · have hrun := ite_f hrun c_
      refine lv_lload_n (pc := 18) hx hb dX5_openLiens_18 rfl (lv_at hl 1 rfl) ?_
      refine V_aload_n (pc := 19) hx hb dX5_openLiens_19 rfl (lv_at hl 0 rfl) ?_
      obtain ⟨c8, hrun⟩ := gd_some hrun
      refine V_getR (pc := 20) C hH fr_X5_3 dX5_openLiens_20 c8 rfl ?_
      obtain ⟨c9, hrun⟩ := gd_some hrun
      refine V_getNR (pc := 23) C hH fn_X5_166 dX5_openLiens_23 c9 rfl ?_
      refine lv_iload_n (pc := 26) hx hb dX5_openLiens_26 rfl (lv_at hl 2 rfl) ?_
      obtain ⟨c12, hrun⟩ := gd_some hrun
      refine V_bd (pc := 27) C hL rfl hrun (fun rr1 e1 => Z_runV (rest := [.long x1]) C hH (m_X2_at hl9 e1) wV_X5_84 c12 rfl (by decide) rfl rfl ⟨by decide, by decide⟩ rfl (Nat.le_of_ble_eq_true rfl) hl.1 dX5_openLiens_27) (fun v10 h11 H locs cells slots hH hL hrun => ?_)
      obtain ⟨c13, hrun⟩ := gd_some hrun
      refine V_castX (pc := 30) (ci := 15) C hH rfl (by decide) q990 dX5_openLiens_30 c13 ?_
      obtain ⟨c14, hrun⟩ := gd_some hrun
      refine V_getNR (pc := 33) C hH fn_X5_171 dX5_openLiens_33 c14 rfl ?_
      refine V_aload_n (pc := 36) hx hb dX5_openLiens_36 rfl (lv_at hl 0 rfl) ?_
      refine V_acmp_ne (tgt := 61) (pc := 37) hx hb dX5_openLiens_37 (by decide) hrun (fun c_ hrun => ?_) (fun c_ hrun => ?_)
      · refine lv_lconst (v := (0 : Int64)) (pc := 61) hx hb dX5_openLiens_61 (by decide) ?_
        exact b_X5_openLiens_62 C ih x0 x3 x1 (0 : Int64) h11 H locs cells slots ls hH hL (lv_sub hl [0, 2] rfl) hrun
      · refine V_aload_n (pc := 40) hx hb dX5_openLiens_40 rfl (lv_at hl 0 rfl) ?_
        obtain ⟨c15, hrun⟩ := gd_some hrun
        refine V_getR (pc := 41) C hH fr_X5_3 dX5_openLiens_41 c15 rfl ?_
        obtain ⟨c16, hrun⟩ := gd_some hrun
        refine V_getNR (pc := 44) C hH fn_X5_166 dX5_openLiens_44 c16 rfl ?_
        refine lv_iload_n (pc := 47) hx hb dX5_openLiens_47 rfl (lv_at hl 2 rfl) ?_
        obtain ⟨c19, hrun⟩ := gd_some hrun
        refine V_bd (pc := 48) C hL rfl hrun (fun rr1 e1 => Z_runV (rest := [.long x1]) C hH (m_X2_at hl9 e1) wV_X5_84 c19 rfl (by decide) rfl rfl ⟨by decide, by decide⟩ rfl (Nat.le_of_ble_eq_true rfl) hl.1 dX5_openLiens_48) (fun v17 h18 H locs cells slots hH hL hrun => ?_)
        obtain ⟨c20, hrun⟩ := gd_some hrun
        refine V_castX (pc := 51) (ci := 15) C hH rfl (by decide) q990 dX5_openLiens_51 c20 ?_
        obtain ⟨c21, hrun⟩ := gd_some hrun
        refine V_getNI (pc := 54) C hH fn_X5_175 dX5_openLiens_54 c21 rfl ?_
        refine lv_i2l (pc := 57) hx hb dX5_openLiens_57 rfl ?_
        refine lv_goto (tgt := 62) (pc := 58) hx hb dX5_openLiens_58 (by decide) ?_
        exact b_X5_openLiens_62 C ih x0 x3 x1 ((kI h18 1503 v17).toInt64) h18 H locs cells slots ls hH hL (lv_sub hl [0, 2] rfl) hrun

theorem b_X5_openLiens {rr : (Int64 ⊕ Ex) × Hp}  (C : CX p l R s m args meth c D Hs cX5_openLiens "Massclaim$Person" 4 (some .long) [] 8 131)  : ∀ (x0 : Nat) (h : Hp) (H : Heap) (locs : List Loc) (cells slots : Nat) (ls : Array Slot), HP D Hs h H → LO Hs locs → lv_has ls 4 [(0, rv x0)] → f_X5_openLiens x0 h = some rr → W p l e R s m args below meth c H locs cells slots (ZM D Hs iL rr below args s) (F0 m 0 ls []) := by
  obtain ⟨⟨hx, hb, hml, hown, hts⟩, -⟩ := id C
  have hl9 := C.2.1.2.2.1
  intro x0 h H locs cells slots ls hH hL hl hrun
  unfold f_X5_openLiens at hrun
  refine lv_lconst (v := (0 : Int64)) (pc := 0) hx hb dX5_openLiens_0 (by decide) ?_
  refine lv_lstore_n (i := 1) (lv' := [(1, .long (0 : Int64)), (0, rv x0)]) (pc := 1) hx hb dX5_openLiens_1 rfl hl (by decide) (by simp [rv_cat, cat_i, cat_l, cat_f, cat_d]) (fun ls hl => ?_)
  refine lv_iconst (v := (0 : Int32)) (pc := 2) hx hb dX5_openLiens_2 (by decide) ?_
  refine lv_istore_n (i := 3) (lv' := [(3, .int (0 : Int32)), (1, .long (0 : Int64)), (0, rv x0)]) (pc := 3) hx hb dX5_openLiens_3 rfl hl (by decide) rfl (fun ls hl => ?_)
  exact b_X5_openLiens_4 C FU x0 (0 : Int64) (0 : Int32) h H locs cells slots ls hH hL (lv_sub hl [2, 1, 0] rfl) hrun

theorem m_X5_openLiens {l : Launch} {D : va_G} {Hs : Heap} {h : Hp} {rr : (Int64 ⊕ Ex) × Hp} (hl9 : l.stackTraces = false) {x0 : Nat} (hrun : f_X5_openLiens x0 h = some rr) : CM l yX5_openLiens (ws_ yX5_openLiens cX5_openLiens 4 (some .long)) 8 131 iL [rv x0] D Hs h rr := by
  refine CM.of (lv := [(0, rv x0)]) (plainFor_of_name (by decide)) hl9 (by simp [lv_args, rv_cat, cat_i, cat_l, cat_f, cat_d]) (by simp [lg_sl, rv_cat, cat_i, cat_l, cat_f, cat_d]) ?_
  intro p e R s m args below meth c H ls C hH hl hin
  exact b_X5_openLiens C x0 _ H [] _ _ ls hH (fun _ q => nomatch q) (lv_sub hl [0] rfl) hrun

/-! Massclaim.moneyOf(II)J -/
def f_X1_moneyOf_88  (y0 : Int64) (h : Hp) : Rt Int64 :=
  some (.inl y0, h)
def f_X1_moneyOf  (x0 : Nat) (x1 : Int32) (x2 : Int32) (h : Hp) : Rt Int64 :=
  gd (kC h x0 = 1) <| gd (kC h (kR h 0 x0) = 2) <| bd (f_X2_at (kR h 0 x0) x1 h) fun v2 h3 => gd (v2 = 0 ∨ kC h3 v2 = 5) <| bd (f_X1_isIn (x2.toInt64) (0 : Int64) (4 : Int64) h3) fun v6 h7 => bd (f_X1_requireArgument v6 h7) fun _ h9 => if x2 = (0 : Int32) then
  (gd (kC h9 v2 = 5) <| f_X1_moneyOf_88 (kL h9 416 v2) h9)
  else
  if x2 = (1 : Int32) then
  (gd (kC h9 v2 = 5) <| f_X1_moneyOf_88 (kL h9 417 v2) h9)
  else
  if x2 = (2 : Int32) then
  (gd (kC h9 v2 = 5) <| f_X1_moneyOf_88 (kL h9 418 v2) h9)
  else
  if x2 = (3 : Int32) then
  (gd (kC h9 v2 = 5) <| bd (f_X5_lies v2 h9) fun v13 h14 => f_X1_moneyOf_88 v13 h14)
  else
  (gd (kC h9 v2 = 5) <| bd (f_X5_openLiens v2 h9) fun v16 h17 => f_X1_moneyOf_88 v16 h17)
theorem b_X1_moneyOf_88 {rr : (Int64 ⊕ Ex) × Hp}  (C : CX p l R s m args meth c D Hs cX1_moneyOf "Massclaim" 4 (some .long) [] 9 154)  : ∀ (y0 : Int64) (h : Hp) (H : Heap) (locs : List Loc) (cells slots : Nat) (ls : Array Slot), HP D Hs h H → LO Hs locs → lv_has ls 4 [] → f_X1_moneyOf_88 y0 h = some rr → W p l e R s m args below meth c H locs cells slots (ZM D Hs iL rr below args s) (F0 m 88 ls [.long y0]) := by
  obtain ⟨⟨hx, hb, hml, hown, hts⟩, -⟩ := id C
  have hl9 := C.2.1.2.2.1
  intro y0 h H locs cells slots ls hH hL hl hrun
  unfold f_X1_moneyOf_88 at hrun
  exact V_lret (pc := 88) C hH hL hrun dX1_moneyOf_88

theorem b_X1_moneyOf {rr : (Int64 ⊕ Ex) × Hp}  (C : CX p l R s m args meth c D Hs cX1_moneyOf "Massclaim" 4 (some .long) [] 9 154)  : ∀ (x0 : Nat) (x1 : Int32) (x2 : Int32) (h : Hp) (H : Heap) (locs : List Loc) (cells slots : Nat) (ls : Array Slot), HP D Hs h H → LO Hs locs → lv_has ls 4 [(0, rv x0), (1, .int x1), (2, .int x2)] → f_X1_moneyOf x0 x1 x2 h = some rr → W p l e R s m args below meth c H locs cells slots (ZM D Hs iL rr below args s) (F0 m 0 ls []) := by
  obtain ⟨⟨hx, hb, hml, hown, hts⟩, -⟩ := id C
  have hl9 := C.2.1.2.2.1
  intro x0 x1 x2 h H locs cells slots ls hH hL hl hrun
  unfold f_X1_moneyOf at hrun
  refine V_aload_n (pc := 0) hx hb dX1_moneyOf_0 rfl (lv_at hl 0 rfl) ?_
  obtain ⟨c1, hrun⟩ := gd_some hrun
  refine V_getR (pc := 1) C hH fr_X1_42 dX1_moneyOf_1 c1 rfl ?_
  refine lv_iload_n (pc := 4) hx hb dX1_moneyOf_4 rfl (lv_at hl 1 rfl) ?_
  obtain ⟨c4, hrun⟩ := gd_some hrun
  refine V_bd (pc := 5) C hL rfl hrun (fun rr1 e1 => Z_runV (rest := []) C hH (m_X2_at hl9 e1) wV_X1_136 c4 rfl (by decide) rfl rfl ⟨by decide, by decide⟩ rfl (Nat.le_of_ble_eq_true rfl) hl.1 dX1_moneyOf_5) (fun v2 h3 H locs cells slots hH hL hrun => ?_)
  obtain ⟨c5, hrun⟩ := gd_some hrun
  refine V_castX (pc := 8) (ci := 4) C hH rfl (by decide) q376 dX1_moneyOf_8 c5 ?_
  refine V_astore_n (i := 3) (lv' := [(3, rv v2), (0, rv x0), (1, .int x1), (2, .int x2)]) (pc := 11) hx hb dX1_moneyOf_11 rfl hl (by decide) rfl (fun ls hl => ?_)
  refine lv_iload_n (pc := 12) hx hb dX1_moneyOf_12 rfl (lv_at hl 3 rfl) ?_
  refine lv_i2l (pc := 13) hx hb dX1_moneyOf_13 rfl ?_
  refine lv_lconst (v := (0 : Int64)) (pc := 14) hx hb dX1_moneyOf_14 (by decide) ?_
  refine lv_ldc2 (pc := 15) hx hb hown (hts _ q985) dX1_moneyOf_15 ?_
  refine V_bd (pc := 18) C hL rfl hrun (fun rr1 e1 => Z_runS (rest := []) C hH (m_X1_isIn hl9 e1) wS_X1_127 rfl ⟨by decide, by decide⟩ rfl (Nat.le_of_ble_eq_true rfl) hl.1 dX1_moneyOf_18) (fun v6 h7 H locs cells slots hH hL hrun => ?_)
  refine V_bd (pc := 21) C hL rfl hrun (fun rr1 e1 => Z_runS (rest := []) C hH (m_X1_requireArgument hl9 e1) wS_X1_131 rfl ⟨by decide, by decide⟩ rfl (Nat.le_of_ble_eq_true rfl) hl.1 dX1_moneyOf_21) (fun _ h9 H locs cells slots hH hL hrun => ?_)
  refine lv_iload_n (pc := 24) hx hb dX1_moneyOf_24 rfl (lv_at hl 3 rfl) ?_
  by_cases n0 : x2 = (0 : Int32)
  · have hrun := ite_t hrun n0
    refine lv_tableIn (pc := 25) (off := 31) (tgt := 56) hx hb dX1_moneyOf_25 (by rw [n0]; decide) (by rw [n0]; decide) (by rw [n0]; decide) (by decide) ?_
    refine V_aload_n (pc := 56) hx hb dX1_moneyOf_56 rfl (lv_at hl 0 rfl) ?_
    obtain ⟨c10, hrun⟩ := gd_some hrun
    refine V_getNL (pc := 57) C hH fn_X1_266 dX1_moneyOf_57 c10 rfl ?_
    refine lv_goto (tgt := 88) (pc := 60) hx hb dX1_moneyOf_60 (by decide) ?_
    exact b_X1_moneyOf_88 C (kL h9 416 v2) h9 H locs cells slots ls hH hL (lv_sub hl [] rfl) hrun
  have hrun := ite_f hrun n0
  by_cases n1 : x2 = (1 : Int32)
  · have hrun := ite_t hrun n1
    refine lv_tableIn (pc := 25) (off := 38) (tgt := 63) hx hb dX1_moneyOf_25 (by rw [n1]; decide) (by rw [n1]; decide) (by rw [n1]; decide) (by decide) ?_
    refine V_aload_n (pc := 63) hx hb dX1_moneyOf_63 rfl (lv_at hl 0 rfl) ?_
    obtain ⟨c11, hrun⟩ := gd_some hrun
    refine V_getNL (pc := 64) C hH fn_X1_191 dX1_moneyOf_64 c11 rfl ?_
    refine lv_goto (tgt := 88) (pc := 67) hx hb dX1_moneyOf_67 (by decide) ?_
    exact b_X1_moneyOf_88 C (kL h9 417 v2) h9 H locs cells slots ls hH hL (lv_sub hl [] rfl) hrun
  have hrun := ite_f hrun n1
  by_cases n2 : x2 = (2 : Int32)
  · have hrun := ite_t hrun n2
    refine lv_tableIn (pc := 25) (off := 45) (tgt := 70) hx hb dX1_moneyOf_25 (by rw [n2]; decide) (by rw [n2]; decide) (by rw [n2]; decide) (by decide) ?_
    refine V_aload_n (pc := 70) hx hb dX1_moneyOf_70 rfl (lv_at hl 0 rfl) ?_
    obtain ⟨c12, hrun⟩ := gd_some hrun
    refine V_getNL (pc := 71) C hH fn_X1_269 dX1_moneyOf_71 c12 rfl ?_
    refine lv_goto (tgt := 88) (pc := 74) hx hb dX1_moneyOf_74 (by decide) ?_
    exact b_X1_moneyOf_88 C (kL h9 418 v2) h9 H locs cells slots ls hH hL (lv_sub hl [] rfl) hrun
  have hrun := ite_f hrun n2
  by_cases n3 : x2 = (3 : Int32)
  · have hrun := ite_t hrun n3
    refine lv_tableIn (pc := 25) (off := 52) (tgt := 77) hx hb dX1_moneyOf_25 (by rw [n3]; decide) (by rw [n3]; decide) (by rw [n3]; decide) (by decide) ?_
    refine V_aload_n (pc := 77) hx hb dX1_moneyOf_77 rfl (lv_at hl 0 rfl) ?_
    obtain ⟨c15, hrun⟩ := gd_some hrun
    refine V_bd (pc := 78) C hL rfl hrun (fun rr1 e1 => Z_runV (rest := []) C hH (m_X5_lies hl9 e1) wV_X1_194 c15 rfl (by decide) rfl rfl ⟨by decide, by decide⟩ rfl (Nat.le_of_ble_eq_true rfl) hl.1 dX1_moneyOf_78) (fun v13 h14 H locs cells slots hH hL hrun => ?_)
    refine lv_goto (tgt := 88) (pc := 81) hx hb dX1_moneyOf_81 (by decide) ?_
    exact b_X1_moneyOf_88 C v13 h14 H locs cells slots ls hH hL (lv_sub hl [] rfl) hrun
  have hrun := ite_f hrun n3
  refine lv_tableOut (pc := 25) (tgt := 84) hx hb dX1_moneyOf_25 (sw_out [0, 1, 2, 3] (by decide) (by decide) ⟨by decide, by decide⟩ (List.forall_mem_cons.mpr ⟨sw_ne (v := (0 : Int32)) (by decide) n0, (List.forall_mem_cons.mpr ⟨sw_ne (v := (1 : Int32)) (by decide) n1, (List.forall_mem_cons.mpr ⟨sw_ne (v := (2 : Int32)) (by decide) n2, (List.forall_mem_cons.mpr ⟨sw_ne (v := (3 : Int32)) (by decide) n3, (fun _ z => nomatch z)⟩)⟩)⟩)⟩)) (by decide) ?_
  refine V_aload_n (pc := 84) hx hb dX1_moneyOf_84 rfl (lv_at hl 0 rfl) ?_
  obtain ⟨c18, hrun⟩ := gd_some hrun
  refine V_bd (pc := 85) C hL rfl hrun (fun rr1 e1 => Z_runV (rest := []) C hH (m_X5_openLiens hl9 e1) wV_X1_272 c18 rfl (by decide) rfl rfl ⟨by decide, by decide⟩ rfl (Nat.le_of_ble_eq_true rfl) hl.1 dX1_moneyOf_85) (fun v16 h17 H locs cells slots hH hL hrun => ?_)
  exact b_X1_moneyOf_88 C v16 h17 H locs cells slots ls hH hL (lv_sub hl [] rfl) hrun

theorem m_X1_moneyOf {l : Launch} {D : va_G} {Hs : Heap} {h : Hp} {rr : (Int64 ⊕ Ex) × Hp} (hl9 : l.stackTraces = false) {x0 : Nat} {x1 : Int32} {x2 : Int32} (hrun : f_X1_moneyOf x0 x1 x2 h = some rr) : CM l yX1_moneyOf (ws_ yX1_moneyOf cX1_moneyOf 4 (some .long)) 9 154 iL [rv x0, .int x1, .int x2] D Hs h rr := by
  refine CM.of (lv := [(0, rv x0), (1, .int x1), (2, .int x2)]) (plainFor_of_name (by decide)) hl9 (by simp [lv_args, rv_cat, cat_i, cat_l, cat_f, cat_d]) (by simp [lg_sl, rv_cat, cat_i, cat_l, cat_f, cat_d]) ?_
  intro p e R s m args below meth c H ls C hH hl hin
  exact b_X1_moneyOf C x0 x1 x2 _ H [] _ _ ls hH (fun _ q => nomatch q) (lv_sub hl [0, 1, 2] rfl) hrun

/-! MassclaimLaw.moneyOf(LMassclaim;II[J)I -/
def f_X0_moneyOf_12  (y0 : Nat) (h : Hp) : Rt Int32 :=
  some (.inl (1 : Int32), h)
def f_X0_moneyOf_16  (y0 : Nat) (h : Hp) : Rt Int32 :=
  some (.inl (2 : Int32), h)
def f_X0_moneyOf  (x0 : Nat) (x1 : Int32) (x2 : Int32) (x3 : Nat) (h : Hp) : Rt Int32 :=
  gd (kC h x0 = 1) <| bdH (f_X1_moneyOf x0 x1 x2 h)
  (fun v1 h2 => gd (kC h2 x3 = 102 ∧ ixo (0 : Int32) (kN h2 x3)) <| vl (tL h2 x3 ((0 : Int32)).toNatClampNeg v1) fun h5 => some (.inl (0 : Int32), h5))
  (fun ex6 h7 => if ex6.1 = 901 then
  (f_X0_moneyOf_12 ex6.2 h7)
  else
  if ex6.1 = 902 then
  (f_X0_moneyOf_16 ex6.2 h7)
  else
  none)
theorem b_X0_moneyOf_12 {rr : (Int32 ⊕ Ex) × Hp}  (C : CX p l R s m args meth c D Hs cX0_moneyOf "MassclaimLaw" 5 (some .int) [(0, 9, 12, 25), (0, 9, 16, 13)] 10 177)  : ∀ (y0 : Nat) (h : Hp) (H : Heap) (locs : List Loc) (cells slots : Nat) (ls : Array Slot), HP D Hs h H → LO Hs locs → lv_has ls 5 [] → f_X0_moneyOf_12 y0 h = some rr → W p l e R s m args below meth c H locs cells slots (ZM D Hs iI rr below args s) (F0 m 12 ls [rv y0]) := by
  obtain ⟨⟨hx, hb, hml, hown, hts⟩, -⟩ := id C
  have hl9 := C.2.1.2.2.1
  intro y0 h H locs cells slots ls hH hL hl hrun
  unfold f_X0_moneyOf_12 at hrun
  refine V_astore (i := 4) (lv' := [(4, rv y0)]) (pc := 12) hx hb dX0_moneyOf_12 hl (by decide) rfl (fun ls hl => ?_)
  refine lv_iconst (v := (1 : Int32)) (pc := 14) hx hb dX0_moneyOf_14 (by decide) ?_
  exact V_iret (pc := 15) C hH hL hrun dX0_moneyOf_15

theorem b_X0_moneyOf_16 {rr : (Int32 ⊕ Ex) × Hp}  (C : CX p l R s m args meth c D Hs cX0_moneyOf "MassclaimLaw" 5 (some .int) [(0, 9, 12, 25), (0, 9, 16, 13)] 10 177)  : ∀ (y0 : Nat) (h : Hp) (H : Heap) (locs : List Loc) (cells slots : Nat) (ls : Array Slot), HP D Hs h H → LO Hs locs → lv_has ls 5 [] → f_X0_moneyOf_16 y0 h = some rr → W p l e R s m args below meth c H locs cells slots (ZM D Hs iI rr below args s) (F0 m 16 ls [rv y0]) := by
  obtain ⟨⟨hx, hb, hml, hown, hts⟩, -⟩ := id C
  have hl9 := C.2.1.2.2.1
  intro y0 h H locs cells slots ls hH hL hl hrun
  unfold f_X0_moneyOf_16 at hrun
  refine V_astore (i := 4) (lv' := [(4, rv y0)]) (pc := 16) hx hb dX0_moneyOf_16 hl (by decide) rfl (fun ls hl => ?_)
  refine lv_iconst (v := (2 : Int32)) (pc := 18) hx hb dX0_moneyOf_18 (by decide) ?_
  exact V_iret (pc := 19) C hH hL hrun dX0_moneyOf_19

theorem b_X0_moneyOf {rr : (Int32 ⊕ Ex) × Hp}  (C : CX p l R s m args meth c D Hs cX0_moneyOf "MassclaimLaw" 5 (some .int) [(0, 9, 12, 25), (0, 9, 16, 13)] 10 177)  : ∀ (x0 : Nat) (x1 : Int32) (x2 : Int32) (x3 : Nat) (h : Hp) (H : Heap) (locs : List Loc) (cells slots : Nat) (ls : Array Slot), HP D Hs h H → LO Hs locs → lv_has ls 5 [(0, rv x0), (1, .int x1), (2, .int x2), (3, rv x3)] → f_X0_moneyOf x0 x1 x2 x3 h = some rr → W p l e R s m args below meth c H locs cells slots (ZM D Hs iI rr below args s) (F0 m 0 ls []) := by
  obtain ⟨⟨hx, hb, hml, hown, hts⟩, -⟩ := id C
  have hl9 := C.2.1.2.2.1
  intro x0 x1 x2 x3 h H locs cells slots ls hH hL hl hrun
  unfold f_X0_moneyOf at hrun
  refine V_aload_n (pc := 0) hx hb dX0_moneyOf_0 rfl (lv_at hl 3 rfl) ?_
  refine lv_iconst (v := (0 : Int32)) (pc := 1) hx hb dX0_moneyOf_1 (by decide) ?_
  refine V_aload_n (pc := 2) hx hb dX0_moneyOf_2 rfl (lv_at hl 0 rfl) ?_
  refine lv_iload_n (pc := 3) hx hb dX0_moneyOf_3 rfl (lv_at hl 1 rfl) ?_
  refine lv_iload_n (pc := 4) hx hb dX0_moneyOf_4 rfl (lv_at hl 2 rfl) ?_
  obtain ⟨c3, hrun⟩ := gd_some hrun
  refine V_bdH (pc := 5) hL hrun (fun rr1 e1 => Z_runV (rest := [.int (0 : Int32), rv x3]) C hH (m_X1_moneyOf hl9 e1) wV_X0_42 c3 rfl (by decide) rfl rfl ⟨by decide, by decide⟩ rfl (by simp [csum, rv_cat, cat_i, cat_l, cat_f, cat_d]) hl.1 dX0_moneyOf_5) (fun v1 h2 H locs cells slots hH hL hrun => ?_) (fun x_ q_ ce_ h7 H locs cells slots hH hL hrun hc_ hv_ hcl_ => ?_)
  · obtain ⟨c4, hrun⟩ := gd_some hrun
    refine V_last (pc := 8) C hH hL dX0_moneyOf_8 c4 hrun (fun h5 H locs hH hL hrun => ?_)
    refine lv_goto (tgt := 20) (pc := 9) hx hb dX0_moneyOf_9 (by decide) ?_
    refine lv_iconst (v := (0 : Int32)) (pc := 20) hx hb dX0_moneyOf_20 (by decide) ?_
    exact V_iret (pc := 21) C hH hL hrun dX0_moneyOf_21
  · by_cases n901 : x_ = 901
    · subst n901
      have hrun := ite_t hrun rfl
      refine vx_catch (E := "java/lang/IndexOutOfBoundsException") (name := "java/lang/IndexOutOfBoundsException") hown (tableOf []) ⟨0, 9, 12, 25⟩ (tableOf [(0, 9, 16, 13)]) (by rw [C.2.1.2.2.2.2]; rfl) (fun z hz => nomatch hz) (by decide) (by decide) (hts _ q829) (va_Nw.use rfl (C.2.1.2.2.2.1.2.1 _ q537 rfl)) hc_ hv_ hcl_ ?_
      exact b_X0_moneyOf_12 C (q_ + 1) h7 H locs cells slots ls hH hL (lv_sub hl [] rfl) hrun
    have hrun := ite_f hrun n901
    by_cases n902 : x_ = 902
    · subst n902
      have hrun := ite_t hrun rfl
      refine vx_catch (E := "java/lang/IllegalArgumentException") (name := "java/lang/IllegalArgumentException") hown (tableOf [(0, 9, 12, 25)]) ⟨0, 9, 16, 13⟩ (tableOf []) (by rw [C.2.1.2.2.2.2]; rfl) (fun z hz => by simp only [tableOf, List.map, List.mem_cons, List.not_mem_nil, or_false] at hz; rcases hz with rfl <;> first | exact Or.inr ⟨by decide, "java/lang/IndexOutOfBoundsException", hts _ q829, nc_at C (by decide)⟩) (by decide) (by decide) (hts _ q449) (va_Nw.use rfl (C.2.1.2.2.2.1.2.1 _ q463 rfl)) hc_ hv_ hcl_ ?_
      exact b_X0_moneyOf_16 C (q_ + 1) h7 H locs cells slots ls hH hL (lv_sub hl [] rfl) hrun
    have hrun := ite_f hrun n902
    cases hrun

theorem m_X0_moneyOf {l : Launch} {D : va_G} {Hs : Heap} {h : Hp} {rr : (Int32 ⊕ Ex) × Hp} (hl9 : l.stackTraces = false) {x0 : Nat} {x1 : Int32} {x2 : Int32} {x3 : Nat} (hrun : f_X0_moneyOf x0 x1 x2 x3 h = some rr) : CM l yX0_moneyOf (wsW_ yX0_moneyOf cX0_moneyOf 5 (some .int) [(0, 9, 12, 25), (0, 9, 16, 13)]) 10 177 iI [rv x0, .int x1, .int x2, rv x3] D Hs h rr := by
  refine CM.ofH (lv := [(0, rv x0), (1, .int x1), (2, .int x2), (3, rv x3)]) (plainFor_of_name (by decide)) hl9 (by simp [lv_args, rv_cat, cat_i, cat_l, cat_f, cat_d]) (by simp [lg_sl, rv_cat, cat_i, cat_l, cat_f, cat_d]) ?_
  intro p e R s m args below meth c H ls C hH hl hin
  exact b_X0_moneyOf C x0 x1 x2 x3 _ H [] _ _ ls hH (fun _ q => nomatch q) (lv_sub hl [0, 1, 2, 3] rfl) hrun

/-! MassclaimModel.openOf(LMassclaimModel$Person;)I -/
def f_X4_openOf_52 (k4 : Nat → Nat → Int32 → Int32 → Hp → Rt Int32) (x0 : Nat) (x1 : Nat) (x3 : Int32) (y0 : Int32) (y1 : Int32) (h : Hp) : Rt Int32 :=
  vl (y0 + y1) fun v1 => vl (x3 + (1 : Int32)) fun v2 => k4 x0 x1 v1 v2 h
def f_X4_openOf_4  : Nat → Nat → Nat → Int32 → Int32 → Hp → Rt Int32
  | 0, _, _, _, _, _ => none
  | n + 1, x0, x1, x2, x3, h => gd (kC h x0 = 4) <| gd (kC h (kR h 321 x0) = 18) <| bd (f_J2_size (kR h 321 x0) h) fun v4 h5 => if v4 ≤ x3 then
  (some (.inl x2, h5))
  else
  (gd (kC h5 x0 = 4) <| gd (kC h5 (kR h5 321 x0) = 18) <| bd (f_J2_get (kR h5 321 x0) x3 h5) fun v8 h9 => gd (v8 = 0 ∨ kC h9 v8 = 17) <| gd (kC h9 v8 = 17) <| if (kR h9 1600 v8) = x1 then
  (gd (kC h9 x0 = 4) <| gd (kC h9 (kR h9 321 x0) = 18) <| bd (f_J2_get (kR h9 321 x0) x3 h9) fun v14 h15 => gd (v14 = 0 ∨ kC h15 v14 = 17) <| gd (kC h15 v14 = 17) <| f_X4_openOf_52 (f_X4_openOf_4 n) x0 x1 x3 x2 (kI h15 1601 v14) h15)
  else
  (f_X4_openOf_52 (f_X4_openOf_4 n) x0 x1 x3 x2 (0 : Int32) h9))
def f_X4_openOf  (x0 : Nat) (x1 : Nat) (h : Hp) : Rt Int32 :=
  f_X4_openOf_4 FU x0 x1 (0 : Int32) (0 : Int32) h
theorem b_X4_openOf_52 {rr : (Int32 ⊕ Ex) × Hp} {k4 : Nat → Nat → Int32 → Int32 → Hp → Rt Int32} (C : CX p l R s m args meth c D Hs cX4_openOf "MassclaimModel" 4 (some .int) [] 4 64) (K4 : ∀ (x0 : Nat) (x1 : Nat) (x2 : Int32) (x3 : Int32) (h : Hp) (H : Heap) (locs : List Loc) (cells slots : Nat) (ls : Array Slot), HP D Hs h H → LO Hs locs → lv_has ls 4 [(0, rv x0), (1, rv x1), (2, .int x2), (3, .int x3)] → k4 x0 x1 x2 x3 h = some rr → W p l e R s m args below meth c H locs cells slots (ZM D Hs iI rr below args s) (F0 m 4 ls [])) : ∀ (x0 : Nat) (x1 : Nat) (x3 : Int32) (y0 : Int32) (y1 : Int32) (h : Hp) (H : Heap) (locs : List Loc) (cells slots : Nat) (ls : Array Slot), HP D Hs h H → LO Hs locs → lv_has ls 4 [(0, rv x0), (1, rv x1), (3, .int x3)] → f_X4_openOf_52 k4 x0 x1 x3 y0 y1 h = some rr → W p l e R s m args below meth c H locs cells slots (ZM D Hs iI rr below args s) (F0 m 52 ls [.int y1, .int y0]) := by
  obtain ⟨⟨hx, hb, hml, hown, hts⟩, -⟩ := id C
  have hl9 := C.2.1.2.2.1
  intro x0 x1 x3 y0 y1 h H locs cells slots ls hH hL hl hrun
  unfold f_X4_openOf_52 at hrun
  refine lv_iadd (pc := 52) hx hb dX4_openOf_52 ?_
  refine lv_topi (fun v1 ev1 => ?_)
  have hrun := vl_at hrun v1 ev1
  refine lv_istore_n (i := 2) (lv' := [(2, .int v1), (0, rv x0), (1, rv x1), (3, .int x3)]) (pc := 53) hx hb dX4_openOf_53 rfl hl (by decide) (by simp [rv_cat, cat_i, cat_l, cat_f, cat_d]) (fun ls hl => ?_)
  obtain ⟨v2, ev2⟩ : ∃ y : Int32, y = x3 + (1 : Int32) := ⟨_, rfl⟩
  have hrun := vl_at hrun v2 ev2
  refine lv_iinc (v := v2) (lv' := [(3, .int v2), (2, .int v1), (0, rv x0), (1, rv x1)]) (pc := 54) hx hb dX4_openOf_54 hl (k := 3) rfl (by rw [ev2]; rfl) (by decide) (by first | rfl | simp [rv_cat, cat_i, cat_l, cat_f, cat_d]) (fun ls hl => ?_)
  refine lv_goto (tgt := 4) (pc := 57) hx hb dX4_openOf_57 (by decide) ?_
  exact K4 x0 x1 v1 v2 h H locs cells slots ls hH hL (lv_sub hl [2, 3, 1, 0] rfl) hrun

theorem b_X4_openOf_4 {rr : (Int32 ⊕ Ex) × Hp}  (C : CX p l R s m args meth c D Hs cX4_openOf "MassclaimModel" 4 (some .int) [] 4 64)  : ∀ (n : Nat) (x0 : Nat) (x1 : Nat) (x2 : Int32) (x3 : Int32) (h : Hp) (H : Heap) (locs : List Loc) (cells slots : Nat) (ls : Array Slot), HP D Hs h H → LO Hs locs → lv_has ls 4 [(0, rv x0), (1, rv x1), (2, .int x2), (3, .int x3)] → f_X4_openOf_4 n x0 x1 x2 x3 h = some rr → W p l e R s m args below meth c H locs cells slots (ZM D Hs iI rr below args s) (F0 m 4 ls []) := by
  obtain ⟨⟨hx, hb, hml, hown, hts⟩, -⟩ := id C
  have hl9 := C.2.1.2.2.1
  intro n
  induction n with
  | zero =>
    intro x0 x1 x2 x3 h H locs cells slots ls hH hL hl hrun
    cases (show (none : Option _) = some rr from hrun)
  | succ n ih =>
    intro x0 x1 x2 x3 h H locs cells slots ls hH hL hl hrun
    rw [f_X4_openOf_4] at hrun
    refine lv_iload_n (pc := 4) hx hb dX4_openOf_4 rfl (lv_at hl 3 rfl) ?_
    refine V_aload_n (pc := 5) hx hb dX4_openOf_5 rfl (lv_at hl 0 rfl) ?_
    obtain ⟨c3, hrun⟩ := gd_some hrun
    refine V_getR (pc := 6) C hH fr_X4_33 dX4_openOf_6 c3 rfl ?_
    obtain ⟨c6, hrun⟩ := gd_some hrun
    refine V_bd (pc := 9) C hL rfl hrun (fun rr1 e1 => Z_runV (rest := [.int x3]) C hH (m_J2_size hl9 e1) wV_X4_94 c6 rfl (by decide) rfl rfl ⟨by decide, by decide⟩ rfl (Nat.le_of_ble_eq_true rfl) hl.1 dX4_openOf_9) (fun v4 h5 H locs cells slots hH hL hrun => ?_)
    refine lv_icmp_ge (tgt := 60) (pc := 12) hx hb dX4_openOf_12 (by decide) (fun c_ => ?_) (fun c_ => ?_)
    · have hrun := ite_t hrun c_
      refine lv_iload_n (pc := 60) hx hb dX4_openOf_60 rfl (lv_at hl 2 rfl) ?_
      exact V_iret (pc := 61) C hH hL hrun dX4_openOf_61
    · have hrun := ite_f hrun c_
      refine lv_iload_n (pc := 15) hx hb dX4_openOf_15 rfl (lv_at hl 2 rfl) ?_
      refine V_aload_n (pc := 16) hx hb dX4_openOf_16 rfl (lv_at hl 0 rfl) ?_
      obtain ⟨c7, hrun⟩ := gd_some hrun
      refine V_getR (pc := 17) C hH fr_X4_33 dX4_openOf_17 c7 rfl ?_
      refine lv_iload_n (pc := 20) hx hb dX4_openOf_20 rfl (lv_at hl 3 rfl) ?_
      obtain ⟨c10, hrun⟩ := gd_some hrun
      refine V_bd (pc := 21) C hL rfl hrun (fun rr1 e1 => Z_runV (rest := [.int x2]) C hH (m_J2_get hl9 e1) wV_X4_108 c10 rfl (by decide) rfl rfl ⟨by decide, by decide⟩ rfl (Nat.le_of_ble_eq_true rfl) hl.1 dX4_openOf_21) (fun v8 h9 H locs cells slots hH hL hrun => ?_)
      obtain ⟨c11, hrun⟩ := gd_some hrun
      refine V_castX (pc := 24) (ci := 16) C hH rfl (by decide) q2161 dX4_openOf_24 c11 ?_
      obtain ⟨c12, hrun⟩ := gd_some hrun
      refine V_getR (pc := 27) C hH fr_X4_258 dX4_openOf_27 c12 rfl ?_
      refine V_aload_n (pc := 30) hx hb dX4_openOf_30 rfl (lv_at hl 1 rfl) ?_
      refine V_acmp_ne (tgt := 51) (pc := 31) hx hb dX4_openOf_31 (by decide) hrun (fun c_ hrun => ?_) (fun c_ hrun => ?_)
      · refine lv_iconst (v := (0 : Int32)) (pc := 51) hx hb dX4_openOf_51 (by decide) ?_
        exact b_X4_openOf_52 C ih x0 x1 x3 x2 (0 : Int32) h9 H locs cells slots ls hH hL (lv_sub hl [0, 1, 3] rfl) hrun
      · refine V_aload_n (pc := 34) hx hb dX4_openOf_34 rfl (lv_at hl 0 rfl) ?_
        obtain ⟨c13, hrun⟩ := gd_some hrun
        refine V_getR (pc := 35) C hH fr_X4_33 dX4_openOf_35 c13 rfl ?_
        refine lv_iload_n (pc := 38) hx hb dX4_openOf_38 rfl (lv_at hl 3 rfl) ?_
        obtain ⟨c16, hrun⟩ := gd_some hrun
        refine V_bd (pc := 39) C hL rfl hrun (fun rr1 e1 => Z_runV (rest := [.int x2]) C hH (m_J2_get hl9 e1) wV_X4_108 c16 rfl (by decide) rfl rfl ⟨by decide, by decide⟩ rfl (Nat.le_of_ble_eq_true rfl) hl.1 dX4_openOf_39) (fun v14 h15 H locs cells slots hH hL hrun => ?_)
        obtain ⟨c17, hrun⟩ := gd_some hrun
        refine V_castX (pc := 42) (ci := 16) C hH rfl (by decide) q2161 dX4_openOf_42 c17 ?_
        obtain ⟨c18, hrun⟩ := gd_some hrun
        refine V_getI (pc := 45) C hH fr_X4_262 dX4_openOf_45 c18 rfl ?_
        refine lv_goto (tgt := 52) (pc := 48) hx hb dX4_openOf_48 (by decide) ?_
        exact b_X4_openOf_52 C ih x0 x1 x3 x2 (kI h15 1601 v14) h15 H locs cells slots ls hH hL (lv_sub hl [0, 1, 3] rfl) hrun

theorem b_X4_openOf {rr : (Int32 ⊕ Ex) × Hp}  (C : CX p l R s m args meth c D Hs cX4_openOf "MassclaimModel" 4 (some .int) [] 4 64)  : ∀ (x0 : Nat) (x1 : Nat) (h : Hp) (H : Heap) (locs : List Loc) (cells slots : Nat) (ls : Array Slot), HP D Hs h H → LO Hs locs → lv_has ls 4 [(0, rv x0), (1, rv x1)] → f_X4_openOf x0 x1 h = some rr → W p l e R s m args below meth c H locs cells slots (ZM D Hs iI rr below args s) (F0 m 0 ls []) := by
  obtain ⟨⟨hx, hb, hml, hown, hts⟩, -⟩ := id C
  have hl9 := C.2.1.2.2.1
  intro x0 x1 h H locs cells slots ls hH hL hl hrun
  unfold f_X4_openOf at hrun
  refine lv_iconst (v := (0 : Int32)) (pc := 0) hx hb dX4_openOf_0 (by decide) ?_
  refine lv_istore_n (i := 2) (lv' := [(2, .int (0 : Int32)), (0, rv x0), (1, rv x1)]) (pc := 1) hx hb dX4_openOf_1 rfl hl (by decide) (by simp [rv_cat, cat_i, cat_l, cat_f, cat_d]) (fun ls hl => ?_)
  refine lv_iconst (v := (0 : Int32)) (pc := 2) hx hb dX4_openOf_2 (by decide) ?_
  refine lv_istore_n (i := 3) (lv' := [(3, .int (0 : Int32)), (2, .int (0 : Int32)), (0, rv x0), (1, rv x1)]) (pc := 3) hx hb dX4_openOf_3 rfl hl (by decide) rfl (fun ls hl => ?_)
  exact b_X4_openOf_4 C FU x0 x1 (0 : Int32) (0 : Int32) h H locs cells slots ls hH hL (lv_sub hl [2, 3, 1, 0] rfl) hrun

theorem m_X4_openOf {l : Launch} {D : va_G} {Hs : Heap} {h : Hp} {rr : (Int32 ⊕ Ex) × Hp} (hl9 : l.stackTraces = false) {x0 : Nat} {x1 : Nat} (hrun : f_X4_openOf x0 x1 h = some rr) : CM l yX4_openOf (ws_ yX4_openOf cX4_openOf 4 (some .int)) 4 64 iI [rv x0, rv x1] D Hs h rr := by
  refine CM.of (lv := [(0, rv x0), (1, rv x1)]) (plainFor_of_name (by decide)) hl9 (by simp [lv_args, rv_cat, cat_i, cat_l, cat_f, cat_d]) (by simp [lg_sl, rv_cat, cat_i, cat_l, cat_f, cat_d]) ?_
  intro p e R s m args below meth c H ls C hH hl hin
  exact b_X4_openOf C x0 x1 _ H [] _ _ ls hH (fun _ q => nomatch q) (lv_sub hl [0, 1] rfl) hrun

/-! MassclaimModel.moneyOf(II)J -/
def f_X4_moneyOf_30  (h : Hp) : Rt Int64 :=
  some (.inl (0 : Int64), h)
def f_X4_moneyOf_97  (y0 : Int64) (h : Hp) : Rt Int64 :=
  some (.inl y0, h)
def f_X4_moneyOf  (x0 : Nat) (x1 : Int32) (x2 : Int32) (h : Hp) : Rt Int64 :=
  gd (kC h x0 = 4) <| bd (f_X4_isPerson x0 x1 h) fun v1 h2 => gd (kC h2 x0 = 4) <| bd (f_X4_isGood x0 v1 (1 : Int32) h2) fun v4 h5 => if v4 = 0 then
  (f_X4_moneyOf_30  h5)
  else
  (bd (f_X4_isWithin (x2.toInt64) (0 : Int64) (4 : Int64) h5) fun v7 h8 => gd (kC h8 x0 = 4) <| bd (f_X4_isGood x0 v7 (2 : Int32) h8) fun v9 h10 => if v9 = 0 then
  (f_X4_moneyOf_30  h10)
  else
  (gd (kC h10 x0 = 4) <| gd (kC h10 (kR h10 302 x0) = 18) <| bd (f_J2_get (kR h10 302 x0) x1 h10) fun v13 h14 => gd (v13 = 0 ∨ kC h14 v13 = 6) <| if x2 = 0 then
  (gd (kC h14 v13 = 6) <| f_X4_moneyOf_97 (kL h14 518 v13) h14)
  else
  (if x2 = (1 : Int32) then
  (gd (kC h14 v13 = 6) <| f_X4_moneyOf_97 (kL h14 519 v13) h14)
  else
  (if x2 = (2 : Int32) then
  (gd (kC h14 v13 = 6) <| f_X4_moneyOf_97 (kL h14 520 v13) h14)
  else
  (if x2 = (3 : Int32) then
  (bd (f_X4_yearly v13 h14) fun v20 h21 => f_X4_moneyOf_97 v20 h21)
  else
  (gd (kC h14 x0 = 4) <| bd (f_X4_openOf x0 v13 h14) fun v17 h18 => f_X4_moneyOf_97 (v17.toInt64) h18))))))
theorem b_X4_moneyOf_30 {rr : (Int64 ⊕ Ex) × Hp}  (C : CX p l R s m args meth c D Hs cX4_moneyOf "MassclaimModel" 4 (some .long) [] 5 87)  : ∀ (h : Hp) (H : Heap) (locs : List Loc) (cells slots : Nat) (ls : Array Slot), HP D Hs h H → LO Hs locs → lv_has ls 4 [] → f_X4_moneyOf_30 h = some rr → W p l e R s m args below meth c H locs cells slots (ZM D Hs iL rr below args s) (F0 m 30 ls []) := by
  obtain ⟨⟨hx, hb, hml, hown, hts⟩, -⟩ := id C
  have hl9 := C.2.1.2.2.1
  intro h H locs cells slots ls hH hL hl hrun
  unfold f_X4_moneyOf_30 at hrun
  refine lv_lconst (v := (0 : Int64)) (pc := 30) hx hb dX4_moneyOf_30 (by decide) ?_
  exact V_lret (pc := 31) C hH hL hrun dX4_moneyOf_31

theorem b_X4_moneyOf_97 {rr : (Int64 ⊕ Ex) × Hp}  (C : CX p l R s m args meth c D Hs cX4_moneyOf "MassclaimModel" 4 (some .long) [] 5 87)  : ∀ (y0 : Int64) (h : Hp) (H : Heap) (locs : List Loc) (cells slots : Nat) (ls : Array Slot), HP D Hs h H → LO Hs locs → lv_has ls 4 [] → f_X4_moneyOf_97 y0 h = some rr → W p l e R s m args below meth c H locs cells slots (ZM D Hs iL rr below args s) (F0 m 97 ls [.long y0]) := by
  obtain ⟨⟨hx, hb, hml, hown, hts⟩, -⟩ := id C
  have hl9 := C.2.1.2.2.1
  intro y0 h H locs cells slots ls hH hL hl hrun
  unfold f_X4_moneyOf_97 at hrun
  exact V_lret (pc := 97) C hH hL hrun dX4_moneyOf_97

theorem b_X4_moneyOf {rr : (Int64 ⊕ Ex) × Hp}  (C : CX p l R s m args meth c D Hs cX4_moneyOf "MassclaimModel" 4 (some .long) [] 5 87)  : ∀ (x0 : Nat) (x1 : Int32) (x2 : Int32) (h : Hp) (H : Heap) (locs : List Loc) (cells slots : Nat) (ls : Array Slot), HP D Hs h H → LO Hs locs → lv_has ls 4 [(0, rv x0), (1, .int x1), (2, .int x2)] → f_X4_moneyOf x0 x1 x2 h = some rr → W p l e R s m args below meth c H locs cells slots (ZM D Hs iL rr below args s) (F0 m 0 ls []) := by
  obtain ⟨⟨hx, hb, hml, hown, hts⟩, -⟩ := id C
  have hl9 := C.2.1.2.2.1
  intro x0 x1 x2 h H locs cells slots ls hH hL hl hrun
  unfold f_X4_moneyOf at hrun
  refine V_aload_n (pc := 0) hx hb dX4_moneyOf_0 rfl (lv_at hl 0 rfl) ?_
  refine V_aload_n (pc := 1) hx hb dX4_moneyOf_1 rfl (lv_at hl 0 rfl) ?_
  refine lv_iload_n (pc := 2) hx hb dX4_moneyOf_2 rfl (lv_at hl 1 rfl) ?_
  obtain ⟨c3, hrun⟩ := gd_some hrun
  refine V_bd (pc := 3) C hL rfl hrun (fun rr1 e1 => Z_runV (rest := [rv x0]) C hH (m_X4_isPerson hl9 e1) wV_X4_190 c3 rfl (by decide) rfl rfl ⟨by decide, by decide⟩ rfl (by simp [csum, rv_cat, cat_i, cat_l, cat_f, cat_d]) hl.1 dX4_moneyOf_3) (fun v1 h2 H locs cells slots hH hL hrun => ?_)
  refine lv_iconst (v := (1 : Int32)) (pc := 6) hx hb dX4_moneyOf_6 (by decide) ?_
  obtain ⟨c6, hrun⟩ := gd_some hrun
  refine V_bd (pc := 7) C hL rfl hrun (fun rr1 e1 => Z_runV (rest := []) C hH (m_X4_isGood hl9 e1) wV_X4_104 c6 rfl (by decide) rfl rfl ⟨by decide, by decide⟩ rfl (Nat.le_of_ble_eq_true rfl) hl.1 dX4_moneyOf_7) (fun v4 h5 H locs cells slots hH hL hrun => ?_)
  refine lv_if_eq (tgt := 30) (pc := 10) hx hb dX4_moneyOf_10 (by decide) (fun c_ => ?_) (fun c_ => ?_)
  · have hrun := ite_t hrun c_
    exact b_X4_moneyOf_30 C h5 H locs cells slots ls hH hL (lv_sub hl [] rfl) hrun
  · have hrun := ite_f hrun c_
    refine V_aload_n (pc := 13) hx hb dX4_moneyOf_13 rfl (lv_at hl 0 rfl) ?_
    refine lv_iload_n (pc := 14) hx hb dX4_moneyOf_14 rfl (lv_at hl 2 rfl) ?_
    refine lv_i2l (pc := 15) hx hb dX4_moneyOf_15 rfl ?_
    refine lv_lconst (v := (0 : Int64)) (pc := 16) hx hb dX4_moneyOf_16 (by decide) ?_
    refine lv_ldc2 (pc := 17) hx hb hown (hts _ q2156) dX4_moneyOf_17 ?_
    refine V_bd (pc := 20) C hL rfl hrun (fun rr1 e1 => Z_runS (rest := [rv x0]) C hH (m_X4_isWithin hl9 e1) wS_X4_100 rfl ⟨by decide, by decide⟩ rfl (by simp [csum, rv_cat, cat_i, cat_l, cat_f, cat_d]) hl.1 dX4_moneyOf_20) (fun v7 h8 H locs cells slots hH hL hrun => ?_)
    refine lv_iconst (v := (2 : Int32)) (pc := 23) hx hb dX4_moneyOf_23 (by decide) ?_
    obtain ⟨c11, hrun⟩ := gd_some hrun
    refine V_bd (pc := 24) C hL rfl hrun (fun rr1 e1 => Z_runV (rest := []) C hH (m_X4_isGood hl9 e1) wV_X4_104 c11 rfl (by decide) rfl rfl ⟨by decide, by decide⟩ rfl (Nat.le_of_ble_eq_true rfl) hl.1 dX4_moneyOf_24) (fun v9 h10 H locs cells slots hH hL hrun => ?_)
    refine lv_if_ne (tgt := 32) (pc := 27) hx hb dX4_moneyOf_27 (by decide) (fun c_ => ?_) (fun c_ => ?_)
    · have hrun := ite_f hrun c_
      refine V_aload_n (pc := 32) hx hb dX4_moneyOf_32 rfl (lv_at hl 0 rfl) ?_
      obtain ⟨c12, hrun⟩ := gd_some hrun
      refine V_getR (pc := 33) C hH fr_X4_16 dX4_moneyOf_33 c12 rfl ?_
      refine lv_iload_n (pc := 36) hx hb dX4_moneyOf_36 rfl (lv_at hl 1 rfl) ?_
      obtain ⟨c15, hrun⟩ := gd_some hrun
      refine V_bd (pc := 37) C hL rfl hrun (fun rr1 e1 => Z_runV (rest := []) C hH (m_J2_get hl9 e1) wV_X4_108 c15 rfl (by decide) rfl rfl ⟨by decide, by decide⟩ rfl (Nat.le_of_ble_eq_true rfl) hl.1 dX4_moneyOf_37) (fun v13 h14 H locs cells slots hH hL hrun => ?_)
      obtain ⟨c16, hrun⟩ := gd_some hrun
      refine V_castX (pc := 40) (ci := 5) C hH rfl (by decide) q1946 dX4_moneyOf_40 c16 ?_
      refine V_astore_n (i := 3) (lv' := [(3, rv v13), (0, rv x0), (1, .int x1), (2, .int x2)]) (pc := 43) hx hb dX4_moneyOf_43 rfl hl (by decide) rfl (fun ls hl => ?_)
      refine lv_iload_n (pc := 44) hx hb dX4_moneyOf_44 rfl (lv_at hl 3 rfl) ?_
      refine lv_if_ne (tgt := 55) (pc := 45) hx hb dX4_moneyOf_45 (by decide) (fun c_ => ?_) (fun c_ => ?_)
      · have hrun := ite_f hrun c_
        refine lv_iload_n (pc := 55) hx hb dX4_moneyOf_55 rfl (lv_at hl 3 rfl) ?_
        refine lv_iconst (v := (1 : Int32)) (pc := 56) hx hb dX4_moneyOf_56 (by decide) ?_
        refine lv_icmp_ne (tgt := 67) (pc := 57) hx hb dX4_moneyOf_57 (by decide) (fun c_ => ?_) (fun c_ => ?_)
        · have hrun := ite_f hrun c_
          refine lv_iload_n (pc := 67) hx hb dX4_moneyOf_67 rfl (lv_at hl 3 rfl) ?_
          refine lv_iconst (v := (2 : Int32)) (pc := 68) hx hb dX4_moneyOf_68 (by decide) ?_
          refine lv_icmp_ne (tgt := 79) (pc := 69) hx hb dX4_moneyOf_69 (by decide) (fun c_ => ?_) (fun c_ => ?_)
          · have hrun := ite_f hrun c_
            refine lv_iload_n (pc := 79) hx hb dX4_moneyOf_79 rfl (lv_at hl 3 rfl) ?_
            refine lv_iconst (v := (3 : Int32)) (pc := 80) hx hb dX4_moneyOf_80 (by decide) ?_
            refine lv_icmp_ne (tgt := 91) (pc := 81) hx hb dX4_moneyOf_81 (by decide) (fun c_ => ?_) (fun c_ => ?_)
            · have hrun := ite_f hrun c_
              refine V_aload_n (pc := 91) hx hb dX4_moneyOf_91 rfl (lv_at hl 1 rfl) ?_
              refine V_aload_n (pc := 92) hx hb dX4_moneyOf_92 rfl (lv_at hl 0 rfl) ?_
              obtain ⟨c19, hrun⟩ := gd_some hrun
              refine V_bd (pc := 93) C hL rfl hrun (fun rr1 e1 => Z_runV (rest := []) C hH (m_X4_openOf hl9 e1) wV_X4_270 c19 rfl (by decide) rfl rfl ⟨by decide, by decide⟩ rfl (Nat.le_of_ble_eq_true rfl) hl.1 dX4_moneyOf_93) (fun v17 h18 H locs cells slots hH hL hrun => ?_)
              refine lv_i2l (pc := 96) hx hb dX4_moneyOf_96 rfl ?_
              exact b_X4_moneyOf_97 C (v17.toInt64) h18 H locs cells slots ls hH hL (lv_sub hl [] rfl) hrun
            · have hrun := ite_t hrun c_
              refine V_aload_n (pc := 84) hx hb dX4_moneyOf_84 rfl (lv_at hl 0 rfl) ?_
              refine V_bd (pc := 85) C hL rfl hrun (fun rr1 e1 => Z_runS (rest := []) C hH (m_X4_yearly hl9 e1) wS_X4_202 rfl ⟨by decide, by decide⟩ rfl (Nat.le_of_ble_eq_true rfl) hl.1 dX4_moneyOf_85) (fun v20 h21 H locs cells slots hH hL hrun => ?_)
              refine lv_goto (tgt := 97) (pc := 88) hx hb dX4_moneyOf_88 (by decide) ?_
              exact b_X4_moneyOf_97 C v20 h21 H locs cells slots ls hH hL (lv_sub hl [] rfl) hrun
          · have hrun := ite_t hrun c_
            refine V_aload_n (pc := 72) hx hb dX4_moneyOf_72 rfl (lv_at hl 0 rfl) ?_
            obtain ⟨c22, hrun⟩ := gd_some hrun
            refine V_getL (pc := 73) C hH fr_X4_267 dX4_moneyOf_73 c22 rfl ?_
            refine lv_goto (tgt := 97) (pc := 76) hx hb dX4_moneyOf_76 (by decide) ?_
            exact b_X4_moneyOf_97 C (kL h14 520 v13) h14 H locs cells slots ls hH hL (lv_sub hl [] rfl) hrun
        · have hrun := ite_t hrun c_
          refine V_aload_n (pc := 60) hx hb dX4_moneyOf_60 rfl (lv_at hl 0 rfl) ?_
          obtain ⟨c23, hrun⟩ := gd_some hrun
          refine V_getL (pc := 61) C hH fr_X4_140 dX4_moneyOf_61 c23 rfl ?_
          refine lv_goto (tgt := 97) (pc := 64) hx hb dX4_moneyOf_64 (by decide) ?_
          exact b_X4_moneyOf_97 C (kL h14 519 v13) h14 H locs cells slots ls hH hL (lv_sub hl [] rfl) hrun
      · have hrun := ite_t hrun c_
        refine V_aload_n (pc := 48) hx hb dX4_moneyOf_48 rfl (lv_at hl 0 rfl) ?_
        obtain ⟨c24, hrun⟩ := gd_some hrun
        refine V_getL (pc := 49) C hH fr_X4_147 dX4_moneyOf_49 c24 rfl ?_
        refine lv_goto (tgt := 97) (pc := 52) hx hb dX4_moneyOf_52 (by decide) ?_
        exact b_X4_moneyOf_97 C (kL h14 518 v13) h14 H locs cells slots ls hH hL (lv_sub hl [] rfl) hrun
    · have hrun := ite_t hrun c_
      exact b_X4_moneyOf_30 C h10 H locs cells slots ls hH hL (lv_sub hl [] rfl) hrun

theorem m_X4_moneyOf {l : Launch} {D : va_G} {Hs : Heap} {h : Hp} {rr : (Int64 ⊕ Ex) × Hp} (hl9 : l.stackTraces = false) {x0 : Nat} {x1 : Int32} {x2 : Int32} (hrun : f_X4_moneyOf x0 x1 x2 h = some rr) : CM l yX4_moneyOf (ws_ yX4_moneyOf cX4_moneyOf 4 (some .long)) 5 87 iL [rv x0, .int x1, .int x2] D Hs h rr := by
  refine CM.of (lv := [(0, rv x0), (1, .int x1), (2, .int x2)]) (plainFor_of_name (by decide)) hl9 (by simp [lv_args, rv_cat, cat_i, cat_l, cat_f, cat_d]) (by simp [lg_sl, rv_cat, cat_i, cat_l, cat_f, cat_d]) ?_
  intro p e R s m args below meth c H ls C hH hl hin
  exact b_X4_moneyOf C x0 x1 x2 _ H [] _ _ ls hH (fun _ q => nomatch q) (lv_sub hl [0, 1, 2] rfl) hrun

/-! Massclaim.heirAt(II)J -/
def f_X1_heirAt_41  (x2 : Int32) (x3 : Nat) (y0 : Int32) (h : Hp) : Rt Int64 :=
  bd (f_X1_requireIndex y0 h) fun _ h2 => gd (kC h2 x3 = 5) <| bd (f_X5_isDead x3 h2) fun v3 h4 => bd (f_X1_requireState v3 h4) fun _ h7 => gd (kC h7 x3 = 5) <| gd (kC h7 (kR h7 420 x3) = 102 ∧ ixo x2 (kN h7 (kR h7 420 x3))) <| some (.inl (jL h7 (kR h7 420 x3) (x2).toNatClampNeg), h7)
def f_X1_heirAt_36  (x2 : Int32) (x3 : Nat) (h : Hp) : Rt Int64 :=
  f_X1_heirAt_41 x2 x3 (1 : Int32) h
def f_X1_heirAt  (x0 : Nat) (x1 : Int32) (x2 : Int32) (h : Hp) : Rt Int64 :=
  gd (kC h x0 = 1) <| gd (kC h (kR h 0 x0) = 2) <| bd (f_X2_at (kR h 0 x0) x1 h) fun v11 h12 => gd (v11 = 0 ∨ kC h12 v11 = 5) <| gd (kC h12 v11 = 5) <| bd (f_X5_isDead v11 h12) fun v15 h16 => if v15 = 0 then
  (f_X1_heirAt_36 x2 v11 h16)
  else
  (gd (kC h16 v11 = 5) <| gd (kC h16 (kR h16 420 v11) = 102) <| bd (f_X1_isIn (x2.toInt64) (0 : Int64) (((Int32.ofNat (kN h16 (kR h16 420 v11))) - (1 : Int32)).toInt64) h16) fun v20 h21 => if v20 = 0 then
  (f_X1_heirAt_41 x2 v11 (0 : Int32) h21)
  else
  (f_X1_heirAt_36 x2 v11 h21))
theorem b_X1_heirAt_41 {rr : (Int64 ⊕ Ex) × Hp}  (C : CX p l R s m args meth c D Hs cX1_heirAt "Massclaim" 4 (some .long) [] 8 131)  : ∀ (x2 : Int32) (x3 : Nat) (y0 : Int32) (h : Hp) (H : Heap) (locs : List Loc) (cells slots : Nat) (ls : Array Slot), HP D Hs h H → LO Hs locs → lv_has ls 4 [(2, .int x2), (3, rv x3)] → f_X1_heirAt_41 x2 x3 y0 h = some rr → W p l e R s m args below meth c H locs cells slots (ZM D Hs iL rr below args s) (F0 m 41 ls [.int y0]) := by
  obtain ⟨⟨hx, hb, hml, hown, hts⟩, -⟩ := id C
  have hl9 := C.2.1.2.2.1
  intro x2 x3 y0 h H locs cells slots ls hH hL hl hrun
  unfold f_X1_heirAt_41 at hrun
  refine V_bd (pc := 41) C hL rfl hrun (fun rr1 e1 => Z_runS (rest := []) C hH (m_X1_requireIndex hl9 e1) wS_X1_275 rfl ⟨by decide, by decide⟩ rfl (Nat.le_of_ble_eq_true rfl) hl.1 dX1_heirAt_41) (fun _ h2 H locs cells slots hH hL hrun => ?_)
  refine V_aload_n (pc := 44) hx hb dX1_heirAt_44 rfl (lv_at hl 1 rfl) ?_
  obtain ⟨c5, hrun⟩ := gd_some hrun
  refine V_bd (pc := 45) C hL rfl hrun (fun rr1 e1 => Z_runV (rest := []) C hH (m_X5_isDead hl9 e1) wV_X1_179 c5 rfl (by decide) rfl rfl ⟨by decide, by decide⟩ rfl (Nat.le_of_ble_eq_true rfl) hl.1 dX1_heirAt_45) (fun v3 h4 H locs cells slots hH hL hrun => ?_)
  refine V_bd (pc := 48) C hL rfl hrun (fun rr1 e1 => Z_runS (rest := []) C hH (m_X1_requireState hl9 e1) wS_X1_182 rfl ⟨by decide, by decide⟩ rfl (Nat.le_of_ble_eq_true rfl) hl.1 dX1_heirAt_48) (fun _ h7 H locs cells slots hH hL hrun => ?_)
  refine V_aload_n (pc := 51) hx hb dX1_heirAt_51 rfl (lv_at hl 1 rfl) ?_
  obtain ⟨c8, hrun⟩ := gd_some hrun
  refine V_getNR (pc := 52) C hH fn_X1_188 dX1_heirAt_52 c8 rfl ?_
  refine lv_iload_n (pc := 55) hx hb dX1_heirAt_55 rfl (lv_at hl 0 rfl) ?_
  obtain ⟨c9, hrun⟩ := gd_some hrun
  refine V_lald (pc := 56) C hH dX1_heirAt_56 c9 ?_
  exact V_lret (pc := 57) C hH hL hrun dX1_heirAt_57

theorem b_X1_heirAt_36 {rr : (Int64 ⊕ Ex) × Hp}  (C : CX p l R s m args meth c D Hs cX1_heirAt "Massclaim" 4 (some .long) [] 8 131)  : ∀ (x2 : Int32) (x3 : Nat) (h : Hp) (H : Heap) (locs : List Loc) (cells slots : Nat) (ls : Array Slot), HP D Hs h H → LO Hs locs → lv_has ls 4 [(2, .int x2), (3, rv x3)] → f_X1_heirAt_36 x2 x3 h = some rr → W p l e R s m args below meth c H locs cells slots (ZM D Hs iL rr below args s) (F0 m 36 ls []) := by
  obtain ⟨⟨hx, hb, hml, hown, hts⟩, -⟩ := id C
  have hl9 := C.2.1.2.2.1
  intro x2 x3 h H locs cells slots ls hH hL hl hrun
  unfold f_X1_heirAt_36 at hrun
  refine lv_iconst (v := (1 : Int32)) (pc := 36) hx hb dX1_heirAt_36 (by decide) ?_
  refine lv_goto (tgt := 41) (pc := 37) hx hb dX1_heirAt_37 (by decide) ?_
  exact b_X1_heirAt_41 C x2 x3 (1 : Int32) h H locs cells slots ls hH hL (lv_sub hl [0, 1] rfl) hrun

theorem b_X1_heirAt {rr : (Int64 ⊕ Ex) × Hp}  (C : CX p l R s m args meth c D Hs cX1_heirAt "Massclaim" 4 (some .long) [] 8 131)  : ∀ (x0 : Nat) (x1 : Int32) (x2 : Int32) (h : Hp) (H : Heap) (locs : List Loc) (cells slots : Nat) (ls : Array Slot), HP D Hs h H → LO Hs locs → lv_has ls 4 [(0, rv x0), (1, .int x1), (2, .int x2)] → f_X1_heirAt x0 x1 x2 h = some rr → W p l e R s m args below meth c H locs cells slots (ZM D Hs iL rr below args s) (F0 m 0 ls []) := by
  obtain ⟨⟨hx, hb, hml, hown, hts⟩, -⟩ := id C
  have hl9 := C.2.1.2.2.1
  intro x0 x1 x2 h H locs cells slots ls hH hL hl hrun
  unfold f_X1_heirAt at hrun
  refine V_aload_n (pc := 0) hx hb dX1_heirAt_0 rfl (lv_at hl 0 rfl) ?_
  obtain ⟨c10, hrun⟩ := gd_some hrun
  refine V_getR (pc := 1) C hH fr_X1_42 dX1_heirAt_1 c10 rfl ?_
  refine lv_iload_n (pc := 4) hx hb dX1_heirAt_4 rfl (lv_at hl 1 rfl) ?_
  obtain ⟨c13, hrun⟩ := gd_some hrun
  refine V_bd (pc := 5) C hL rfl hrun (fun rr1 e1 => Z_runV (rest := []) C hH (m_X2_at hl9 e1) wV_X1_136 c13 rfl (by decide) rfl rfl ⟨by decide, by decide⟩ rfl (Nat.le_of_ble_eq_true rfl) hl.1 dX1_heirAt_5) (fun v11 h12 H locs cells slots hH hL hrun => ?_)
  obtain ⟨c14, hrun⟩ := gd_some hrun
  refine V_castX (pc := 8) (ci := 4) C hH rfl (by decide) q376 dX1_heirAt_8 c14 ?_
  refine V_astore_n (i := 3) (lv' := [(3, rv v11), (0, rv x0), (1, .int x1), (2, .int x2)]) (pc := 11) hx hb dX1_heirAt_11 rfl hl (by decide) rfl (fun ls hl => ?_)
  refine V_aload_n (pc := 12) hx hb dX1_heirAt_12 rfl (lv_at hl 0 rfl) ?_
  obtain ⟨c17, hrun⟩ := gd_some hrun
  refine V_bd (pc := 13) C hL rfl hrun (fun rr1 e1 => Z_runV (rest := []) C hH (m_X5_isDead hl9 e1) wV_X1_179 c17 rfl (by decide) rfl rfl ⟨by decide, by decide⟩ rfl (Nat.le_of_ble_eq_true rfl) hl.1 dX1_heirAt_13) (fun v15 h16 H locs cells slots hH hL hrun => ?_)
  refine lv_if_eq (tgt := 36) (pc := 16) hx hb dX1_heirAt_16 (by decide) (fun c_ => ?_) (fun c_ => ?_)
  · have hrun := ite_t hrun c_
    exact b_X1_heirAt_36 C x2 v11 h16 H locs cells slots ls hH hL (lv_sub hl [3, 0] rfl) hrun
  · have hrun := ite_f hrun c_
    refine lv_iload_n (pc := 19) hx hb dX1_heirAt_19 rfl (lv_at hl 3 rfl) ?_
    refine lv_i2l (pc := 20) hx hb dX1_heirAt_20 rfl ?_
    refine lv_lconst (v := (0 : Int64)) (pc := 21) hx hb dX1_heirAt_21 (by decide) ?_
    refine V_aload_n (pc := 22) hx hb dX1_heirAt_22 rfl (lv_at hl 0 rfl) ?_
    obtain ⟨c18, hrun⟩ := gd_some hrun
    refine V_getNR (pc := 23) C hH fn_X1_188 dX1_heirAt_23 c18 rfl ?_
    obtain ⟨c19, hrun⟩ := gd_some hrun
    refine V_alen (pc := 26) C hH dX1_heirAt_26 c19 (by decide) ?_
    refine lv_iconst (v := (1 : Int32)) (pc := 27) hx hb dX1_heirAt_27 (by decide) ?_
    refine lv_isub (pc := 28) hx hb dX1_heirAt_28 ?_
    refine lv_i2l (pc := 29) hx hb dX1_heirAt_29 rfl ?_
    refine V_bd (pc := 30) C hL rfl hrun (fun rr1 e1 => Z_runS (rest := []) C hH (m_X1_isIn hl9 e1) wS_X1_127 rfl ⟨by decide, by decide⟩ rfl (Nat.le_of_ble_eq_true rfl) hl.1 dX1_heirAt_30) (fun v20 h21 H locs cells slots hH hL hrun => ?_)
    refine lv_if_eq (tgt := 40) (pc := 33) hx hb dX1_heirAt_33 (by decide) (fun c_ => ?_) (fun c_ => ?_)
    · have hrun := ite_t hrun c_
      refine lv_iconst (v := (0 : Int32)) (pc := 40) hx hb dX1_heirAt_40 (by decide) ?_
      exact b_X1_heirAt_41 C x2 v11 (0 : Int32) h21 H locs cells slots ls hH hL (lv_sub hl [3, 0] rfl) hrun
    · have hrun := ite_f hrun c_
      exact b_X1_heirAt_36 C x2 v11 h21 H locs cells slots ls hH hL (lv_sub hl [3, 0] rfl) hrun

theorem m_X1_heirAt {l : Launch} {D : va_G} {Hs : Heap} {h : Hp} {rr : (Int64 ⊕ Ex) × Hp} (hl9 : l.stackTraces = false) {x0 : Nat} {x1 : Int32} {x2 : Int32} (hrun : f_X1_heirAt x0 x1 x2 h = some rr) : CM l yX1_heirAt (ws_ yX1_heirAt cX1_heirAt 4 (some .long)) 8 131 iL [rv x0, .int x1, .int x2] D Hs h rr := by
  refine CM.of (lv := [(0, rv x0), (1, .int x1), (2, .int x2)]) (plainFor_of_name (by decide)) hl9 (by simp [lv_args, rv_cat, cat_i, cat_l, cat_f, cat_d]) (by simp [lg_sl, rv_cat, cat_i, cat_l, cat_f, cat_d]) ?_
  intro p e R s m args below meth c H ls C hH hl hin
  exact b_X1_heirAt C x0 x1 x2 _ H [] _ _ ls hH (fun _ q => nomatch q) (lv_sub hl [0, 1, 2] rfl) hrun

/-! MassclaimLaw.heirAt(LMassclaim;II[J)I -/
def f_X0_heirAt_12  (y0 : Nat) (h : Hp) : Rt Int32 :=
  some (.inl (1 : Int32), h)
def f_X0_heirAt_16  (y0 : Nat) (h : Hp) : Rt Int32 :=
  some (.inl (2 : Int32), h)
def f_X0_heirAt  (x0 : Nat) (x1 : Int32) (x2 : Int32) (x3 : Nat) (h : Hp) : Rt Int32 :=
  gd (kC h x0 = 1) <| bdH (f_X1_heirAt x0 x1 x2 h)
  (fun v1 h2 => gd (kC h2 x3 = 102 ∧ ixo (0 : Int32) (kN h2 x3)) <| vl (tL h2 x3 ((0 : Int32)).toNatClampNeg v1) fun h5 => some (.inl (0 : Int32), h5))
  (fun ex6 h7 => if ex6.1 = 901 then
  (f_X0_heirAt_12 ex6.2 h7)
  else
  if ex6.1 = 903 then
  (f_X0_heirAt_16 ex6.2 h7)
  else
  none)
theorem b_X0_heirAt_12 {rr : (Int32 ⊕ Ex) × Hp}  (C : CX p l R s m args meth c D Hs cX0_heirAt "MassclaimLaw" 5 (some .int) [(0, 9, 12, 25), (0, 9, 16, 19)] 9 154)  : ∀ (y0 : Nat) (h : Hp) (H : Heap) (locs : List Loc) (cells slots : Nat) (ls : Array Slot), HP D Hs h H → LO Hs locs → lv_has ls 5 [] → f_X0_heirAt_12 y0 h = some rr → W p l e R s m args below meth c H locs cells slots (ZM D Hs iI rr below args s) (F0 m 12 ls [rv y0]) := by
  obtain ⟨⟨hx, hb, hml, hown, hts⟩, -⟩ := id C
  have hl9 := C.2.1.2.2.1
  intro y0 h H locs cells slots ls hH hL hl hrun
  unfold f_X0_heirAt_12 at hrun
  refine V_astore (i := 4) (lv' := [(4, rv y0)]) (pc := 12) hx hb dX0_heirAt_12 hl (by decide) rfl (fun ls hl => ?_)
  refine lv_iconst (v := (1 : Int32)) (pc := 14) hx hb dX0_heirAt_14 (by decide) ?_
  exact V_iret (pc := 15) C hH hL hrun dX0_heirAt_15

theorem b_X0_heirAt_16 {rr : (Int32 ⊕ Ex) × Hp}  (C : CX p l R s m args meth c D Hs cX0_heirAt "MassclaimLaw" 5 (some .int) [(0, 9, 12, 25), (0, 9, 16, 19)] 9 154)  : ∀ (y0 : Nat) (h : Hp) (H : Heap) (locs : List Loc) (cells slots : Nat) (ls : Array Slot), HP D Hs h H → LO Hs locs → lv_has ls 5 [] → f_X0_heirAt_16 y0 h = some rr → W p l e R s m args below meth c H locs cells slots (ZM D Hs iI rr below args s) (F0 m 16 ls [rv y0]) := by
  obtain ⟨⟨hx, hb, hml, hown, hts⟩, -⟩ := id C
  have hl9 := C.2.1.2.2.1
  intro y0 h H locs cells slots ls hH hL hl hrun
  unfold f_X0_heirAt_16 at hrun
  refine V_astore (i := 4) (lv' := [(4, rv y0)]) (pc := 16) hx hb dX0_heirAt_16 hl (by decide) rfl (fun ls hl => ?_)
  refine lv_iconst (v := (2 : Int32)) (pc := 18) hx hb dX0_heirAt_18 (by decide) ?_
  exact V_iret (pc := 19) C hH hL hrun dX0_heirAt_19

theorem b_X0_heirAt {rr : (Int32 ⊕ Ex) × Hp}  (C : CX p l R s m args meth c D Hs cX0_heirAt "MassclaimLaw" 5 (some .int) [(0, 9, 12, 25), (0, 9, 16, 19)] 9 154)  : ∀ (x0 : Nat) (x1 : Int32) (x2 : Int32) (x3 : Nat) (h : Hp) (H : Heap) (locs : List Loc) (cells slots : Nat) (ls : Array Slot), HP D Hs h H → LO Hs locs → lv_has ls 5 [(0, rv x0), (1, .int x1), (2, .int x2), (3, rv x3)] → f_X0_heirAt x0 x1 x2 x3 h = some rr → W p l e R s m args below meth c H locs cells slots (ZM D Hs iI rr below args s) (F0 m 0 ls []) := by
  obtain ⟨⟨hx, hb, hml, hown, hts⟩, -⟩ := id C
  have hl9 := C.2.1.2.2.1
  intro x0 x1 x2 x3 h H locs cells slots ls hH hL hl hrun
  unfold f_X0_heirAt at hrun
  refine V_aload_n (pc := 0) hx hb dX0_heirAt_0 rfl (lv_at hl 3 rfl) ?_
  refine lv_iconst (v := (0 : Int32)) (pc := 1) hx hb dX0_heirAt_1 (by decide) ?_
  refine V_aload_n (pc := 2) hx hb dX0_heirAt_2 rfl (lv_at hl 0 rfl) ?_
  refine lv_iload_n (pc := 3) hx hb dX0_heirAt_3 rfl (lv_at hl 1 rfl) ?_
  refine lv_iload_n (pc := 4) hx hb dX0_heirAt_4 rfl (lv_at hl 2 rfl) ?_
  obtain ⟨c3, hrun⟩ := gd_some hrun
  refine V_bdH (pc := 5) hL hrun (fun rr1 e1 => Z_runV (rest := [.int (0 : Int32), rv x3]) C hH (m_X1_heirAt hl9 e1) wV_X0_45 c3 rfl (by decide) rfl rfl ⟨by decide, by decide⟩ rfl (by simp [csum, rv_cat, cat_i, cat_l, cat_f, cat_d]) hl.1 dX0_heirAt_5) (fun v1 h2 H locs cells slots hH hL hrun => ?_) (fun x_ q_ ce_ h7 H locs cells slots hH hL hrun hc_ hv_ hcl_ => ?_)
  · obtain ⟨c4, hrun⟩ := gd_some hrun
    refine V_last (pc := 8) C hH hL dX0_heirAt_8 c4 hrun (fun h5 H locs hH hL hrun => ?_)
    refine lv_goto (tgt := 20) (pc := 9) hx hb dX0_heirAt_9 (by decide) ?_
    refine lv_iconst (v := (0 : Int32)) (pc := 20) hx hb dX0_heirAt_20 (by decide) ?_
    exact V_iret (pc := 21) C hH hL hrun dX0_heirAt_21
  · by_cases n901 : x_ = 901
    · subst n901
      have hrun := ite_t hrun rfl
      refine vx_catch (E := "java/lang/IndexOutOfBoundsException") (name := "java/lang/IndexOutOfBoundsException") hown (tableOf []) ⟨0, 9, 12, 25⟩ (tableOf [(0, 9, 16, 19)]) (by rw [C.2.1.2.2.2.2]; rfl) (fun z hz => nomatch hz) (by decide) (by decide) (hts _ q829) (va_Nw.use rfl (C.2.1.2.2.2.1.2.1 _ q537 rfl)) hc_ hv_ hcl_ ?_
      exact b_X0_heirAt_12 C (q_ + 1) h7 H locs cells slots ls hH hL (lv_sub hl [] rfl) hrun
    have hrun := ite_f hrun n901
    by_cases n903 : x_ = 903
    · subst n903
      have hrun := ite_t hrun rfl
      refine vx_catch (E := "java/lang/IllegalStateException") (name := "java/lang/IllegalStateException") hown (tableOf [(0, 9, 12, 25)]) ⟨0, 9, 16, 19⟩ (tableOf []) (by rw [C.2.1.2.2.2.2]; rfl) (fun z hz => by simp only [tableOf, List.map, List.mem_cons, List.not_mem_nil, or_false] at hz; rcases hz with rfl <;> first | exact Or.inr ⟨by decide, "java/lang/IndexOutOfBoundsException", hts _ q829, nc_at C (by decide)⟩) (by decide) (by decide) (hts _ q585) (va_Nw.use rfl (C.2.1.2.2.2.1.2.1 _ q702 rfl)) hc_ hv_ hcl_ ?_
      exact b_X0_heirAt_16 C (q_ + 1) h7 H locs cells slots ls hH hL (lv_sub hl [] rfl) hrun
    have hrun := ite_f hrun n903
    cases hrun

theorem m_X0_heirAt {l : Launch} {D : va_G} {Hs : Heap} {h : Hp} {rr : (Int32 ⊕ Ex) × Hp} (hl9 : l.stackTraces = false) {x0 : Nat} {x1 : Int32} {x2 : Int32} {x3 : Nat} (hrun : f_X0_heirAt x0 x1 x2 x3 h = some rr) : CM l yX0_heirAt (wsW_ yX0_heirAt cX0_heirAt 5 (some .int) [(0, 9, 12, 25), (0, 9, 16, 19)]) 9 154 iI [rv x0, .int x1, .int x2, rv x3] D Hs h rr := by
  refine CM.ofH (lv := [(0, rv x0), (1, .int x1), (2, .int x2), (3, rv x3)]) (plainFor_of_name (by decide)) hl9 (by simp [lv_args, rv_cat, cat_i, cat_l, cat_f, cat_d]) (by simp [lg_sl, rv_cat, cat_i, cat_l, cat_f, cat_d]) ?_
  intro p e R s m args below meth c H ls C hH hl hin
  exact b_X0_heirAt C x0 x1 x2 x3 _ H [] _ _ ls hH (fun _ q => nomatch q) (lv_sub hl [0, 1, 2, 3] rfl) hrun

/-! MassclaimModel.heirAt(II)J -/
def f_X4_heirAt_74  (h : Hp) : Rt Int64 :=
  some (.inl (0 : Int64), h)
def f_X4_heirAt_36  (x0 : Nat) (x1 : Int32) (x2 : Int32) (y0 : Nat) (y1 : Int32) (h : Hp) : Rt Int64 :=
  gd (kC h y0 = 4) <| bd (f_X4_isGood y0 y1 (2 : Int32) h) fun v1 h2 => if v1 = 0 then
  (f_X4_heirAt_74  h2)
  else
  (gd (kC h2 x0 = 4) <| gd (kC h2 (kR h2 302 x0) = 18) <| bd (f_J2_get (kR h2 302 x0) x1 h2) fun v5 h6 => gd (v5 = 0 ∨ kC h6 v5 = 6) <| gd (kC h6 v5 = 6) <| bd (f_X4_isWithin (x2.toInt64) (0 : Int64) (((kI h6 506 v5) - (1 : Int32)).toInt64) h6) fun v10 h11 => gd (kC h11 x0 = 4) <| bd (f_X4_isGood x0 v10 (1 : Int32) h11) fun v12 h13 => if v12 = 0 then
  (f_X4_heirAt_74  h13)
  else
  (gd (kC h13 x0 = 4) <| gd (kC h13 (kR h13 302 x0) = 18) <| bd (f_J2_get (kR h13 302 x0) x1 h13) fun v16 h17 => gd (v16 = 0 ∨ kC h17 v16 = 6) <| gd (kC h17 v16 = 6) <| gd (kC h17 (kR h17 507 v16) = 102 ∧ ixo x2 (kN h17 (kR h17 507 v16))) <| some (.inl (jL h17 (kR h17 507 v16) (x2).toNatClampNeg), h17)))
def f_X4_heirAt  (x0 : Nat) (x1 : Int32) (x2 : Int32) (h : Hp) : Rt Int64 :=
  gd (kC h x0 = 4) <| bd (f_X4_isPerson x0 x1 h) fun v22 h23 => gd (kC h23 x0 = 4) <| bd (f_X4_isGood x0 v22 (1 : Int32) h23) fun v25 h26 => if v25 = 0 then
  (f_X4_heirAt_74  h26)
  else
  (gd (kC h26 x0 = 4) <| gd (kC h26 (kR h26 302 x0) = 18) <| bd (f_J2_get (kR h26 302 x0) x1 h26) fun v29 h30 => gd (v29 = 0 ∨ kC h30 v29 = 6) <| gd (kC h30 v29 = 6) <| bd (f_X6_lives v29 h30) fun v33 h34 => if v33 = 0 then
  (f_X4_heirAt_36 x0 x1 x2 x0 (1 : Int32) h34)
  else
  (f_X4_heirAt_36 x0 x1 x2 x0 (0 : Int32) h34))
theorem b_X4_heirAt_74 {rr : (Int64 ⊕ Ex) × Hp}  (C : CX p l R s m args meth c D Hs cX4_heirAt "MassclaimModel" 3 (some .long) [] 4 64)  : ∀ (h : Hp) (H : Heap) (locs : List Loc) (cells slots : Nat) (ls : Array Slot), HP D Hs h H → LO Hs locs → lv_has ls 3 [] → f_X4_heirAt_74 h = some rr → W p l e R s m args below meth c H locs cells slots (ZM D Hs iL rr below args s) (F0 m 74 ls []) := by
  obtain ⟨⟨hx, hb, hml, hown, hts⟩, -⟩ := id C
  have hl9 := C.2.1.2.2.1
  intro h H locs cells slots ls hH hL hl hrun
  unfold f_X4_heirAt_74 at hrun
  refine lv_lconst (v := (0 : Int64)) (pc := 74) hx hb dX4_heirAt_74 (by decide) ?_
  exact V_lret (pc := 75) C hH hL hrun dX4_heirAt_75

theorem b_X4_heirAt_36 {rr : (Int64 ⊕ Ex) × Hp}  (C : CX p l R s m args meth c D Hs cX4_heirAt "MassclaimModel" 3 (some .long) [] 4 64)  : ∀ (x0 : Nat) (x1 : Int32) (x2 : Int32) (y0 : Nat) (y1 : Int32) (h : Hp) (H : Heap) (locs : List Loc) (cells slots : Nat) (ls : Array Slot), HP D Hs h H → LO Hs locs → lv_has ls 3 [(0, rv x0), (1, .int x1), (2, .int x2)] → f_X4_heirAt_36 x0 x1 x2 y0 y1 h = some rr → W p l e R s m args below meth c H locs cells slots (ZM D Hs iL rr below args s) (F0 m 36 ls [.int y1, rv y0]) := by
  obtain ⟨⟨hx, hb, hml, hown, hts⟩, -⟩ := id C
  have hl9 := C.2.1.2.2.1
  intro x0 x1 x2 y0 y1 h H locs cells slots ls hH hL hl hrun
  unfold f_X4_heirAt_36 at hrun
  refine lv_iconst (v := (2 : Int32)) (pc := 36) hx hb dX4_heirAt_36 (by decide) ?_
  obtain ⟨c3, hrun⟩ := gd_some hrun
  refine V_bd (pc := 37) C hL rfl hrun (fun rr1 e1 => Z_runV (rest := []) C hH (m_X4_isGood hl9 e1) wV_X4_104 c3 rfl (by decide) rfl rfl ⟨by decide, by decide⟩ rfl (Nat.le_of_ble_eq_true rfl) hl.1 dX4_heirAt_37) (fun v1 h2 H locs cells slots hH hL hrun => ?_)
  refine lv_if_eq (tgt := 74) (pc := 40) hx hb dX4_heirAt_40 (by decide) (fun c_ => ?_) (fun c_ => ?_)
  · have hrun := ite_t hrun c_
    exact b_X4_heirAt_74 C h2 H locs cells slots ls hH hL (lv_sub hl [] rfl) hrun
  · have hrun := ite_f hrun c_
    refine V_aload_n (pc := 43) hx hb dX4_heirAt_43 rfl (lv_at hl 0 rfl) ?_
    refine lv_iload_n (pc := 44) hx hb dX4_heirAt_44 rfl (lv_at hl 2 rfl) ?_
    refine lv_i2l (pc := 45) hx hb dX4_heirAt_45 rfl ?_
    refine lv_lconst (v := (0 : Int64)) (pc := 46) hx hb dX4_heirAt_46 (by decide) ?_
    refine V_aload_n (pc := 47) hx hb dX4_heirAt_47 rfl (lv_at hl 0 rfl) ?_
    obtain ⟨c4, hrun⟩ := gd_some hrun
    refine V_getR (pc := 48) C hH fr_X4_16 dX4_heirAt_48 c4 rfl ?_
    refine lv_iload_n (pc := 51) hx hb dX4_heirAt_51 rfl (lv_at hl 1 rfl) ?_
    obtain ⟨c7, hrun⟩ := gd_some hrun
    refine V_bd (pc := 52) C hL rfl hrun (fun rr1 e1 => Z_runV (rest := [.long (0 : Int64), .long (x2.toInt64), rv x0]) C hH (m_J2_get hl9 e1) wV_X4_108 c7 rfl (by decide) rfl rfl ⟨by decide, by decide⟩ rfl (by simp [csum, rv_cat, cat_i, cat_l, cat_f, cat_d]) hl.1 dX4_heirAt_52) (fun v5 h6 H locs cells slots hH hL hrun => ?_)
    obtain ⟨c8, hrun⟩ := gd_some hrun
    refine V_castX (pc := 55) (ci := 5) C hH rfl (by decide) q1946 dX4_heirAt_55 c8 ?_
    obtain ⟨c9, hrun⟩ := gd_some hrun
    refine V_getI (pc := 58) C hH fr_X4_199 dX4_heirAt_58 c9 rfl ?_
    refine lv_iconst (v := (1 : Int32)) (pc := 61) hx hb dX4_heirAt_61 (by decide) ?_
    refine lv_isub (pc := 62) hx hb dX4_heirAt_62 ?_
    refine lv_i2l (pc := 63) hx hb dX4_heirAt_63 rfl ?_
    refine V_bd (pc := 64) C hL rfl hrun (fun rr1 e1 => Z_runS (rest := [rv x0]) C hH (m_X4_isWithin hl9 e1) wS_X4_100 rfl ⟨by decide, by decide⟩ rfl (by simp [csum, rv_cat, cat_i, cat_l, cat_f, cat_d]) hl.1 dX4_heirAt_64) (fun v10 h11 H locs cells slots hH hL hrun => ?_)
    refine lv_iconst (v := (1 : Int32)) (pc := 67) hx hb dX4_heirAt_67 (by decide) ?_
    obtain ⟨c14, hrun⟩ := gd_some hrun
    refine V_bd (pc := 68) C hL rfl hrun (fun rr1 e1 => Z_runV (rest := []) C hH (m_X4_isGood hl9 e1) wV_X4_104 c14 rfl (by decide) rfl rfl ⟨by decide, by decide⟩ rfl (Nat.le_of_ble_eq_true rfl) hl.1 dX4_heirAt_68) (fun v12 h13 H locs cells slots hH hL hrun => ?_)
    refine lv_if_ne (tgt := 76) (pc := 71) hx hb dX4_heirAt_71 (by decide) (fun c_ => ?_) (fun c_ => ?_)
    · have hrun := ite_f hrun c_
      refine V_aload_n (pc := 76) hx hb dX4_heirAt_76 rfl (lv_at hl 0 rfl) ?_
      obtain ⟨c15, hrun⟩ := gd_some hrun
      refine V_getR (pc := 77) C hH fr_X4_16 dX4_heirAt_77 c15 rfl ?_
      refine lv_iload_n (pc := 80) hx hb dX4_heirAt_80 rfl (lv_at hl 1 rfl) ?_
      obtain ⟨c18, hrun⟩ := gd_some hrun
      refine V_bd (pc := 81) C hL rfl hrun (fun rr1 e1 => Z_runV (rest := []) C hH (m_J2_get hl9 e1) wV_X4_108 c18 rfl (by decide) rfl rfl ⟨by decide, by decide⟩ rfl (Nat.le_of_ble_eq_true rfl) hl.1 dX4_heirAt_81) (fun v16 h17 H locs cells slots hH hL hrun => ?_)
      obtain ⟨c19, hrun⟩ := gd_some hrun
      refine V_castX (pc := 84) (ci := 5) C hH rfl (by decide) q1946 dX4_heirAt_84 c19 ?_
      obtain ⟨c20, hrun⟩ := gd_some hrun
      refine V_getR (pc := 87) C hH fr_X4_210 dX4_heirAt_87 c20 rfl ?_
      refine lv_iload_n (pc := 90) hx hb dX4_heirAt_90 rfl (lv_at hl 2 rfl) ?_
      obtain ⟨c21, hrun⟩ := gd_some hrun
      refine V_lald (pc := 91) C hH dX4_heirAt_91 c21 ?_
      exact V_lret (pc := 92) C hH hL hrun dX4_heirAt_92
    · have hrun := ite_t hrun c_
      exact b_X4_heirAt_74 C h13 H locs cells slots ls hH hL (lv_sub hl [] rfl) hrun

theorem b_X4_heirAt {rr : (Int64 ⊕ Ex) × Hp}  (C : CX p l R s m args meth c D Hs cX4_heirAt "MassclaimModel" 3 (some .long) [] 4 64)  : ∀ (x0 : Nat) (x1 : Int32) (x2 : Int32) (h : Hp) (H : Heap) (locs : List Loc) (cells slots : Nat) (ls : Array Slot), HP D Hs h H → LO Hs locs → lv_has ls 3 [(0, rv x0), (1, .int x1), (2, .int x2)] → f_X4_heirAt x0 x1 x2 h = some rr → W p l e R s m args below meth c H locs cells slots (ZM D Hs iL rr below args s) (F0 m 0 ls []) := by
  obtain ⟨⟨hx, hb, hml, hown, hts⟩, -⟩ := id C
  have hl9 := C.2.1.2.2.1
  intro x0 x1 x2 h H locs cells slots ls hH hL hl hrun
  unfold f_X4_heirAt at hrun
  refine V_aload_n (pc := 0) hx hb dX4_heirAt_0 rfl (lv_at hl 0 rfl) ?_
  refine V_aload_n (pc := 1) hx hb dX4_heirAt_1 rfl (lv_at hl 0 rfl) ?_
  refine lv_iload_n (pc := 2) hx hb dX4_heirAt_2 rfl (lv_at hl 1 rfl) ?_
  obtain ⟨c24, hrun⟩ := gd_some hrun
  refine V_bd (pc := 3) C hL rfl hrun (fun rr1 e1 => Z_runV (rest := [rv x0]) C hH (m_X4_isPerson hl9 e1) wV_X4_190 c24 rfl (by decide) rfl rfl ⟨by decide, by decide⟩ rfl (by simp [csum, rv_cat, cat_i, cat_l, cat_f, cat_d]) hl.1 dX4_heirAt_3) (fun v22 h23 H locs cells slots hH hL hrun => ?_)
  refine lv_iconst (v := (1 : Int32)) (pc := 6) hx hb dX4_heirAt_6 (by decide) ?_
  obtain ⟨c27, hrun⟩ := gd_some hrun
  refine V_bd (pc := 7) C hL rfl hrun (fun rr1 e1 => Z_runV (rest := []) C hH (m_X4_isGood hl9 e1) wV_X4_104 c27 rfl (by decide) rfl rfl ⟨by decide, by decide⟩ rfl (Nat.le_of_ble_eq_true rfl) hl.1 dX4_heirAt_7) (fun v25 h26 H locs cells slots hH hL hrun => ?_)
  refine lv_if_eq (tgt := 74) (pc := 10) hx hb dX4_heirAt_10 (by decide) (fun c_ => ?_) (fun c_ => ?_)
  · have hrun := ite_t hrun c_
    exact b_X4_heirAt_74 C h26 H locs cells slots ls hH hL (lv_sub hl [] rfl) hrun
  · have hrun := ite_f hrun c_
    refine V_aload_n (pc := 13) hx hb dX4_heirAt_13 rfl (lv_at hl 0 rfl) ?_
    refine V_aload_n (pc := 14) hx hb dX4_heirAt_14 rfl (lv_at hl 0 rfl) ?_
    obtain ⟨c28, hrun⟩ := gd_some hrun
    refine V_getR (pc := 15) C hH fr_X4_16 dX4_heirAt_15 c28 rfl ?_
    refine lv_iload_n (pc := 18) hx hb dX4_heirAt_18 rfl (lv_at hl 1 rfl) ?_
    obtain ⟨c31, hrun⟩ := gd_some hrun
    refine V_bd (pc := 19) C hL rfl hrun (fun rr1 e1 => Z_runV (rest := [rv x0]) C hH (m_J2_get hl9 e1) wV_X4_108 c31 rfl (by decide) rfl rfl ⟨by decide, by decide⟩ rfl (by simp [csum, rv_cat, cat_i, cat_l, cat_f, cat_d]) hl.1 dX4_heirAt_19) (fun v29 h30 H locs cells slots hH hL hrun => ?_)
    obtain ⟨c32, hrun⟩ := gd_some hrun
    refine V_castX (pc := 22) (ci := 5) C hH rfl (by decide) q1946 dX4_heirAt_22 c32 ?_
    obtain ⟨c35, hrun⟩ := gd_some hrun
    refine V_bd (pc := 25) C hL rfl hrun (fun rr1 e1 => Z_runV (rest := [rv x0]) C hH (m_X6_lives hl9 e1) wV_X4_136 c35 rfl (by decide) rfl rfl ⟨by decide, by decide⟩ rfl (by simp [csum, rv_cat, cat_i, cat_l, cat_f, cat_d]) hl.1 dX4_heirAt_25) (fun v33 h34 H locs cells slots hH hL hrun => ?_)
    refine lv_if_ne (tgt := 35) (pc := 28) hx hb dX4_heirAt_28 (by decide) (fun c_ => ?_) (fun c_ => ?_)
    · have hrun := ite_f hrun c_
      refine lv_iconst (v := (0 : Int32)) (pc := 35) hx hb dX4_heirAt_35 (by decide) ?_
      exact b_X4_heirAt_36 C x0 x1 x2 x0 (0 : Int32) h34 H locs cells slots ls hH hL (lv_sub hl [0, 1, 2] rfl) hrun
    · have hrun := ite_t hrun c_
      refine lv_iconst (v := (1 : Int32)) (pc := 31) hx hb dX4_heirAt_31 (by decide) ?_
      refine lv_goto (tgt := 36) (pc := 32) hx hb dX4_heirAt_32 (by decide) ?_
      exact b_X4_heirAt_36 C x0 x1 x2 x0 (1 : Int32) h34 H locs cells slots ls hH hL (lv_sub hl [0, 1, 2] rfl) hrun

theorem m_X4_heirAt {l : Launch} {D : va_G} {Hs : Heap} {h : Hp} {rr : (Int64 ⊕ Ex) × Hp} (hl9 : l.stackTraces = false) {x0 : Nat} {x1 : Int32} {x2 : Int32} (hrun : f_X4_heirAt x0 x1 x2 h = some rr) : CM l yX4_heirAt (ws_ yX4_heirAt cX4_heirAt 3 (some .long)) 4 64 iL [rv x0, .int x1, .int x2] D Hs h rr := by
  refine CM.of (lv := [(0, rv x0), (1, .int x1), (2, .int x2)]) (plainFor_of_name (by decide)) hl9 (by simp [lv_args, rv_cat, cat_i, cat_l, cat_f, cat_d]) (by simp [lg_sl, rv_cat, cat_i, cat_l, cat_f, cat_d]) ?_
  intro p e R s m args below meth c H ls C hH hl hin
  exact b_X4_heirAt C x0 x1 x2 _ H [] _ _ ls hH (fun _ q => nomatch q) (lv_sub hl [0, 1, 2] rfl) hrun
end WK4

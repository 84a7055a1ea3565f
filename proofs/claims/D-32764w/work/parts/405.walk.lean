section WK5
variable {p : Program} {l : Launch} {e : Env} {R : Room} {s : State} {m : MethodId} {args : Array Value} {below : List Frame} {meth : Method} {c : Code} {D : va_G} {Hs : Heap} {F X : Nat}
/-! Massclaim.notice(II)I -/
def f_X1_notice_173 (k58 : Nat → Int32 → Int32 → Int32 → Nat → Hp → Rt Int32) (x0 : Nat) (x1 : Int32) (x2 : Int32) (x3 : Int32) (x4 : Nat) (h : Hp) : Rt Int32 :=
  k58 x0 x1 x2 x3 x4 h
def f_X1_notice_137 (k58 : Nat → Int32 → Int32 → Int32 → Nat → Hp → Rt Int32) (x0 : Nat) (x1 : Int32) (x2 : Int32) (x3 : Int32) (x4 : Nat) (x5 : Nat) (y0 : Int32) (h : Hp) : Rt Int32 :=
  if y0 = 0 then
  (f_X1_notice_173 k58 x0 x1 x2 x3 x4 h)
  else
  (gd (kC h x5 = 5) <| bd (f_X5_isMember x5 h) fun v1 h2 => if v1 = 0 then
  (f_X1_notice_173 k58 x0 x1 x2 x3 x4 h2)
  else
  (gd (kC h2 x5 = 5) <| if (kI h2 410 x5) = (-1 : Int32) then
  (gd (kC h2 x0 = 1) <| vl (sI h2 410 x5 (kI h2 18 x0)) fun h6 => vl (x3 + (1 : Int32)) fun v7 => f_X1_notice_173 k58 x0 x1 x2 v7 x4 h6)
  else
  (f_X1_notice_173 k58 x0 x1 x2 x3 x4 h2)))
def f_X1_notice_58  : Nat → Nat → Int32 → Int32 → Int32 → Nat → Hp → Rt Int32
  | 0, _, _, _, _, _, _ => none
  | n + 1, x0, x1, x2, x3, x4, h => gd (kC h x4 = 19) <| bd (f_J16_hasNext x4 h) fun v8 h9 => if v8 = 0 then
  (some (.inl x3, h9))
  else
  (gd (kC h9 x4 = 19) <| bd (f_J16_next x4 h9) fun v11 h12 => gd (v11 = 0 ∨ kC h12 v11 = 5) <| if x1 = 0 then
  (gd (kC h12 v11 = 5) <| f_X1_notice_137 (f_X1_notice_58 n) x0 x1 x2 x3 x4 v11 (kI h12 409 v11) h12)
  else
  (if x1 = (1 : Int32) then
  (gd (kC h12 v11 = 5) <| if ((x2 >>> ((kI h12 402 v11) &&& 31)) &&& (1 : Int32)) = (1 : Int32) then
  (f_X1_notice_137 (f_X1_notice_58 n) x0 x1 x2 x3 x4 v11 (1 : Int32) h12)
  else
  (f_X1_notice_137 (f_X1_notice_58 n) x0 x1 x2 x3 x4 v11 (0 : Int32) h12))
  else
  (gd (kC h12 x0 = 1) <| gd (kC h12 v11 = 5) <| bd (f_X5_age v11 (kI h12 18 x0) h12) fun v16 h17 => if (50 : Int32) ≤ v16 then
  (f_X1_notice_137 (f_X1_notice_58 n) x0 x1 x2 x3 x4 v11 (0 : Int32) h17)
  else
  (f_X1_notice_137 (f_X1_notice_58 n) x0 x1 x2 x3 x4 v11 (1 : Int32) h17))))
def f_X1_notice_44  (x0 : Nat) (x1 : Int32) (x2 : Int32) (y0 : Int32) (h : Hp) : Rt Int32 :=
  bd (f_X1_requireState y0 h) fun _ h22 => gd (kC h22 x0 = 1) <| gd (kC h22 (kR h22 0 x0) = 2) <| bd (f_X2_iterator (kR h22 0 x0) h22) fun v24 h25 => f_X1_notice_58 FU x0 x1 x2 (0 : Int32) v24 h25
def f_X1_notice_29  (x0 : Nat) (x1 : Int32) (x2 : Int32) (y0 : Int32) (h : Hp) : Rt Int32 :=
  bd (f_X1_requireArgument y0 h) fun _ h28 => gd (kC h28 x0 = 1) <| if (kI h28 10 x0) ≤ 0 then
  (f_X1_notice_44 x0 x1 x2 (0 : Int32) h28)
  else
  (f_X1_notice_44 x0 x1 x2 (1 : Int32) h28)
def f_X1_notice_28  (x0 : Nat) (x1 : Int32) (x2 : Int32) (h : Hp) : Rt Int32 :=
  f_X1_notice_29 x0 x1 x2 (0 : Int32) h
def f_X1_notice  (x0 : Nat) (x1 : Int32) (x2 : Int32) (h : Hp) : Rt Int32 :=
  bd (f_X1_isIn (x1.toInt64) (0 : Int64) (2 : Int64) h) fun v30 h31 => if v30 = 0 then
  (f_X1_notice_28 x0 x1 x2 h31)
  else
  (bd (f_X1_isIn (x2.toInt64) (1 : Int64) (1023 : Int64) h31) fun v32 h33 => if v32 = 0 then
  (f_X1_notice_28 x0 x1 x2 h33)
  else
  (f_X1_notice_29 x0 x1 x2 (1 : Int32) h33))
theorem b_X1_notice_173 {rr : (Int32 ⊕ Ex) × Hp} {k58 : Nat → Int32 → Int32 → Int32 → Nat → Hp → Rt Int32} (C : CX p l R s m args meth c D Hs cX1_notice "Massclaim" 7 (some .int) [] 7 110) (K58 : ∀ (x0 : Nat) (x1 : Int32) (x2 : Int32) (x3 : Int32) (x4 : Nat) (h : Hp) (H : Heap) (locs : List Loc) (cells slots : Nat) (ls : Array Slot), HP D Hs h H → LO Hs locs → lv_has ls 7 [(0, rv x0), (1, .int x1), (2, .int x2), (3, .int x3), (4, rv x4)] → k58 x0 x1 x2 x3 x4 h = some rr → W p l e R s m args below meth c H locs cells slots (ZM D Hs iI rr below args s) (F0 m 58 ls [])) : ∀ (x0 : Nat) (x1 : Int32) (x2 : Int32) (x3 : Int32) (x4 : Nat) (h : Hp) (H : Heap) (locs : List Loc) (cells slots : Nat) (ls : Array Slot), HP D Hs h H → LO Hs locs → lv_has ls 7 [(0, rv x0), (1, .int x1), (2, .int x2), (3, .int x3), (4, rv x4)] → f_X1_notice_173 k58 x0 x1 x2 x3 x4 h = some rr → W p l e R s m args below meth c H locs cells slots (ZM D Hs iI rr below args s) (F0 m 173 ls []) := by
  obtain ⟨⟨hx, hb, hml, hown, hts⟩, -⟩ := id C
  have hl9 := C.2.1.2.2.1
  intro x0 x1 x2 x3 x4 h H locs cells slots ls hH hL hl hrun
  unfold f_X1_notice_173 at hrun
  refine lv_goto (tgt := 58) (pc := 173) hx hb dX1_notice_173 (by decide) ?_
  exact K58 x0 x1 x2 x3 x4 h H locs cells slots ls hH hL (lv_sub hl [0, 1, 2, 3, 4] rfl) hrun

theorem b_X1_notice_137 {rr : (Int32 ⊕ Ex) × Hp} {k58 : Nat → Int32 → Int32 → Int32 → Nat → Hp → Rt Int32} (C : CX p l R s m args meth c D Hs cX1_notice "Massclaim" 7 (some .int) [] 7 110) (K58 : ∀ (x0 : Nat) (x1 : Int32) (x2 : Int32) (x3 : Int32) (x4 : Nat) (h : Hp) (H : Heap) (locs : List Loc) (cells slots : Nat) (ls : Array Slot), HP D Hs h H → LO Hs locs → lv_has ls 7 [(0, rv x0), (1, .int x1), (2, .int x2), (3, .int x3), (4, rv x4)] → k58 x0 x1 x2 x3 x4 h = some rr → W p l e R s m args below meth c H locs cells slots (ZM D Hs iI rr below args s) (F0 m 58 ls [])) : ∀ (x0 : Nat) (x1 : Int32) (x2 : Int32) (x3 : Int32) (x4 : Nat) (x5 : Nat) (y0 : Int32) (h : Hp) (H : Heap) (locs : List Loc) (cells slots : Nat) (ls : Array Slot), HP D Hs h H → LO Hs locs → lv_has ls 7 [(0, rv x0), (1, .int x1), (2, .int x2), (3, .int x3), (4, rv x4), (5, rv x5)] → f_X1_notice_137 k58 x0 x1 x2 x3 x4 x5 y0 h = some rr → W p l e R s m args below meth c H locs cells slots (ZM D Hs iI rr below args s) (F0 m 137 ls [.int y0]) := by
  obtain ⟨⟨hx, hb, hml, hown, hts⟩, -⟩ := id C
  have hl9 := C.2.1.2.2.1
  intro x0 x1 x2 x3 x4 x5 y0 h H locs cells slots ls hH hL hl hrun
  unfold f_X1_notice_137 at hrun
  refine lv_istore (i := 6) (lv' := [(6, .int y0), (0, rv x0), (1, .int x1), (2, .int x2), (3, .int x3), (4, rv x4), (5, rv x5)]) (pc := 137) hx hb dX1_notice_137 hl (by decide) (by simp [rv_cat, cat_i, cat_l, cat_f, cat_d]) (fun ls hl => ?_)
  refine lv_iload (pc := 139) hx hb dX1_notice_139 (lv_at hl 0 rfl) ?_
  refine lv_if_eq (tgt := 173) (pc := 141) hx hb dX1_notice_141 (by decide) (fun c_ => ?_) (fun c_ => ?_)
  · have hrun := ite_t hrun c_
    exact b_X1_notice_173 C K58 x0 x1 x2 x3 x4 h H locs cells slots ls hH hL (lv_sub hl [1, 2, 3, 4, 5] rfl) hrun
  · have hrun := ite_f hrun c_
    refine V_aload (pc := 144) hx hb dX1_notice_144 (lv_at hl 6 rfl) ?_
    obtain ⟨c3, hrun⟩ := gd_some hrun
    refine V_bd (pc := 146) C hL rfl hrun (fun rr1 e1 => Z_runV (rest := []) C hH (m_X5_isMember hl9 e1) wV_X1_148 c3 rfl (by decide) rfl rfl ⟨by decide, by decide⟩ rfl (Nat.le_of_ble_eq_true rfl) hl.1 dX1_notice_146) (fun v1 h2 H locs cells slots hH hL hrun => ?_)
    refine lv_if_eq (tgt := 173) (pc := 149) hx hb dX1_notice_149 (by decide) (fun c_ => ?_) (fun c_ => ?_)
    · have hrun := ite_t hrun c_
      exact b_X1_notice_173 C K58 x0 x1 x2 x3 x4 h2 H locs cells slots ls hH hL (lv_sub hl [1, 2, 3, 4, 5] rfl) hrun
    · have hrun := ite_f hrun c_
      refine V_aload (pc := 152) hx hb dX1_notice_152 (lv_at hl 6 rfl) ?_
      obtain ⟨c4, hrun⟩ := gd_some hrun
      refine V_getNI (pc := 154) C hH fn_X1_248 dX1_notice_154 c4 rfl ?_
      refine lv_iconst (v := (-1 : Int32)) (pc := 157) hx hb dX1_notice_157 (by decide) ?_
      refine lv_icmp_ne (tgt := 173) (pc := 158) hx hb dX1_notice_158 (by decide) (fun c_ => ?_) (fun c_ => ?_)
      · have hrun := ite_f hrun c_
        exact b_X1_notice_173 C K58 x0 x1 x2 x3 x4 h2 H locs cells slots ls hH hL (lv_sub hl [1, 2, 3, 4, 5] rfl) hrun
      · have hrun := ite_t hrun c_
        refine V_aload (pc := 161) hx hb dX1_notice_161 (lv_at hl 6 rfl) ?_
        refine V_aload_n (pc := 163) hx hb dX1_notice_163 rfl (lv_at hl 1 rfl) ?_
        obtain ⟨c5, hrun⟩ := gd_some hrun
        refine V_getI (pc := 164) C hH fr_X1_115 dX1_notice_164 c5 rfl ?_
        refine V_putNI (pc := 167) C hH hL fn_X1_248 dX1_notice_167 c4 (fok_i _) rfl hrun (fun h6 H locs hH hL hrun => ?_)
        obtain ⟨v7, ev7⟩ : ∃ y : Int32, y = x3 + (1 : Int32) := ⟨_, rfl⟩
        have hrun := vl_at hrun v7 ev7
        refine lv_iinc (v := v7) (lv' := [(3, .int v7), (6, .int y0), (0, rv x0), (1, .int x1), (2, .int x2), (4, rv x4), (5, rv x5)]) (pc := 170) hx hb dX1_notice_170 hl (k := 4) rfl (by rw [ev7]; rfl) (by decide) (by first | rfl | simp [rv_cat, cat_i, cat_l, cat_f, cat_d]) (fun ls hl => ?_)
        exact b_X1_notice_173 C K58 x0 x1 x2 v7 x4 h6 H locs cells slots ls hH hL (lv_sub hl [2, 3, 4, 0, 5] rfl) hrun

theorem b_X1_notice_58 {rr : (Int32 ⊕ Ex) × Hp}  (C : CX p l R s m args meth c D Hs cX1_notice "Massclaim" 7 (some .int) [] 7 110)  : ∀ (n : Nat) (x0 : Nat) (x1 : Int32) (x2 : Int32) (x3 : Int32) (x4 : Nat) (h : Hp) (H : Heap) (locs : List Loc) (cells slots : Nat) (ls : Array Slot), HP D Hs h H → LO Hs locs → lv_has ls 7 [(0, rv x0), (1, .int x1), (2, .int x2), (3, .int x3), (4, rv x4)] → f_X1_notice_58 n x0 x1 x2 x3 x4 h = some rr → W p l e R s m args below meth c H locs cells slots (ZM D Hs iI rr below args s) (F0 m 58 ls []) := by
  obtain ⟨⟨hx, hb, hml, hown, hts⟩, -⟩ := id C
  have hl9 := C.2.1.2.2.1
  intro n
  induction n with
  | zero =>
    intro x0 x1 x2 x3 x4 h H locs cells slots ls hH hL hl hrun
    cases (show (none : Option _) = some rr from hrun)
  | succ n ih =>
    intro x0 x1 x2 x3 x4 h H locs cells slots ls hH hL hl hrun
    rw [f_X1_notice_58] at hrun
    refine V_aload (pc := 58) hx hb dX1_notice_58 (lv_at hl 4 rfl) ?_
    obtain ⟨c10, hrun⟩ := gd_some hrun
    refine V_bd5 (pc := 60) C hL rfl hrun (fun rr1 e1 => Z_runF (rest := []) C hH (m_J16_hasNext hl9 e1) rfl wF_X1_212_J16 c10 (by decide) rfl ⟨by decide, by decide⟩ rfl (Nat.le_of_ble_eq_true rfl) hl.1 dX1_notice_60) (fun v8 h9 H locs cells slots hH hL hrun => ?_)
    refine lv_if_eq (tgt := 176) (pc := 65) hx hb dX1_notice_65 (by decide) (fun c_ => ?_) (fun c_ => ?_)
    · have hrun := ite_t hrun c_
      refine lv_iload_n (pc := 176) hx hb dX1_notice_176 rfl (lv_at hl 3 rfl) ?_
      exact V_iret (pc := 177) C hH hL hrun dX1_notice_177
    · have hrun := ite_f hrun c_
      refine V_aload (pc := 68) hx hb dX1_notice_68 (lv_at hl 4 rfl) ?_
      obtain ⟨c13, hrun⟩ := gd_some hrun
      refine V_bd5 (pc := 70) C hL rfl hrun (fun rr1 e1 => Z_runF (rest := []) C hH (m_J16_next hl9 e1) rfl wF_X1_217_J16 c13 (by decide) rfl ⟨by decide, by decide⟩ rfl (Nat.le_of_ble_eq_true rfl) hl.1 dX1_notice_70) (fun v11 h12 H locs cells slots hH hL hrun => ?_)
      obtain ⟨c14, hrun⟩ := gd_some hrun
      refine V_castX (pc := 75) (ci := 4) C hH rfl (by decide) q376 dX1_notice_75 c14 ?_
      refine V_astore (i := 5) (lv' := [(5, rv v11), (0, rv x0), (1, .int x1), (2, .int x2), (3, .int x3), (4, rv x4)]) (pc := 78) hx hb dX1_notice_78 hl (by decide) (by simp [rv_cat, cat_i, cat_l, cat_f, cat_d]) (fun ls hl => ?_)
      refine lv_iload_n (pc := 80) hx hb dX1_notice_80 rfl (lv_at hl 2 rfl) ?_
      refine lv_if_ne (tgt := 92) (pc := 81) hx hb dX1_notice_81 (by decide) (fun c_ => ?_) (fun c_ => ?_)
      · have hrun := ite_f hrun c_
        refine lv_iload_n (pc := 92) hx hb dX1_notice_92 rfl (lv_at hl 2 rfl) ?_
        refine lv_iconst (v := (1 : Int32)) (pc := 93) hx hb dX1_notice_93 (by decide) ?_
        refine lv_icmp_ne (tgt := 118) (pc := 94) hx hb dX1_notice_94 (by decide) (fun c_ => ?_) (fun c_ => ?_)
        · have hrun := ite_f hrun c_
          refine V_aload (pc := 118) hx hb dX1_notice_118 (lv_at hl 0 rfl) ?_
          refine V_aload_n (pc := 120) hx hb dX1_notice_120 rfl (lv_at hl 1 rfl) ?_
          obtain ⟨c15, hrun⟩ := gd_some hrun
          refine V_getI (pc := 121) C hH fr_X1_115 dX1_notice_121 c15 rfl ?_
          obtain ⟨c18, hrun⟩ := gd_some hrun
          refine V_bd (pc := 124) C hL rfl hrun (fun rr1 e1 => Z_runV (rest := []) C hH (m_X5_age hl9 e1) wV_X1_256 c18 rfl (by decide) rfl rfl ⟨by decide, by decide⟩ rfl (Nat.le_of_ble_eq_true rfl) hl.1 dX1_notice_124) (fun v16 h17 H locs cells slots hH hL hrun => ?_)
          refine lv_bipush (v := (50 : Int32)) (pc := 127) hx hb dX1_notice_127 (by decide) ?_
          refine lv_icmp_ge (tgt := 136) (pc := 129) hx hb dX1_notice_129 (by decide) (fun c_ => ?_) (fun c_ => ?_)
          · have hrun := ite_t hrun c_
            refine lv_iconst (v := (0 : Int32)) (pc := 136) hx hb dX1_notice_136 (by decide) ?_
            exact b_X1_notice_137 C ih x0 x1 x2 x3 x4 v11 (0 : Int32) h17 H locs cells slots ls hH hL (lv_sub hl [1, 2, 3, 4, 5, 0] rfl) hrun
          · have hrun := ite_f hrun c_
            refine lv_iconst (v := (1 : Int32)) (pc := 132) hx hb dX1_notice_132 (by decide) ?_
            refine lv_goto (tgt := 137) (pc := 133) hx hb dX1_notice_133 (by decide) ?_
            exact b_X1_notice_137 C ih x0 x1 x2 x3 x4 v11 (1 : Int32) h17 H locs cells slots ls hH hL (lv_sub hl [1, 2, 3, 4, 5, 0] rfl) hrun
        · have hrun := ite_t hrun c_
          refine lv_iload_n (pc := 97) hx hb dX1_notice_97 rfl (lv_at hl 3 rfl) ?_
          refine V_aload (pc := 98) hx hb dX1_notice_98 (lv_at hl 0 rfl) ?_
          obtain ⟨c19, hrun⟩ := gd_some hrun
          refine V_getNI (pc := 100) C hH fn_X1_283 dX1_notice_100 c19 rfl ?_
          refine lv_ishr (pc := 103) hx hb dX1_notice_103 ?_
          refine lv_iconst (v := (1 : Int32)) (pc := 104) hx hb dX1_notice_104 (by decide) ?_
          refine lv_iand (pc := 105) hx hb dX1_notice_105 ?_
          refine lv_iconst (v := (1 : Int32)) (pc := 106) hx hb dX1_notice_106 (by decide) ?_
          refine lv_icmp_ne (tgt := 114) (pc := 107) hx hb dX1_notice_107 (by decide) (fun c_ => ?_) (fun c_ => ?_)
          · have hrun := ite_f hrun c_
            refine lv_iconst (v := (0 : Int32)) (pc := 114) hx hb dX1_notice_114 (by decide) ?_
            refine lv_goto (tgt := 137) (pc := 115) hx hb dX1_notice_115 (by decide) ?_
            exact b_X1_notice_137 C ih x0 x1 x2 x3 x4 v11 (0 : Int32) h12 H locs cells slots ls hH hL (lv_sub hl [1, 2, 3, 4, 5, 0] rfl) hrun
          · have hrun := ite_t hrun c_
            refine lv_iconst (v := (1 : Int32)) (pc := 110) hx hb dX1_notice_110 (by decide) ?_
            refine lv_goto (tgt := 137) (pc := 111) hx hb dX1_notice_111 (by decide) ?_
            exact b_X1_notice_137 C ih x0 x1 x2 x3 x4 v11 (1 : Int32) h12 H locs cells slots ls hH hL (lv_sub hl [1, 2, 3, 4, 5, 0] rfl) hrun
      · have hrun := ite_t hrun c_
        refine V_aload (pc := 84) hx hb dX1_notice_84 (lv_at hl 0 rfl) ?_
        obtain ⟨c20, hrun⟩ := gd_some hrun
        refine V_getNI (pc := 86) C hH fn_X1_280 dX1_notice_86 c20 rfl ?_
        refine lv_goto (tgt := 137) (pc := 89) hx hb dX1_notice_89 (by decide) ?_
        exact b_X1_notice_137 C ih x0 x1 x2 x3 x4 v11 (kI h12 409 v11) h12 H locs cells slots ls hH hL (lv_sub hl [1, 2, 3, 4, 5, 0] rfl) hrun

theorem b_X1_notice_44 {rr : (Int32 ⊕ Ex) × Hp}  (C : CX p l R s m args meth c D Hs cX1_notice "Massclaim" 7 (some .int) [] 7 110)  : ∀ (x0 : Nat) (x1 : Int32) (x2 : Int32) (y0 : Int32) (h : Hp) (H : Heap) (locs : List Loc) (cells slots : Nat) (ls : Array Slot), HP D Hs h H → LO Hs locs → lv_has ls 7 [(0, rv x0), (1, .int x1), (2, .int x2)] → f_X1_notice_44 x0 x1 x2 y0 h = some rr → W p l e R s m args below meth c H locs cells slots (ZM D Hs iI rr below args s) (F0 m 44 ls [.int y0]) := by
  obtain ⟨⟨hx, hb, hml, hown, hts⟩, -⟩ := id C
  have hl9 := C.2.1.2.2.1
  intro x0 x1 x2 y0 h H locs cells slots ls hH hL hl hrun
  unfold f_X1_notice_44 at hrun
  refine V_bd (pc := 44) C hL rfl hrun (fun rr1 e1 => Z_runS (rest := []) C hH (m_X1_requireState hl9 e1) wS_X1_182 rfl ⟨by decide, by decide⟩ rfl (Nat.le_of_ble_eq_true rfl) hl.1 dX1_notice_44) (fun _ h22 H locs cells slots hH hL hrun => ?_)
  refine lv_iconst (v := (0 : Int32)) (pc := 47) hx hb dX1_notice_47 (by decide) ?_
  refine lv_istore_n (i := 3) (lv' := [(3, .int (0 : Int32)), (0, rv x0), (1, .int x1), (2, .int x2)]) (pc := 48) hx hb dX1_notice_48 rfl hl (by decide) rfl (fun ls hl => ?_)
  refine V_aload_n (pc := 49) hx hb dX1_notice_49 rfl (lv_at hl 1 rfl) ?_
  obtain ⟨c23, hrun⟩ := gd_some hrun
  refine V_getR (pc := 50) C hH fr_X1_42 dX1_notice_50 c23 rfl ?_
  obtain ⟨c26, hrun⟩ := gd_some hrun
  refine V_bd (pc := 53) C hL rfl hrun (fun rr1 e1 => Z_runV (rest := []) C hH (m_X2_iterator hl9 e1) wV_X1_208 c26 rfl (by decide) rfl rfl ⟨by decide, by decide⟩ rfl (Nat.le_of_ble_eq_true rfl) hl.1 dX1_notice_53) (fun v24 h25 H locs cells slots hH hL hrun => ?_)
  refine V_astore (i := 4) (lv' := [(4, rv v24), (3, .int (0 : Int32)), (0, rv x0), (1, .int x1), (2, .int x2)]) (pc := 56) hx hb dX1_notice_56 hl (by decide) rfl (fun ls hl => ?_)
  exact b_X1_notice_58 C FU x0 x1 x2 (0 : Int32) v24 h25 H locs cells slots ls hH hL (lv_sub hl [2, 3, 4, 1, 0] rfl) hrun

theorem b_X1_notice_29 {rr : (Int32 ⊕ Ex) × Hp}  (C : CX p l R s m args meth c D Hs cX1_notice "Massclaim" 7 (some .int) [] 7 110)  : ∀ (x0 : Nat) (x1 : Int32) (x2 : Int32) (y0 : Int32) (h : Hp) (H : Heap) (locs : List Loc) (cells slots : Nat) (ls : Array Slot), HP D Hs h H → LO Hs locs → lv_has ls 7 [(0, rv x0), (1, .int x1), (2, .int x2)] → f_X1_notice_29 x0 x1 x2 y0 h = some rr → W p l e R s m args below meth c H locs cells slots (ZM D Hs iI rr below args s) (F0 m 29 ls [.int y0]) := by
  obtain ⟨⟨hx, hb, hml, hown, hts⟩, -⟩ := id C
  have hl9 := C.2.1.2.2.1
  intro x0 x1 x2 y0 h H locs cells slots ls hH hL hl hrun
  unfold f_X1_notice_29 at hrun
  refine V_bd (pc := 29) C hL rfl hrun (fun rr1 e1 => Z_runS (rest := []) C hH (m_X1_requireArgument hl9 e1) wS_X1_131 rfl ⟨by decide, by decide⟩ rfl (Nat.le_of_ble_eq_true rfl) hl.1 dX1_notice_29) (fun _ h28 H locs cells slots hH hL hrun => ?_)
  refine V_aload_n (pc := 32) hx hb dX1_notice_32 rfl (lv_at hl 0 rfl) ?_
  obtain ⟨c29, hrun⟩ := gd_some hrun
  refine V_getI (pc := 33) C hH fr_X1_88 dX1_notice_33 c29 rfl ?_
  refine lv_if_le (tgt := 43) (pc := 36) hx hb dX1_notice_36 (by decide) (fun c_ => ?_) (fun c_ => ?_)
  · have hrun := ite_t hrun c_
    refine lv_iconst (v := (0 : Int32)) (pc := 43) hx hb dX1_notice_43 (by decide) ?_
    exact b_X1_notice_44 C x0 x1 x2 (0 : Int32) h28 H locs cells slots ls hH hL (lv_sub hl [0, 1, 2] rfl) hrun
  · have hrun := ite_f hrun c_
    refine lv_iconst (v := (1 : Int32)) (pc := 39) hx hb dX1_notice_39 (by decide) ?_
    refine lv_goto (tgt := 44) (pc := 40) hx hb dX1_notice_40 (by decide) ?_
    exact b_X1_notice_44 C x0 x1 x2 (1 : Int32) h28 H locs cells slots ls hH hL (lv_sub hl [0, 1, 2] rfl) hrun

theorem b_X1_notice_28 {rr : (Int32 ⊕ Ex) × Hp}  (C : CX p l R s m args meth c D Hs cX1_notice "Massclaim" 7 (some .int) [] 7 110)  : ∀ (x0 : Nat) (x1 : Int32) (x2 : Int32) (h : Hp) (H : Heap) (locs : List Loc) (cells slots : Nat) (ls : Array Slot), HP D Hs h H → LO Hs locs → lv_has ls 7 [(0, rv x0), (1, .int x1), (2, .int x2)] → f_X1_notice_28 x0 x1 x2 h = some rr → W p l e R s m args below meth c H locs cells slots (ZM D Hs iI rr below args s) (F0 m 28 ls []) := by
  obtain ⟨⟨hx, hb, hml, hown, hts⟩, -⟩ := id C
  have hl9 := C.2.1.2.2.1
  intro x0 x1 x2 h H locs cells slots ls hH hL hl hrun
  unfold f_X1_notice_28 at hrun
  refine lv_iconst (v := (0 : Int32)) (pc := 28) hx hb dX1_notice_28 (by decide) ?_
  exact b_X1_notice_29 C x0 x1 x2 (0 : Int32) h H locs cells slots ls hH hL (lv_sub hl [0, 1, 2] rfl) hrun

theorem b_X1_notice {rr : (Int32 ⊕ Ex) × Hp}  (C : CX p l R s m args meth c D Hs cX1_notice "Massclaim" 7 (some .int) [] 7 110)  : ∀ (x0 : Nat) (x1 : Int32) (x2 : Int32) (h : Hp) (H : Heap) (locs : List Loc) (cells slots : Nat) (ls : Array Slot), HP D Hs h H → LO Hs locs → lv_has ls 7 [(0, rv x0), (1, .int x1), (2, .int x2)] → f_X1_notice x0 x1 x2 h = some rr → W p l e R s m args below meth c H locs cells slots (ZM D Hs iI rr below args s) (F0 m 0 ls []) := by
  obtain ⟨⟨hx, hb, hml, hown, hts⟩, -⟩ := id C
  have hl9 := C.2.1.2.2.1
  intro x0 x1 x2 h H locs cells slots ls hH hL hl hrun
  unfold f_X1_notice at hrun
  refine lv_iload_n (pc := 0) hx hb dX1_notice_0 rfl (lv_at hl 1 rfl) ?_
  refine lv_i2l (pc := 1) hx hb dX1_notice_1 rfl ?_
  refine lv_lconst (v := (0 : Int64)) (pc := 2) hx hb dX1_notice_2 (by decide) ?_
  refine lv_ldc2 (pc := 3) hx hb hown (hts _ q1006) dX1_notice_3 ?_
  refine V_bd (pc := 6) C hL rfl hrun (fun rr1 e1 => Z_runS (rest := []) C hH (m_X1_isIn hl9 e1) wS_X1_127 rfl ⟨by decide, by decide⟩ rfl (Nat.le_of_ble_eq_true rfl) hl.1 dX1_notice_6) (fun v30 h31 H locs cells slots hH hL hrun => ?_)
  refine lv_if_eq (tgt := 28) (pc := 9) hx hb dX1_notice_9 (by decide) (fun c_ => ?_) (fun c_ => ?_)
  · have hrun := ite_t hrun c_
    exact b_X1_notice_28 C x0 x1 x2 h31 H locs cells slots ls hH hL (lv_sub hl [0, 1, 2] rfl) hrun
  · have hrun := ite_f hrun c_
    refine lv_iload_n (pc := 12) hx hb dX1_notice_12 rfl (lv_at hl 2 rfl) ?_
    refine lv_i2l (pc := 13) hx hb dX1_notice_13 rfl ?_
    refine lv_lconst (v := (1 : Int64)) (pc := 14) hx hb dX1_notice_14 (by decide) ?_
    refine lv_ldc2 (pc := 15) hx hb hown (hts _ q887) dX1_notice_15 ?_
    refine V_bd (pc := 18) C hL rfl hrun (fun rr1 e1 => Z_runS (rest := []) C hH (m_X1_isIn hl9 e1) wS_X1_127 rfl ⟨by decide, by decide⟩ rfl (Nat.le_of_ble_eq_true rfl) hl.1 dX1_notice_18) (fun v32 h33 H locs cells slots hH hL hrun => ?_)
    refine lv_if_eq (tgt := 28) (pc := 21) hx hb dX1_notice_21 (by decide) (fun c_ => ?_) (fun c_ => ?_)
    · have hrun := ite_t hrun c_
      exact b_X1_notice_28 C x0 x1 x2 h33 H locs cells slots ls hH hL (lv_sub hl [0, 1, 2] rfl) hrun
    · have hrun := ite_f hrun c_
      refine lv_iconst (v := (1 : Int32)) (pc := 24) hx hb dX1_notice_24 (by decide) ?_
      refine lv_goto (tgt := 29) (pc := 25) hx hb dX1_notice_25 (by decide) ?_
      exact b_X1_notice_29 C x0 x1 x2 (1 : Int32) h33 H locs cells slots ls hH hL (lv_sub hl [0, 1, 2] rfl) hrun

theorem m_X1_notice {l : Launch} {D : va_G} {Hs : Heap} {h : Hp} {rr : (Int32 ⊕ Ex) × Hp} (hl9 : l.stackTraces = false) {x0 : Nat} {x1 : Int32} {x2 : Int32} (hrun : f_X1_notice x0 x1 x2 h = some rr) : CM l yX1_notice (ws_ yX1_notice cX1_notice 7 (some .int)) 7 110 iI [rv x0, .int x1, .int x2] D Hs h rr := by
  refine CM.of (lv := [(0, rv x0), (1, .int x1), (2, .int x2)]) (plainFor_of_name (by decide)) hl9 (by simp [lv_args, rv_cat, cat_i, cat_l, cat_f, cat_d]) (by simp [lg_sl, rv_cat, cat_i, cat_l, cat_f, cat_d]) ?_
  intro p e R s m args below meth c H ls C hH hl hin
  exact b_X1_notice C x0 x1 x2 _ H [] _ _ ls hH (fun _ q => nomatch q) (lv_sub hl [0, 1, 2] rfl) hrun

/-! MassclaimLaw.notice(LMassclaim;II[J)I -/
def f_X0_notice_13  (y0 : Nat) (h : Hp) : Rt Int32 :=
  some (.inl (1 : Int32), h)
def f_X0_notice_17  (y0 : Nat) (h : Hp) : Rt Int32 :=
  some (.inl (2 : Int32), h)
def f_X0_notice  (x0 : Nat) (x1 : Int32) (x2 : Int32) (x3 : Nat) (h : Hp) : Rt Int32 :=
  gd (kC h x0 = 1) <| bdH (f_X1_notice x0 x1 x2 h)
  (fun v1 h2 => gd (kC h2 x3 = 102 ∧ ixo (0 : Int32) (kN h2 x3)) <| vl (tL h2 x3 ((0 : Int32)).toNatClampNeg (v1.toInt64)) fun h5 => some (.inl (0 : Int32), h5))
  (fun ex6 h7 => if ex6.1 = 902 then
  (f_X0_notice_13 ex6.2 h7)
  else
  if ex6.1 = 903 then
  (f_X0_notice_17 ex6.2 h7)
  else
  none)
theorem b_X0_notice_13 {rr : (Int32 ⊕ Ex) × Hp}  (C : CX p l R s m args meth c D Hs cX0_notice "MassclaimLaw" 5 (some .int) [(0, 10, 13, 13), (0, 10, 17, 19)] 8 136)  : ∀ (y0 : Nat) (h : Hp) (H : Heap) (locs : List Loc) (cells slots : Nat) (ls : Array Slot), HP D Hs h H → LO Hs locs → lv_has ls 5 [] → f_X0_notice_13 y0 h = some rr → W p l e R s m args below meth c H locs cells slots (ZM D Hs iI rr below args s) (F0 m 13 ls [rv y0]) := by
  obtain ⟨⟨hx, hb, hml, hown, hts⟩, -⟩ := id C
  have hl9 := C.2.1.2.2.1
  intro y0 h H locs cells slots ls hH hL hl hrun
  unfold f_X0_notice_13 at hrun
  refine V_astore (i := 4) (lv' := [(4, rv y0)]) (pc := 13) hx hb dX0_notice_13 hl (by decide) rfl (fun ls hl => ?_)
  refine lv_iconst (v := (1 : Int32)) (pc := 15) hx hb dX0_notice_15 (by decide) ?_
  exact V_iret (pc := 16) C hH hL hrun dX0_notice_16

theorem b_X0_notice_17 {rr : (Int32 ⊕ Ex) × Hp}  (C : CX p l R s m args meth c D Hs cX0_notice "MassclaimLaw" 5 (some .int) [(0, 10, 13, 13), (0, 10, 17, 19)] 8 136)  : ∀ (y0 : Nat) (h : Hp) (H : Heap) (locs : List Loc) (cells slots : Nat) (ls : Array Slot), HP D Hs h H → LO Hs locs → lv_has ls 5 [] → f_X0_notice_17 y0 h = some rr → W p l e R s m args below meth c H locs cells slots (ZM D Hs iI rr below args s) (F0 m 17 ls [rv y0]) := by
  obtain ⟨⟨hx, hb, hml, hown, hts⟩, -⟩ := id C
  have hl9 := C.2.1.2.2.1
  intro y0 h H locs cells slots ls hH hL hl hrun
  unfold f_X0_notice_17 at hrun
  refine V_astore (i := 4) (lv' := [(4, rv y0)]) (pc := 17) hx hb dX0_notice_17 hl (by decide) rfl (fun ls hl => ?_)
  refine lv_iconst (v := (2 : Int32)) (pc := 19) hx hb dX0_notice_19 (by decide) ?_
  exact V_iret (pc := 20) C hH hL hrun dX0_notice_20

theorem b_X0_notice {rr : (Int32 ⊕ Ex) × Hp}  (C : CX p l R s m args meth c D Hs cX0_notice "MassclaimLaw" 5 (some .int) [(0, 10, 13, 13), (0, 10, 17, 19)] 8 136)  : ∀ (x0 : Nat) (x1 : Int32) (x2 : Int32) (x3 : Nat) (h : Hp) (H : Heap) (locs : List Loc) (cells slots : Nat) (ls : Array Slot), HP D Hs h H → LO Hs locs → lv_has ls 5 [(0, rv x0), (1, .int x1), (2, .int x2), (3, rv x3)] → f_X0_notice x0 x1 x2 x3 h = some rr → W p l e R s m args below meth c H locs cells slots (ZM D Hs iI rr below args s) (F0 m 0 ls []) := by
  obtain ⟨⟨hx, hb, hml, hown, hts⟩, -⟩ := id C
  have hl9 := C.2.1.2.2.1
  intro x0 x1 x2 x3 h H locs cells slots ls hH hL hl hrun
  unfold f_X0_notice at hrun
  refine V_aload_n (pc := 0) hx hb dX0_notice_0 rfl (lv_at hl 3 rfl) ?_
  refine lv_iconst (v := (0 : Int32)) (pc := 1) hx hb dX0_notice_1 (by decide) ?_
  refine V_aload_n (pc := 2) hx hb dX0_notice_2 rfl (lv_at hl 0 rfl) ?_
  refine lv_iload_n (pc := 3) hx hb dX0_notice_3 rfl (lv_at hl 1 rfl) ?_
  refine lv_iload_n (pc := 4) hx hb dX0_notice_4 rfl (lv_at hl 2 rfl) ?_
  obtain ⟨c3, hrun⟩ := gd_some hrun
  refine V_bdH (pc := 5) hL hrun (fun rr1 e1 => Z_runV (rest := [.int (0 : Int32), rv x3]) C hH (m_X1_notice hl9 e1) wV_X0_48 c3 rfl (by decide) rfl rfl ⟨by decide, by decide⟩ rfl (by simp [csum, rv_cat, cat_i, cat_l, cat_f, cat_d]) hl.1 dX0_notice_5) (fun v1 h2 H locs cells slots hH hL hrun => ?_) (fun x_ q_ ce_ h7 H locs cells slots hH hL hrun hc_ hv_ hcl_ => ?_)
  · refine lv_i2l (pc := 8) hx hb dX0_notice_8 rfl ?_
    obtain ⟨c4, hrun⟩ := gd_some hrun
    refine V_last (pc := 9) C hH hL dX0_notice_9 c4 hrun (fun h5 H locs hH hL hrun => ?_)
    refine lv_goto (tgt := 21) (pc := 10) hx hb dX0_notice_10 (by decide) ?_
    refine lv_iconst (v := (0 : Int32)) (pc := 21) hx hb dX0_notice_21 (by decide) ?_
    exact V_iret (pc := 22) C hH hL hrun dX0_notice_22
  · by_cases n902 : x_ = 902
    · subst n902
      have hrun := ite_t hrun rfl
      refine vx_catch (E := "java/lang/IllegalArgumentException") (name := "java/lang/IllegalArgumentException") hown (tableOf []) ⟨0, 10, 13, 13⟩ (tableOf [(0, 10, 17, 19)]) (by rw [C.2.1.2.2.2.2]; rfl) (fun z hz => nomatch hz) (by decide) (by decide) (hts _ q449) (va_Nw.use rfl (C.2.1.2.2.2.1.2.1 _ q463 rfl)) hc_ hv_ hcl_ ?_
      exact b_X0_notice_13 C (q_ + 1) h7 H locs cells slots ls hH hL (lv_sub hl [] rfl) hrun
    have hrun := ite_f hrun n902
    by_cases n903 : x_ = 903
    · subst n903
      have hrun := ite_t hrun rfl
      refine vx_catch (E := "java/lang/IllegalStateException") (name := "java/lang/IllegalStateException") hown (tableOf [(0, 10, 13, 13)]) ⟨0, 10, 17, 19⟩ (tableOf []) (by rw [C.2.1.2.2.2.2]; rfl) (fun z hz => by simp only [tableOf, List.map, List.mem_cons, List.not_mem_nil, or_false] at hz; rcases hz with rfl <;> first | exact Or.inr ⟨by decide, "java/lang/IllegalArgumentException", hts _ q449, nc_at C (by decide)⟩) (by decide) (by decide) (hts _ q585) (va_Nw.use rfl (C.2.1.2.2.2.1.2.1 _ q702 rfl)) hc_ hv_ hcl_ ?_
      exact b_X0_notice_17 C (q_ + 1) h7 H locs cells slots ls hH hL (lv_sub hl [] rfl) hrun
    have hrun := ite_f hrun n903
    cases hrun

theorem m_X0_notice {l : Launch} {D : va_G} {Hs : Heap} {h : Hp} {rr : (Int32 ⊕ Ex) × Hp} (hl9 : l.stackTraces = false) {x0 : Nat} {x1 : Int32} {x2 : Int32} {x3 : Nat} (hrun : f_X0_notice x0 x1 x2 x3 h = some rr) : CM l yX0_notice (wsW_ yX0_notice cX0_notice 5 (some .int) [(0, 10, 13, 13), (0, 10, 17, 19)]) 8 136 iI [rv x0, .int x1, .int x2, rv x3] D Hs h rr := by
  refine CM.ofH (lv := [(0, rv x0), (1, .int x1), (2, .int x2), (3, rv x3)]) (plainFor_of_name (by decide)) hl9 (by simp [lv_args, rv_cat, cat_i, cat_l, cat_f, cat_d]) (by simp [lg_sl, rv_cat, cat_i, cat_l, cat_f, cat_d]) ?_
  intro p e R s m args below meth c H ls C hH hl hin
  exact b_X0_notice C x0 x1 x2 x3 _ H [] _ _ ls hH (fun _ q => nomatch q) (lv_sub hl [0, 1, 2, 3] rfl) hrun

/-! MassclaimModel.notice(II)I -/
def f_X4_notice_49  (h : Hp) : Rt Int32 :=
  some (.inl (0 : Int32), h)
def f_X4_notice_176 (k56 : Nat → Int32 → Int32 → Int32 → Int32 → Hp → Rt Int32) (x0 : Nat) (x1 : Int32) (x2 : Int32) (x3 : Int32) (x4 : Int32) (h : Hp) : Rt Int32 :=
  vl (x4 + (1 : Int32)) fun v1 => k56 x0 x1 x2 x3 v1 h
def f_X4_notice_139 (k56 : Nat → Int32 → Int32 → Int32 → Int32 → Hp → Rt Int32) (x0 : Nat) (x1 : Int32) (x2 : Int32) (x3 : Int32) (x4 : Int32) (x5 : Nat) (y0 : Int32) (h : Hp) : Rt Int32 :=
  gd (kC h x0 = 4) <| bd (f_X4_isIn x0 x5 h) fun v2 h3 => if v2 = 0 then
  (f_X4_notice_176 k56 x0 x1 x2 x3 x4 h3)
  else
  (gd (kC h3 x5 = 6) <| if (kI h3 509 x5) = (-1 : Int32) then
  (if y0 = 0 then
  (f_X4_notice_176 k56 x0 x1 x2 x3 x4 h3)
  else
  (gd (kC h3 x0 = 4) <| vl (sI h3 509 x5 (kI h3 301 x0)) fun h7 => vl (x3 + (1 : Int32)) fun v8 => f_X4_notice_176 k56 x0 x1 x2 v8 x4 h7))
  else
  (f_X4_notice_176 k56 x0 x1 x2 x3 x4 h3))
def f_X4_notice_56  : Nat → Nat → Int32 → Int32 → Int32 → Int32 → Hp → Rt Int32
  | 0, _, _, _, _, _, _ => none
  | n + 1, x0, x1, x2, x3, x4, h => gd (kC h x0 = 4) <| gd (kC h (kR h 302 x0) = 18) <| bd (f_J2_size (kR h 302 x0) h) fun v10 h11 => if v10 ≤ x4 then
  (some (.inl x3, h11))
  else
  (gd (kC h11 x0 = 4) <| gd (kC h11 (kR h11 302 x0) = 18) <| bd (f_J2_get (kR h11 302 x0) x4 h11) fun v14 h15 => gd (v14 = 0 ∨ kC h15 v14 = 6) <| if x1 = 0 then
  (gd (kC h15 v14 = 6) <| f_X4_notice_139 (f_X4_notice_56 n) x0 x1 x2 x3 x4 v14 (kI h15 508 v14) h15)
  else
  (if x1 = (1 : Int32) then
  (gd (kC h15 v14 = 6) <| if ((x2 >>> ((kI h15 501 v14) &&& 31)) &&& (1 : Int32)) = (1 : Int32) then
  (f_X4_notice_139 (f_X4_notice_56 n) x0 x1 x2 x3 x4 v14 (1 : Int32) h15)
  else
  (f_X4_notice_139 (f_X4_notice_56 n) x0 x1 x2 x3 x4 v14 (0 : Int32) h15))
  else
  (gd (kC h15 x0 = 4) <| gd (kC h15 v14 = 6) <| bd (f_X6_age v14 (kI h15 301 x0) h15) fun v19 h20 => if (50 : Int32) ≤ v19 then
  (f_X4_notice_139 (f_X4_notice_56 n) x0 x1 x2 x3 x4 v14 (0 : Int32) h20)
  else
  (f_X4_notice_139 (f_X4_notice_56 n) x0 x1 x2 x3 x4 v14 (1 : Int32) h20))))
def f_X4_notice_30  (x0 : Nat) (x1 : Int32) (x2 : Int32) (y0 : Nat) (y1 : Int32) (h : Hp) : Rt Int32 :=
  gd (kC h y0 = 4) <| bd (f_X4_isGood y0 y1 (1 : Int32) h) fun v24 h25 => if v24 = 0 then
  (f_X4_notice_49  h25)
  else
  (gd (kC h25 x0 = 4) <| bd (f_X4_isGood x0 (kI h25 303 x0) (2 : Int32) h25) fun v28 h29 => if v28 = 0 then
  (f_X4_notice_49  h29)
  else
  (f_X4_notice_56 FU x0 x1 x2 (0 : Int32) (0 : Int32) h29))
def f_X4_notice_29  (x0 : Nat) (x1 : Int32) (x2 : Int32) (y0 : Nat) (h : Hp) : Rt Int32 :=
  f_X4_notice_30 x0 x1 x2 y0 (0 : Int32) h
def f_X4_notice  (x0 : Nat) (x1 : Int32) (x2 : Int32) (h : Hp) : Rt Int32 :=
  bd (f_X4_isWithin (x1.toInt64) (0 : Int64) (2 : Int64) h) fun v30 h31 => if v30 = 0 then
  (f_X4_notice_29 x0 x1 x2 x0 h31)
  else
  (bd (f_X4_isWithin (x2.toInt64) (1 : Int64) (1023 : Int64) h31) fun v32 h33 => if v32 = 0 then
  (f_X4_notice_29 x0 x1 x2 x0 h33)
  else
  (f_X4_notice_30 x0 x1 x2 x0 (1 : Int32) h33))
theorem b_X4_notice_49 {rr : (Int32 ⊕ Ex) × Hp}  (C : CX p l R s m args meth c D Hs cX4_notice "MassclaimModel" 7 (some .int) [] 4 64)  : ∀ (h : Hp) (H : Heap) (locs : List Loc) (cells slots : Nat) (ls : Array Slot), HP D Hs h H → LO Hs locs → lv_has ls 7 [] → f_X4_notice_49 h = some rr → W p l e R s m args below meth c H locs cells slots (ZM D Hs iI rr below args s) (F0 m 49 ls []) := by
  obtain ⟨⟨hx, hb, hml, hown, hts⟩, -⟩ := id C
  have hl9 := C.2.1.2.2.1
  intro h H locs cells slots ls hH hL hl hrun
  unfold f_X4_notice_49 at hrun
  refine lv_iconst (v := (0 : Int32)) (pc := 49) hx hb dX4_notice_49 (by decide) ?_
  exact V_iret (pc := 50) C hH hL hrun dX4_notice_50

theorem b_X4_notice_176 {rr : (Int32 ⊕ Ex) × Hp} {k56 : Nat → Int32 → Int32 → Int32 → Int32 → Hp → Rt Int32} (C : CX p l R s m args meth c D Hs cX4_notice "MassclaimModel" 7 (some .int) [] 4 64) (K56 : ∀ (x0 : Nat) (x1 : Int32) (x2 : Int32) (x3 : Int32) (x4 : Int32) (h : Hp) (H : Heap) (locs : List Loc) (cells slots : Nat) (ls : Array Slot), HP D Hs h H → LO Hs locs → lv_has ls 7 [(0, rv x0), (1, .int x1), (2, .int x2), (3, .int x3), (4, .int x4)] → k56 x0 x1 x2 x3 x4 h = some rr → W p l e R s m args below meth c H locs cells slots (ZM D Hs iI rr below args s) (F0 m 56 ls [])) : ∀ (x0 : Nat) (x1 : Int32) (x2 : Int32) (x3 : Int32) (x4 : Int32) (h : Hp) (H : Heap) (locs : List Loc) (cells slots : Nat) (ls : Array Slot), HP D Hs h H → LO Hs locs → lv_has ls 7 [(0, rv x0), (1, .int x1), (2, .int x2), (3, .int x3), (4, .int x4)] → f_X4_notice_176 k56 x0 x1 x2 x3 x4 h = some rr → W p l e R s m args below meth c H locs cells slots (ZM D Hs iI rr below args s) (F0 m 176 ls []) := by
  obtain ⟨⟨hx, hb, hml, hown, hts⟩, -⟩ := id C
  have hl9 := C.2.1.2.2.1
  intro x0 x1 x2 x3 x4 h H locs cells slots ls hH hL hl hrun
  unfold f_X4_notice_176 at hrun
  obtain ⟨v1, ev1⟩ : ∃ y : Int32, y = x4 + (1 : Int32) := ⟨_, rfl⟩
  have hrun := vl_at hrun v1 ev1
  refine lv_iinc (v := v1) (lv' := [(4, .int v1), (0, rv x0), (1, .int x1), (2, .int x2), (3, .int x3)]) (pc := 176) hx hb dX4_notice_176 hl (k := 4) rfl (by rw [ev1]; rfl) (by decide) (by first | rfl | simp [rv_cat, cat_i, cat_l, cat_f, cat_d]) (fun ls hl => ?_)
  refine lv_goto (tgt := 56) (pc := 179) hx hb dX4_notice_179 (by decide) ?_
  exact K56 x0 x1 x2 x3 v1 h H locs cells slots ls hH hL (lv_sub hl [1, 2, 3, 4, 0] rfl) hrun

theorem b_X4_notice_139 {rr : (Int32 ⊕ Ex) × Hp} {k56 : Nat → Int32 → Int32 → Int32 → Int32 → Hp → Rt Int32} (C : CX p l R s m args meth c D Hs cX4_notice "MassclaimModel" 7 (some .int) [] 4 64) (K56 : ∀ (x0 : Nat) (x1 : Int32) (x2 : Int32) (x3 : Int32) (x4 : Int32) (h : Hp) (H : Heap) (locs : List Loc) (cells slots : Nat) (ls : Array Slot), HP D Hs h H → LO Hs locs → lv_has ls 7 [(0, rv x0), (1, .int x1), (2, .int x2), (3, .int x3), (4, .int x4)] → k56 x0 x1 x2 x3 x4 h = some rr → W p l e R s m args below meth c H locs cells slots (ZM D Hs iI rr below args s) (F0 m 56 ls [])) : ∀ (x0 : Nat) (x1 : Int32) (x2 : Int32) (x3 : Int32) (x4 : Int32) (x5 : Nat) (y0 : Int32) (h : Hp) (H : Heap) (locs : List Loc) (cells slots : Nat) (ls : Array Slot), HP D Hs h H → LO Hs locs → lv_has ls 7 [(0, rv x0), (1, .int x1), (2, .int x2), (3, .int x3), (4, .int x4), (5, rv x5)] → f_X4_notice_139 k56 x0 x1 x2 x3 x4 x5 y0 h = some rr → W p l e R s m args below meth c H locs cells slots (ZM D Hs iI rr below args s) (F0 m 139 ls [.int y0]) := by
  obtain ⟨⟨hx, hb, hml, hown, hts⟩, -⟩ := id C
  have hl9 := C.2.1.2.2.1
  intro x0 x1 x2 x3 x4 x5 y0 h H locs cells slots ls hH hL hl hrun
  unfold f_X4_notice_139 at hrun
  refine lv_istore (i := 6) (lv' := [(6, .int y0), (0, rv x0), (1, .int x1), (2, .int x2), (3, .int x3), (4, .int x4), (5, rv x5)]) (pc := 139) hx hb dX4_notice_139 hl (by decide) (by simp [rv_cat, cat_i, cat_l, cat_f, cat_d]) (fun ls hl => ?_)
  refine V_aload_n (pc := 141) hx hb dX4_notice_141 rfl (lv_at hl 1 rfl) ?_
  refine V_aload (pc := 142) hx hb dX4_notice_142 (lv_at hl 6 rfl) ?_
  obtain ⟨c4, hrun⟩ := gd_some hrun
  refine V_bd (pc := 144) C hL rfl hrun (fun rr1 e1 => Z_runV (rest := []) C hH (m_X4_isIn hl9 e1) wV_X4_120 c4 rfl (by decide) rfl rfl ⟨by decide, by decide⟩ rfl (Nat.le_of_ble_eq_true rfl) hl.1 dX4_notice_144) (fun v2 h3 H locs cells slots hH hL hrun => ?_)
  refine lv_if_eq (tgt := 176) (pc := 147) hx hb dX4_notice_147 (by decide) (fun c_ => ?_) (fun c_ => ?_)
  · have hrun := ite_t hrun c_
    exact b_X4_notice_176 C K56 x0 x1 x2 x3 x4 h3 H locs cells slots ls hH hL (lv_sub hl [1, 2, 3, 4, 5] rfl) hrun
  · have hrun := ite_f hrun c_
    refine V_aload (pc := 150) hx hb dX4_notice_150 (lv_at hl 6 rfl) ?_
    obtain ⟨c5, hrun⟩ := gd_some hrun
    refine V_getI (pc := 152) C hH fr_X4_245 dX4_notice_152 c5 rfl ?_
    refine lv_iconst (v := (-1 : Int32)) (pc := 155) hx hb dX4_notice_155 (by decide) ?_
    refine lv_icmp_ne (tgt := 176) (pc := 156) hx hb dX4_notice_156 (by decide) (fun c_ => ?_) (fun c_ => ?_)
    · have hrun := ite_f hrun c_
      exact b_X4_notice_176 C K56 x0 x1 x2 x3 x4 h3 H locs cells slots ls hH hL (lv_sub hl [1, 2, 3, 4, 5] rfl) hrun
    · have hrun := ite_t hrun c_
      refine lv_iload (pc := 159) hx hb dX4_notice_159 (lv_at hl 0 rfl) ?_
      refine lv_if_eq (tgt := 176) (pc := 161) hx hb dX4_notice_161 (by decide) (fun c_ => ?_) (fun c_ => ?_)
      · have hrun := ite_t hrun c_
        exact b_X4_notice_176 C K56 x0 x1 x2 x3 x4 h3 H locs cells slots ls hH hL (lv_sub hl [1, 2, 3, 4, 5] rfl) hrun
      · have hrun := ite_f hrun c_
        refine V_aload (pc := 164) hx hb dX4_notice_164 (lv_at hl 6 rfl) ?_
        refine V_aload_n (pc := 166) hx hb dX4_notice_166 rfl (lv_at hl 1 rfl) ?_
        obtain ⟨c6, hrun⟩ := gd_some hrun
        refine V_getI (pc := 167) C hH fr_X4_43 dX4_notice_167 c6 rfl ?_
        refine V_putI (pc := 170) C hH hL fl_X4_245 dX4_notice_170 c5 (fok_i _) rfl (fun q => Bool.noConfusion q) hrun (fun h7 H locs hH hL hrun => ?_)
        obtain ⟨v8, ev8⟩ : ∃ y : Int32, y = x3 + (1 : Int32) := ⟨_, rfl⟩
        have hrun := vl_at hrun v8 ev8
        refine lv_iinc (v := v8) (lv' := [(3, .int v8), (6, .int y0), (0, rv x0), (1, .int x1), (2, .int x2), (4, .int x4), (5, rv x5)]) (pc := 173) hx hb dX4_notice_173 hl (k := 4) rfl (by rw [ev8]; rfl) (by decide) (by first | rfl | simp [rv_cat, cat_i, cat_l, cat_f, cat_d]) (fun ls hl => ?_)
        exact b_X4_notice_176 C K56 x0 x1 x2 v8 x4 h7 H locs cells slots ls hH hL (lv_sub hl [2, 3, 4, 0, 5] rfl) hrun

theorem b_X4_notice_56 {rr : (Int32 ⊕ Ex) × Hp}  (C : CX p l R s m args meth c D Hs cX4_notice "MassclaimModel" 7 (some .int) [] 4 64)  : ∀ (n : Nat) (x0 : Nat) (x1 : Int32) (x2 : Int32) (x3 : Int32) (x4 : Int32) (h : Hp) (H : Heap) (locs : List Loc) (cells slots : Nat) (ls : Array Slot), HP D Hs h H → LO Hs locs → lv_has ls 7 [(0, rv x0), (1, .int x1), (2, .int x2), (3, .int x3), (4, .int x4)] → f_X4_notice_56 n x0 x1 x2 x3 x4 h = some rr → W p l e R s m args below meth c H locs cells slots (ZM D Hs iI rr below args s) (F0 m 56 ls []) := by
  obtain ⟨⟨hx, hb, hml, hown, hts⟩, -⟩ := id C
  have hl9 := C.2.1.2.2.1
  intro n
  induction n with
  | zero =>
    intro x0 x1 x2 x3 x4 h H locs cells slots ls hH hL hl hrun
    cases (show (none : Option _) = some rr from hrun)
  | succ n ih =>
    intro x0 x1 x2 x3 x4 h H locs cells slots ls hH hL hl hrun
    rw [f_X4_notice_56] at hrun
    refine lv_iload (pc := 56) hx hb dX4_notice_56 (lv_at hl 4 rfl) ?_
    refine V_aload_n (pc := 58) hx hb dX4_notice_58 rfl (lv_at hl 0 rfl) ?_
    obtain ⟨c9, hrun⟩ := gd_some hrun
    refine V_getR (pc := 59) C hH fr_X4_16 dX4_notice_59 c9 rfl ?_
    obtain ⟨c12, hrun⟩ := gd_some hrun
    refine V_bd (pc := 62) C hL rfl hrun (fun rr1 e1 => Z_runV (rest := [.int x4]) C hH (m_J2_size hl9 e1) wV_X4_94 c12 rfl (by decide) rfl rfl ⟨by decide, by decide⟩ rfl (Nat.le_of_ble_eq_true rfl) hl.1 dX4_notice_62) (fun v10 h11 H locs cells slots hH hL hrun => ?_)
    refine lv_icmp_ge (tgt := 182) (pc := 65) hx hb dX4_notice_65 (by decide) (fun c_ => ?_) (fun c_ => ?_)
    · have hrun := ite_t hrun c_
      refine lv_iload_n (pc := 182) hx hb dX4_notice_182 rfl (lv_at hl 3 rfl) ?_
      exact V_iret (pc := 183) C hH hL hrun dX4_notice_183
    · have hrun := ite_f hrun c_
      refine V_aload_n (pc := 68) hx hb dX4_notice_68 rfl (lv_at hl 0 rfl) ?_
      obtain ⟨c13, hrun⟩ := gd_some hrun
      refine V_getR (pc := 69) C hH fr_X4_16 dX4_notice_69 c13 rfl ?_
      refine lv_iload (pc := 72) hx hb dX4_notice_72 (lv_at hl 4 rfl) ?_
      obtain ⟨c16, hrun⟩ := gd_some hrun
      refine V_bd (pc := 74) C hL rfl hrun (fun rr1 e1 => Z_runV (rest := []) C hH (m_J2_get hl9 e1) wV_X4_108 c16 rfl (by decide) rfl rfl ⟨by decide, by decide⟩ rfl (Nat.le_of_ble_eq_true rfl) hl.1 dX4_notice_74) (fun v14 h15 H locs cells slots hH hL hrun => ?_)
      obtain ⟨c17, hrun⟩ := gd_some hrun
      refine V_castX (pc := 77) (ci := 5) C hH rfl (by decide) q1946 dX4_notice_77 c17 ?_
      refine V_astore (i := 5) (lv' := [(5, rv v14), (0, rv x0), (1, .int x1), (2, .int x2), (3, .int x3), (4, .int x4)]) (pc := 80) hx hb dX4_notice_80 hl (by decide) rfl (fun ls hl => ?_)
      refine lv_iload_n (pc := 82) hx hb dX4_notice_82 rfl (lv_at hl 2 rfl) ?_
      refine lv_if_ne (tgt := 94) (pc := 83) hx hb dX4_notice_83 (by decide) (fun c_ => ?_) (fun c_ => ?_)
      · have hrun := ite_f hrun c_
        refine lv_iload_n (pc := 94) hx hb dX4_notice_94 rfl (lv_at hl 2 rfl) ?_
        refine lv_iconst (v := (1 : Int32)) (pc := 95) hx hb dX4_notice_95 (by decide) ?_
        refine lv_icmp_ne (tgt := 120) (pc := 96) hx hb dX4_notice_96 (by decide) (fun c_ => ?_) (fun c_ => ?_)
        · have hrun := ite_f hrun c_
          refine V_aload (pc := 120) hx hb dX4_notice_120 (lv_at hl 0 rfl) ?_
          refine V_aload_n (pc := 122) hx hb dX4_notice_122 rfl (lv_at hl 1 rfl) ?_
          obtain ⟨c18, hrun⟩ := gd_some hrun
          refine V_getI (pc := 123) C hH fr_X4_43 dX4_notice_123 c18 rfl ?_
          obtain ⟨c21, hrun⟩ := gd_some hrun
          refine V_bd (pc := 126) C hL rfl hrun (fun rr1 e1 => Z_runV (rest := []) C hH (m_X6_age hl9 e1) wV_X4_143 c21 rfl (by decide) rfl rfl ⟨by decide, by decide⟩ rfl (Nat.le_of_ble_eq_true rfl) hl.1 dX4_notice_126) (fun v19 h20 H locs cells slots hH hL hrun => ?_)
          refine lv_bipush (v := (50 : Int32)) (pc := 129) hx hb dX4_notice_129 (by decide) ?_
          refine lv_icmp_ge (tgt := 138) (pc := 131) hx hb dX4_notice_131 (by decide) (fun c_ => ?_) (fun c_ => ?_)
          · have hrun := ite_t hrun c_
            refine lv_iconst (v := (0 : Int32)) (pc := 138) hx hb dX4_notice_138 (by decide) ?_
            exact b_X4_notice_139 C ih x0 x1 x2 x3 x4 v14 (0 : Int32) h20 H locs cells slots ls hH hL (lv_sub hl [1, 2, 3, 4, 5, 0] rfl) hrun
          · have hrun := ite_f hrun c_
            refine lv_iconst (v := (1 : Int32)) (pc := 134) hx hb dX4_notice_134 (by decide) ?_
            refine lv_goto (tgt := 139) (pc := 135) hx hb dX4_notice_135 (by decide) ?_
            exact b_X4_notice_139 C ih x0 x1 x2 x3 x4 v14 (1 : Int32) h20 H locs cells slots ls hH hL (lv_sub hl [1, 2, 3, 4, 5, 0] rfl) hrun
        · have hrun := ite_t hrun c_
          refine lv_iload_n (pc := 99) hx hb dX4_notice_99 rfl (lv_at hl 3 rfl) ?_
          refine V_aload (pc := 100) hx hb dX4_notice_100 (lv_at hl 0 rfl) ?_
          obtain ⟨c22, hrun⟩ := gd_some hrun
          refine V_getI (pc := 102) C hH fr_X4_179 dX4_notice_102 c22 rfl ?_
          refine lv_ishr (pc := 105) hx hb dX4_notice_105 ?_
          refine lv_iconst (v := (1 : Int32)) (pc := 106) hx hb dX4_notice_106 (by decide) ?_
          refine lv_iand (pc := 107) hx hb dX4_notice_107 ?_
          refine lv_iconst (v := (1 : Int32)) (pc := 108) hx hb dX4_notice_108 (by decide) ?_
          refine lv_icmp_ne (tgt := 116) (pc := 109) hx hb dX4_notice_109 (by decide) (fun c_ => ?_) (fun c_ => ?_)
          · have hrun := ite_f hrun c_
            refine lv_iconst (v := (0 : Int32)) (pc := 116) hx hb dX4_notice_116 (by decide) ?_
            refine lv_goto (tgt := 139) (pc := 117) hx hb dX4_notice_117 (by decide) ?_
            exact b_X4_notice_139 C ih x0 x1 x2 x3 x4 v14 (0 : Int32) h15 H locs cells slots ls hH hL (lv_sub hl [1, 2, 3, 4, 5, 0] rfl) hrun
          · have hrun := ite_t hrun c_
            refine lv_iconst (v := (1 : Int32)) (pc := 112) hx hb dX4_notice_112 (by decide) ?_
            refine lv_goto (tgt := 139) (pc := 113) hx hb dX4_notice_113 (by decide) ?_
            exact b_X4_notice_139 C ih x0 x1 x2 x3 x4 v14 (1 : Int32) h15 H locs cells slots ls hH hL (lv_sub hl [1, 2, 3, 4, 5, 0] rfl) hrun
      · have hrun := ite_t hrun c_
        refine V_aload (pc := 86) hx hb dX4_notice_86 (lv_at hl 0 rfl) ?_
        obtain ⟨c23, hrun⟩ := gd_some hrun
        refine V_getI (pc := 88) C hH fr_X4_275 dX4_notice_88 c23 rfl ?_
        refine lv_goto (tgt := 139) (pc := 91) hx hb dX4_notice_91 (by decide) ?_
        exact b_X4_notice_139 C ih x0 x1 x2 x3 x4 v14 (kI h15 508 v14) h15 H locs cells slots ls hH hL (lv_sub hl [1, 2, 3, 4, 5, 0] rfl) hrun

theorem b_X4_notice_30 {rr : (Int32 ⊕ Ex) × Hp}  (C : CX p l R s m args meth c D Hs cX4_notice "MassclaimModel" 7 (some .int) [] 4 64)  : ∀ (x0 : Nat) (x1 : Int32) (x2 : Int32) (y0 : Nat) (y1 : Int32) (h : Hp) (H : Heap) (locs : List Loc) (cells slots : Nat) (ls : Array Slot), HP D Hs h H → LO Hs locs → lv_has ls 7 [(0, rv x0), (1, .int x1), (2, .int x2)] → f_X4_notice_30 x0 x1 x2 y0 y1 h = some rr → W p l e R s m args below meth c H locs cells slots (ZM D Hs iI rr below args s) (F0 m 30 ls [.int y1, rv y0]) := by
  obtain ⟨⟨hx, hb, hml, hown, hts⟩, -⟩ := id C
  have hl9 := C.2.1.2.2.1
  intro x0 x1 x2 y0 y1 h H locs cells slots ls hH hL hl hrun
  unfold f_X4_notice_30 at hrun
  refine lv_iconst (v := (1 : Int32)) (pc := 30) hx hb dX4_notice_30 (by decide) ?_
  obtain ⟨c26, hrun⟩ := gd_some hrun
  refine V_bd (pc := 31) C hL rfl hrun (fun rr1 e1 => Z_runV (rest := []) C hH (m_X4_isGood hl9 e1) wV_X4_104 c26 rfl (by decide) rfl rfl ⟨by decide, by decide⟩ rfl (Nat.le_of_ble_eq_true rfl) hl.1 dX4_notice_31) (fun v24 h25 H locs cells slots hH hL hrun => ?_)
  refine lv_if_eq (tgt := 49) (pc := 34) hx hb dX4_notice_34 (by decide) (fun c_ => ?_) (fun c_ => ?_)
  · have hrun := ite_t hrun c_
    exact b_X4_notice_49 C h25 H locs cells slots ls hH hL (lv_sub hl [] rfl) hrun
  · have hrun := ite_f hrun c_
    refine V_aload_n (pc := 37) hx hb dX4_notice_37 rfl (lv_at hl 0 rfl) ?_
    refine V_aload_n (pc := 38) hx hb dX4_notice_38 rfl (lv_at hl 0 rfl) ?_
    obtain ⟨c27, hrun⟩ := gd_some hrun
    refine V_getI (pc := 39) C hH fr_X4_49 dX4_notice_39 c27 rfl ?_
    refine lv_iconst (v := (2 : Int32)) (pc := 42) hx hb dX4_notice_42 (by decide) ?_
    refine V_bd (pc := 43) C hL rfl hrun (fun rr1 e1 => Z_runV (rest := []) C hH (m_X4_isGood hl9 e1) wV_X4_104 c27 rfl (by decide) rfl rfl ⟨by decide, by decide⟩ rfl (Nat.le_of_ble_eq_true rfl) hl.1 dX4_notice_43) (fun v28 h29 H locs cells slots hH hL hrun => ?_)
    refine lv_if_ne (tgt := 51) (pc := 46) hx hb dX4_notice_46 (by decide) (fun c_ => ?_) (fun c_ => ?_)
    · have hrun := ite_f hrun c_
      refine lv_iconst (v := (0 : Int32)) (pc := 51) hx hb dX4_notice_51 (by decide) ?_
      refine lv_istore_n (i := 3) (lv' := [(3, .int (0 : Int32)), (0, rv x0), (1, .int x1), (2, .int x2)]) (pc := 52) hx hb dX4_notice_52 rfl hl (by decide) rfl (fun ls hl => ?_)
      refine lv_iconst (v := (0 : Int32)) (pc := 53) hx hb dX4_notice_53 (by decide) ?_
      refine lv_istore (i := 4) (lv' := [(4, .int (0 : Int32)), (3, .int (0 : Int32)), (0, rv x0), (1, .int x1), (2, .int x2)]) (pc := 54) hx hb dX4_notice_54 hl (by decide) rfl (fun ls hl => ?_)
      exact b_X4_notice_56 C FU x0 x1 x2 (0 : Int32) (0 : Int32) h29 H locs cells slots ls hH hL (lv_sub hl [2, 3, 4, 1, 0] rfl) hrun
    · have hrun := ite_t hrun c_
      exact b_X4_notice_49 C h29 H locs cells slots ls hH hL (lv_sub hl [] rfl) hrun

theorem b_X4_notice_29 {rr : (Int32 ⊕ Ex) × Hp}  (C : CX p l R s m args meth c D Hs cX4_notice "MassclaimModel" 7 (some .int) [] 4 64)  : ∀ (x0 : Nat) (x1 : Int32) (x2 : Int32) (y0 : Nat) (h : Hp) (H : Heap) (locs : List Loc) (cells slots : Nat) (ls : Array Slot), HP D Hs h H → LO Hs locs → lv_has ls 7 [(0, rv x0), (1, .int x1), (2, .int x2)] → f_X4_notice_29 x0 x1 x2 y0 h = some rr → W p l e R s m args below meth c H locs cells slots (ZM D Hs iI rr below args s) (F0 m 29 ls [rv y0]) := by
  obtain ⟨⟨hx, hb, hml, hown, hts⟩, -⟩ := id C
  have hl9 := C.2.1.2.2.1
  intro x0 x1 x2 y0 h H locs cells slots ls hH hL hl hrun
  unfold f_X4_notice_29 at hrun
  refine lv_iconst (v := (0 : Int32)) (pc := 29) hx hb dX4_notice_29 (by decide) ?_
  exact b_X4_notice_30 C x0 x1 x2 y0 (0 : Int32) h H locs cells slots ls hH hL (lv_sub hl [0, 1, 2] rfl) hrun

theorem b_X4_notice {rr : (Int32 ⊕ Ex) × Hp}  (C : CX p l R s m args meth c D Hs cX4_notice "MassclaimModel" 7 (some .int) [] 4 64)  : ∀ (x0 : Nat) (x1 : Int32) (x2 : Int32) (h : Hp) (H : Heap) (locs : List Loc) (cells slots : Nat) (ls : Array Slot), HP D Hs h H → LO Hs locs → lv_has ls 7 [(0, rv x0), (1, .int x1), (2, .int x2)] → f_X4_notice x0 x1 x2 h = some rr → W p l e R s m args below meth c H locs cells slots (ZM D Hs iI rr below args s) (F0 m 0 ls []) := by
  obtain ⟨⟨hx, hb, hml, hown, hts⟩, -⟩ := id C
  have hl9 := C.2.1.2.2.1
  intro x0 x1 x2 h H locs cells slots ls hH hL hl hrun
  unfold f_X4_notice at hrun
  refine V_aload_n (pc := 0) hx hb dX4_notice_0 rfl (lv_at hl 0 rfl) ?_
  refine lv_iload_n (pc := 1) hx hb dX4_notice_1 rfl (lv_at hl 1 rfl) ?_
  refine lv_i2l (pc := 2) hx hb dX4_notice_2 rfl ?_
  refine lv_lconst (v := (0 : Int64)) (pc := 3) hx hb dX4_notice_3 (by decide) ?_
  refine lv_ldc2 (pc := 4) hx hb hown (hts _ q2170) dX4_notice_4 ?_
  refine V_bd (pc := 7) C hL rfl hrun (fun rr1 e1 => Z_runS (rest := [rv x0]) C hH (m_X4_isWithin hl9 e1) wS_X4_100 rfl ⟨by decide, by decide⟩ rfl (by simp [csum, rv_cat, cat_i, cat_l, cat_f, cat_d]) hl.1 dX4_notice_7) (fun v30 h31 H locs cells slots hH hL hrun => ?_)
  refine lv_if_eq (tgt := 29) (pc := 10) hx hb dX4_notice_10 (by decide) (fun c_ => ?_) (fun c_ => ?_)
  · have hrun := ite_t hrun c_
    exact b_X4_notice_29 C x0 x1 x2 x0 h31 H locs cells slots ls hH hL (lv_sub hl [0, 1, 2] rfl) hrun
  · have hrun := ite_f hrun c_
    refine lv_iload_n (pc := 13) hx hb dX4_notice_13 rfl (lv_at hl 2 rfl) ?_
    refine lv_i2l (pc := 14) hx hb dX4_notice_14 rfl ?_
    refine lv_lconst (v := (1 : Int64)) (pc := 15) hx hb dX4_notice_15 (by decide) ?_
    refine lv_ldc2 (pc := 16) hx hb hown (hts _ q2087) dX4_notice_16 ?_
    refine V_bd (pc := 19) C hL rfl hrun (fun rr1 e1 => Z_runS (rest := [rv x0]) C hH (m_X4_isWithin hl9 e1) wS_X4_100 rfl ⟨by decide, by decide⟩ rfl (by simp [csum, rv_cat, cat_i, cat_l, cat_f, cat_d]) hl.1 dX4_notice_19) (fun v32 h33 H locs cells slots hH hL hrun => ?_)
    refine lv_if_eq (tgt := 29) (pc := 22) hx hb dX4_notice_22 (by decide) (fun c_ => ?_) (fun c_ => ?_)
    · have hrun := ite_t hrun c_
      exact b_X4_notice_29 C x0 x1 x2 x0 h33 H locs cells slots ls hH hL (lv_sub hl [0, 1, 2] rfl) hrun
    · have hrun := ite_f hrun c_
      refine lv_iconst (v := (1 : Int32)) (pc := 25) hx hb dX4_notice_25 (by decide) ?_
      refine lv_goto (tgt := 30) (pc := 26) hx hb dX4_notice_26 (by decide) ?_
      exact b_X4_notice_30 C x0 x1 x2 x0 (1 : Int32) h33 H locs cells slots ls hH hL (lv_sub hl [0, 1, 2] rfl) hrun

theorem m_X4_notice {l : Launch} {D : va_G} {Hs : Heap} {h : Hp} {rr : (Int32 ⊕ Ex) × Hp} (hl9 : l.stackTraces = false) {x0 : Nat} {x1 : Int32} {x2 : Int32} (hrun : f_X4_notice x0 x1 x2 h = some rr) : CM l yX4_notice (ws_ yX4_notice cX4_notice 7 (some .int)) 4 64 iI [rv x0, .int x1, .int x2] D Hs h rr := by
  refine CM.of (lv := [(0, rv x0), (1, .int x1), (2, .int x2)]) (plainFor_of_name (by decide)) hl9 (by simp [lv_args, rv_cat, cat_i, cat_l, cat_f, cat_d]) (by simp [lg_sl, rv_cat, cat_i, cat_l, cat_f, cat_d]) ?_
  intro p e R s m args below meth c H ls C hH hl hin
  exact b_X4_notice C x0 x1 x2 _ H [] _ _ ls hH (fun _ q => nomatch q) (lv_sub hl [0, 1, 2] rfl) hrun

/-! Massclaim.address(IZ)Z -/
def f_X1_address  (x0 : Nat) (x1 : Int32) (x2 : Int32) (h : Hp) : Rt Int32 :=
  gd (kC h x0 = 1) <| gd (kC h (kR h 0 x0) = 2) <| bd (f_X2_at (kR h 0 x0) x1 h) fun v2 h3 => gd (v2 = 0 ∨ kC h3 v2 = 5) <| gd (kC h3 v2 = 5) <| vl (kI h3 409 v2) fun v7 => gd (b01 x2) <| vl (sI h3 409 v2 x2) fun h9 => gd (b01 v7) <| some (.inl v7, h9)
theorem b_X1_address {rr : (Int32 ⊕ Ex) × Hp}  (C : CX p l R s m args meth c D Hs cX1_address "Massclaim" 5 (some .boolean) [] 8 131)  : ∀ (x0 : Nat) (x1 : Int32) (x2 : Int32) (h : Hp) (H : Heap) (locs : List Loc) (cells slots : Nat) (ls : Array Slot), HP D Hs h H → LO Hs locs → lv_has ls 5 [(0, rv x0), (1, .int x1), (2, .int x2)] → f_X1_address x0 x1 x2 h = some rr → W p l e R s m args below meth c H locs cells slots (ZM D Hs iI rr below args s) (F0 m 0 ls []) := by
  obtain ⟨⟨hx, hb, hml, hown, hts⟩, -⟩ := id C
  have hl9 := C.2.1.2.2.1
  intro x0 x1 x2 h H locs cells slots ls hH hL hl hrun
  unfold f_X1_address at hrun
  refine V_aload_n (pc := 0) hx hb dX1_address_0 rfl (lv_at hl 0 rfl) ?_
  obtain ⟨c1, hrun⟩ := gd_some hrun
  refine V_getR (pc := 1) C hH fr_X1_42 dX1_address_1 c1 rfl ?_
  refine lv_iload_n (pc := 4) hx hb dX1_address_4 rfl (lv_at hl 1 rfl) ?_
  obtain ⟨c4, hrun⟩ := gd_some hrun
  refine V_bd (pc := 5) C hL rfl hrun (fun rr1 e1 => Z_runV (rest := []) C hH (m_X2_at hl9 e1) wV_X1_136 c4 rfl (by decide) rfl rfl ⟨by decide, by decide⟩ rfl (Nat.le_of_ble_eq_true rfl) hl.1 dX1_address_5) (fun v2 h3 H locs cells slots hH hL hrun => ?_)
  obtain ⟨c5, hrun⟩ := gd_some hrun
  refine V_castX (pc := 8) (ci := 4) C hH rfl (by decide) q376 dX1_address_8 c5 ?_
  refine V_astore_n (i := 3) (lv' := [(3, rv v2), (0, rv x0), (1, .int x1), (2, .int x2)]) (pc := 11) hx hb dX1_address_11 rfl hl (by decide) rfl (fun ls hl => ?_)
  refine V_aload_n (pc := 12) hx hb dX1_address_12 rfl (lv_at hl 0 rfl) ?_
  obtain ⟨c6, hrun⟩ := gd_some hrun
  refine V_getNI (pc := 13) C hH fn_X1_280 dX1_address_13 c6 rfl ?_
  refine lv_topi (fun v7 ev7 => ?_)
  have hrun := vl_at hrun v7 ev7
  refine lv_istore (i := 4) (lv' := [(4, .int v7), (3, rv v2), (0, rv x0), (1, .int x1), (2, .int x2)]) (pc := 16) hx hb dX1_address_16 hl (by decide) (by simp [rv_cat, cat_i, cat_l, cat_f, cat_d]) (fun ls hl => ?_)
  refine V_aload_n (pc := 18) hx hb dX1_address_18 rfl (lv_at hl 1 rfl) ?_
  refine lv_iload_n (pc := 19) hx hb dX1_address_19 rfl (lv_at hl 4 rfl) ?_
  obtain ⟨c8, hrun⟩ := gd_some hrun
  refine V_putNI (pc := 20) C hH hL fn_X1_280 dX1_address_20 c6 (fok_z c8) rfl hrun (fun h9 H locs hH hL hrun => ?_)
  refine lv_iload (pc := 23) hx hb dX1_address_23 (lv_at hl 0 rfl) ?_
  obtain ⟨c10, hrun⟩ := gd_some hrun
  exact V_zret (pc := 25) C hH hL c10 hrun dX1_address_25

theorem m_X1_address {l : Launch} {D : va_G} {Hs : Heap} {h : Hp} {rr : (Int32 ⊕ Ex) × Hp} (hl9 : l.stackTraces = false) {x0 : Nat} {x1 : Int32} {x2 : Int32} (hrun : f_X1_address x0 x1 x2 h = some rr) : CM l yX1_address (ws_ yX1_address cX1_address 5 (some .boolean)) 8 131 iI [rv x0, .int x1, .int x2] D Hs h rr := by
  refine CM.of (lv := [(0, rv x0), (1, .int x1), (2, .int x2)]) (plainFor_of_name (by decide)) hl9 (by simp [lv_args, rv_cat, cat_i, cat_l, cat_f, cat_d]) (by simp [lg_sl, rv_cat, cat_i, cat_l, cat_f, cat_d]) ?_
  intro p e R s m args below meth c H ls C hH hl hin
  exact b_X1_address C x0 x1 x2 _ H [] _ _ ls hH (fun _ q => nomatch q) (lv_sub hl [0, 1, 2] rfl) hrun

/-! MassclaimLaw.address(LMassclaim;IZ[J)I -/
def f_X0_address_20  (y0 : Nat) (h : Hp) : Rt Int32 :=
  some (.inl (1 : Int32), h)
def f_X0_address_16  (y0 : Nat) (y1 : Int32) (y2 : Int64) (h : Hp) : Rt Int32 :=
  gd (kC h y0 = 102 ∧ ixo y1 (kN h y0)) <| vl (tL h y0 (y1).toNatClampNeg y2) fun h2 => some (.inl (0 : Int32), h2)
def f_X0_address  (x0 : Nat) (x1 : Int32) (x2 : Int32) (x3 : Nat) (h : Hp) : Rt Int32 :=
  gd (kC h x0 = 1) <| bdH (f_X1_address x0 x1 x2 h)
  (fun v3 h4 => if v3 = 0 then
  (f_X0_address_16 x3 (0 : Int32) (0 : Int64) h4)
  else
  (f_X0_address_16 x3 (0 : Int32) (1 : Int64) h4))
  (fun ex6 h7 => if ex6.1 = 901 then
  (f_X0_address_20 ex6.2 h7)
  else
  none)
theorem b_X0_address_20 {rr : (Int32 ⊕ Ex) × Hp}  (C : CX p l R s m args meth c D Hs cX0_address "MassclaimLaw" 5 (some .int) [(0, 17, 20, 25)] 9 155)  : ∀ (y0 : Nat) (h : Hp) (H : Heap) (locs : List Loc) (cells slots : Nat) (ls : Array Slot), HP D Hs h H → LO Hs locs → lv_has ls 5 [] → f_X0_address_20 y0 h = some rr → W p l e R s m args below meth c H locs cells slots (ZM D Hs iI rr below args s) (F0 m 20 ls [rv y0]) := by
  obtain ⟨⟨hx, hb, hml, hown, hts⟩, -⟩ := id C
  have hl9 := C.2.1.2.2.1
  intro y0 h H locs cells slots ls hH hL hl hrun
  unfold f_X0_address_20 at hrun
  refine V_astore (i := 4) (lv' := [(4, rv y0)]) (pc := 20) hx hb dX0_address_20 hl (by decide) rfl (fun ls hl => ?_)
  refine lv_iconst (v := (1 : Int32)) (pc := 22) hx hb dX0_address_22 (by decide) ?_
  exact V_iret (pc := 23) C hH hL hrun dX0_address_23

theorem b_X0_address_16 {rr : (Int32 ⊕ Ex) × Hp}  (C : CX p l R s m args meth c D Hs cX0_address "MassclaimLaw" 5 (some .int) [(0, 17, 20, 25)] 9 155)  : ∀ (y0 : Nat) (y1 : Int32) (y2 : Int64) (h : Hp) (H : Heap) (locs : List Loc) (cells slots : Nat) (ls : Array Slot), HP D Hs h H → LO Hs locs → lv_has ls 5 [] → f_X0_address_16 y0 y1 y2 h = some rr → W p l e R s m args below meth c H locs cells slots (ZM D Hs iI rr below args s) (F0 m 16 ls [.long y2, .int y1, rv y0]) := by
  obtain ⟨⟨hx, hb, hml, hown, hts⟩, -⟩ := id C
  have hl9 := C.2.1.2.2.1
  intro y0 y1 y2 h H locs cells slots ls hH hL hl hrun
  unfold f_X0_address_16 at hrun
  obtain ⟨c1, hrun⟩ := gd_some hrun
  refine V_last (pc := 16) C hH hL dX0_address_16 c1 hrun (fun h2 H locs hH hL hrun => ?_)
  refine lv_goto (tgt := 24) (pc := 17) hx hb dX0_address_17 (by decide) ?_
  refine lv_iconst (v := (0 : Int32)) (pc := 24) hx hb dX0_address_24 (by decide) ?_
  exact V_iret (pc := 25) C hH hL hrun dX0_address_25

theorem b_X0_address {rr : (Int32 ⊕ Ex) × Hp}  (C : CX p l R s m args meth c D Hs cX0_address "MassclaimLaw" 5 (some .int) [(0, 17, 20, 25)] 9 155)  : ∀ (x0 : Nat) (x1 : Int32) (x2 : Int32) (x3 : Nat) (h : Hp) (H : Heap) (locs : List Loc) (cells slots : Nat) (ls : Array Slot), HP D Hs h H → LO Hs locs → lv_has ls 5 [(0, rv x0), (1, .int x1), (2, .int x2), (3, rv x3)] → f_X0_address x0 x1 x2 x3 h = some rr → W p l e R s m args below meth c H locs cells slots (ZM D Hs iI rr below args s) (F0 m 0 ls []) := by
  obtain ⟨⟨hx, hb, hml, hown, hts⟩, -⟩ := id C
  have hl9 := C.2.1.2.2.1
  intro x0 x1 x2 x3 h H locs cells slots ls hH hL hl hrun
  unfold f_X0_address at hrun
  refine V_aload_n (pc := 0) hx hb dX0_address_0 rfl (lv_at hl 3 rfl) ?_
  refine lv_iconst (v := (0 : Int32)) (pc := 1) hx hb dX0_address_1 (by decide) ?_
  refine V_aload_n (pc := 2) hx hb dX0_address_2 rfl (lv_at hl 0 rfl) ?_
  refine lv_iload_n (pc := 3) hx hb dX0_address_3 rfl (lv_at hl 1 rfl) ?_
  refine lv_iload_n (pc := 4) hx hb dX0_address_4 rfl (lv_at hl 2 rfl) ?_
  obtain ⟨c5, hrun⟩ := gd_some hrun
  refine V_bdH (pc := 5) hL hrun (fun rr1 e1 => Z_runV (rest := [.int (0 : Int32), rv x3]) C hH (m_X1_address hl9 e1) wV_X0_51 c5 rfl (by decide) rfl rfl ⟨by decide, by decide⟩ rfl (by simp [csum, rv_cat, cat_i, cat_l, cat_f, cat_d]) hl.1 dX0_address_5) (fun v3 h4 H locs cells slots hH hL hrun => ?_) (fun x_ q_ ce_ h7 H locs cells slots hH hL hrun hc_ hv_ hcl_ => ?_)
  · refine lv_if_eq (tgt := 15) (pc := 8) hx hb dX0_address_8 (by decide) (fun c_ => ?_) (fun c_ => ?_)
    · have hrun := ite_t hrun c_
      refine lv_lconst (v := (0 : Int64)) (pc := 15) hx hb dX0_address_15 (by decide) ?_
      exact b_X0_address_16 C x3 (0 : Int32) (0 : Int64) h4 H locs cells slots ls hH hL (lv_sub hl [] rfl) hrun
    · have hrun := ite_f hrun c_
      refine lv_lconst (v := (1 : Int64)) (pc := 11) hx hb dX0_address_11 (by decide) ?_
      refine lv_goto (tgt := 16) (pc := 12) hx hb dX0_address_12 (by decide) ?_
      exact b_X0_address_16 C x3 (0 : Int32) (1 : Int64) h4 H locs cells slots ls hH hL (lv_sub hl [] rfl) hrun
  · by_cases n901 : x_ = 901
    · subst n901
      have hrun := ite_t hrun rfl
      refine vx_catch (E := "java/lang/IndexOutOfBoundsException") (name := "java/lang/IndexOutOfBoundsException") hown (tableOf []) ⟨0, 17, 20, 25⟩ (tableOf []) (by rw [C.2.1.2.2.2.2]; rfl) (fun z hz => nomatch hz) (by decide) (by decide) (hts _ q829) (va_Nw.use rfl (C.2.1.2.2.2.1.2.1 _ q537 rfl)) hc_ hv_ hcl_ ?_
      exact b_X0_address_20 C (q_ + 1) h7 H locs cells slots ls hH hL (lv_sub hl [] rfl) hrun
    have hrun := ite_f hrun n901
    cases hrun

theorem m_X0_address {l : Launch} {D : va_G} {Hs : Heap} {h : Hp} {rr : (Int32 ⊕ Ex) × Hp} (hl9 : l.stackTraces = false) {x0 : Nat} {x1 : Int32} {x2 : Int32} {x3 : Nat} (hrun : f_X0_address x0 x1 x2 x3 h = some rr) : CM l yX0_address (wsW_ yX0_address cX0_address 5 (some .int) [(0, 17, 20, 25)]) 9 155 iI [rv x0, .int x1, .int x2, rv x3] D Hs h rr := by
  refine CM.ofH (lv := [(0, rv x0), (1, .int x1), (2, .int x2), (3, rv x3)]) (plainFor_of_name (by decide)) hl9 (by simp [lv_args, rv_cat, cat_i, cat_l, cat_f, cat_d]) (by simp [lg_sl, rv_cat, cat_i, cat_l, cat_f, cat_d]) ?_
  intro p e R s m args below meth c H ls C hH hl hin
  exact b_X0_address C x0 x1 x2 x3 _ H [] _ _ ls hH (fun _ q => nomatch q) (lv_sub hl [0, 1, 2, 3] rfl) hrun

/-! MassclaimModel.address(IZ)Z -/
def f_X4_address  (x0 : Nat) (x1 : Int32) (x2 : Int32) (h : Hp) : Rt Int32 :=
  gd (kC h x0 = 4) <| bd (f_X4_isPerson x0 x1 h) fun v1 h2 => gd (kC h2 x0 = 4) <| bd (f_X4_isGood x0 v1 (1 : Int32) h2) fun v4 h5 => if v4 = 0 then
  (some (.inl (0 : Int32), h5))
  else
  (gd (kC h5 x0 = 4) <| gd (kC h5 (kR h5 302 x0) = 18) <| bd (f_J2_get (kR h5 302 x0) x1 h5) fun v8 h9 => gd (v8 = 0 ∨ kC h9 v8 = 6) <| gd (kC h9 v8 = 6) <| vl (kI h9 508 v8) fun v13 => gd (kC h9 x0 = 4) <| gd (kC h9 (kR h9 302 x0) = 18) <| bd (f_J2_get (kR h9 302 x0) x1 h9) fun v15 h16 => gd (v15 = 0 ∨ kC h16 v15 = 6) <| gd (kC h16 v15 = 6) <| gd (b01 x2) <| vl (sI h16 508 v15 x2) fun h21 => gd (b01 v13) <| some (.inl v13, h21))
theorem b_X4_address {rr : (Int32 ⊕ Ex) × Hp}  (C : CX p l R s m args meth c D Hs cX4_address "MassclaimModel" 4 (some .boolean) [] 4 64)  : ∀ (x0 : Nat) (x1 : Int32) (x2 : Int32) (h : Hp) (H : Heap) (locs : List Loc) (cells slots : Nat) (ls : Array Slot), HP D Hs h H → LO Hs locs → lv_has ls 4 [(0, rv x0), (1, .int x1), (2, .int x2)] → f_X4_address x0 x1 x2 h = some rr → W p l e R s m args below meth c H locs cells slots (ZM D Hs iI rr below args s) (F0 m 0 ls []) := by
  obtain ⟨⟨hx, hb, hml, hown, hts⟩, -⟩ := id C
  have hl9 := C.2.1.2.2.1
  intro x0 x1 x2 h H locs cells slots ls hH hL hl hrun
  unfold f_X4_address at hrun
  refine V_aload_n (pc := 0) hx hb dX4_address_0 rfl (lv_at hl 0 rfl) ?_
  refine V_aload_n (pc := 1) hx hb dX4_address_1 rfl (lv_at hl 0 rfl) ?_
  refine lv_iload_n (pc := 2) hx hb dX4_address_2 rfl (lv_at hl 1 rfl) ?_
  obtain ⟨c3, hrun⟩ := gd_some hrun
  refine V_bd (pc := 3) C hL rfl hrun (fun rr1 e1 => Z_runV (rest := [rv x0]) C hH (m_X4_isPerson hl9 e1) wV_X4_190 c3 rfl (by decide) rfl rfl ⟨by decide, by decide⟩ rfl (by simp [csum, rv_cat, cat_i, cat_l, cat_f, cat_d]) hl.1 dX4_address_3) (fun v1 h2 H locs cells slots hH hL hrun => ?_)
  refine lv_iconst (v := (1 : Int32)) (pc := 6) hx hb dX4_address_6 (by decide) ?_
  obtain ⟨c6, hrun⟩ := gd_some hrun
  refine V_bd (pc := 7) C hL rfl hrun (fun rr1 e1 => Z_runV (rest := []) C hH (m_X4_isGood hl9 e1) wV_X4_104 c6 rfl (by decide) rfl rfl ⟨by decide, by decide⟩ rfl (Nat.le_of_ble_eq_true rfl) hl.1 dX4_address_7) (fun v4 h5 H locs cells slots hH hL hrun => ?_)
  refine lv_if_ne (tgt := 15) (pc := 10) hx hb dX4_address_10 (by decide) (fun c_ => ?_) (fun c_ => ?_)
  · have hrun := ite_f hrun c_
    refine V_aload_n (pc := 15) hx hb dX4_address_15 rfl (lv_at hl 0 rfl) ?_
    obtain ⟨c7, hrun⟩ := gd_some hrun
    refine V_getR (pc := 16) C hH fr_X4_16 dX4_address_16 c7 rfl ?_
    refine lv_iload_n (pc := 19) hx hb dX4_address_19 rfl (lv_at hl 1 rfl) ?_
    obtain ⟨c10, hrun⟩ := gd_some hrun
    refine V_bd (pc := 20) C hL rfl hrun (fun rr1 e1 => Z_runV (rest := []) C hH (m_J2_get hl9 e1) wV_X4_108 c10 rfl (by decide) rfl rfl ⟨by decide, by decide⟩ rfl (Nat.le_of_ble_eq_true rfl) hl.1 dX4_address_20) (fun v8 h9 H locs cells slots hH hL hrun => ?_)
    obtain ⟨c11, hrun⟩ := gd_some hrun
    refine V_castX (pc := 23) (ci := 5) C hH rfl (by decide) q1946 dX4_address_23 c11 ?_
    obtain ⟨c12, hrun⟩ := gd_some hrun
    refine V_getI (pc := 26) C hH fr_X4_275 dX4_address_26 c12 rfl ?_
    refine lv_topi (fun v13 ev13 => ?_)
    have hrun := vl_at hrun v13 ev13
    refine lv_istore_n (i := 3) (lv' := [(3, .int v13), (0, rv x0), (1, .int x1), (2, .int x2)]) (pc := 29) hx hb dX4_address_29 rfl hl (by decide) rfl (fun ls hl => ?_)
    refine V_aload_n (pc := 30) hx hb dX4_address_30 rfl (lv_at hl 1 rfl) ?_
    obtain ⟨c14, hrun⟩ := gd_some hrun
    refine V_getR (pc := 31) C hH fr_X4_16 dX4_address_31 c14 rfl ?_
    refine lv_iload_n (pc := 34) hx hb dX4_address_34 rfl (lv_at hl 2 rfl) ?_
    obtain ⟨c17, hrun⟩ := gd_some hrun
    refine V_bd (pc := 35) C hL rfl hrun (fun rr1 e1 => Z_runV (rest := []) C hH (m_J2_get hl9 e1) wV_X4_108 c17 rfl (by decide) rfl rfl ⟨by decide, by decide⟩ rfl (Nat.le_of_ble_eq_true rfl) hl.1 dX4_address_35) (fun v15 h16 H locs cells slots hH hL hrun => ?_)
    obtain ⟨c18, hrun⟩ := gd_some hrun
    refine V_castX (pc := 38) (ci := 5) C hH rfl (by decide) q1946 dX4_address_38 c18 ?_
    refine lv_iload_n (pc := 41) hx hb dX4_address_41 rfl (lv_at hl 3 rfl) ?_
    obtain ⟨c19, hrun⟩ := gd_some hrun
    obtain ⟨c20, hrun⟩ := gd_some hrun
    refine V_putI (pc := 42) C hH hL fl_X4_275 dX4_address_42 c19 (fok_z c20) rfl (fun q => Bool.noConfusion q) hrun (fun h21 H locs hH hL hrun => ?_)
    refine lv_iload_n (pc := 45) hx hb dX4_address_45 rfl (lv_at hl 0 rfl) ?_
    obtain ⟨c22, hrun⟩ := gd_some hrun
    exact V_zret (pc := 46) C hH hL c22 hrun dX4_address_46
  · have hrun := ite_t hrun c_
    refine lv_iconst (v := (0 : Int32)) (pc := 13) hx hb dX4_address_13 (by decide) ?_
    exact V_zret (pc := 14) C hH hL (Or.inl rfl) hrun dX4_address_14

theorem m_X4_address {l : Launch} {D : va_G} {Hs : Heap} {h : Hp} {rr : (Int32 ⊕ Ex) × Hp} (hl9 : l.stackTraces = false) {x0 : Nat} {x1 : Int32} {x2 : Int32} (hrun : f_X4_address x0 x1 x2 h = some rr) : CM l yX4_address (ws_ yX4_address cX4_address 4 (some .boolean)) 4 64 iI [rv x0, .int x1, .int x2] D Hs h rr := by
  refine CM.of (lv := [(0, rv x0), (1, .int x1), (2, .int x2)]) (plainFor_of_name (by decide)) hl9 (by simp [lv_args, rv_cat, cat_i, cat_l, cat_f, cat_d]) (by simp [lg_sl, rv_cat, cat_i, cat_l, cat_f, cat_d]) ?_
  intro p e R s m args below meth c H ls C hH hl hin
  exact b_X4_address C x0 x1 x2 _ H [] _ _ ls hH (fun _ q => nomatch q) (lv_sub hl [0, 1, 2] rfl) hrun

/-! Massclaim.optOut(IZ)Z -/
def f_X1_optOut_82  (x4 : Int32) (y0 : Nat) (y1 : Int32) (h : Hp) : Rt Int32 :=
  gd (kC h y0 = 5) <| gd (b01 y1) <| vl (sI h 408 y0 y1) fun h3 => gd (b01 x4) <| some (.inl x4, h3)
def f_X1_optOut_77  (x4 : Int32) (y0 : Nat) (h : Hp) : Rt Int32 :=
  f_X1_optOut_82 x4 y0 (1 : Int32) h
def f_X1_optOut_62  (x3 : Nat) (y0 : Int32) (h : Hp) : Rt Int32 :=
  gd (kC h x3 = 5) <| if (kI h 408 x3) = 0 then
  (if y0 = 0 then
  (f_X1_optOut_82 y0 x3 (0 : Int32) h)
  else
  (f_X1_optOut_77 y0 x3 h))
  else
  (f_X1_optOut_77 y0 x3 h)
def f_X1_optOut_61  (x3 : Nat) (h : Hp) : Rt Int32 :=
  f_X1_optOut_62 x3 (0 : Int32) h
def f_X1_optOut_47  (x0 : Nat) (x3 : Nat) (y0 : Int32) (y1 : Int32) (h : Hp) : Rt Int32 :=
  if y1 < y0 then
  (f_X1_optOut_61 x3 h)
  else
  (gd (kC h x0 = 1) <| bd (f_X1_isDone x0 h) fun v6 h7 => if v6 = 0 then
  (f_X1_optOut_62 x3 (1 : Int32) h7)
  else
  (f_X1_optOut_61 x3 h7))
def f_X1_optOut  (x0 : Nat) (x1 : Int32) (x2 : Int32) (h : Hp) : Rt Int32 :=
  gd (kC h x0 = 1) <| gd (kC h (kR h 0 x0) = 2) <| bd (f_X2_at (kR h 0 x0) x1 h) fun v10 h11 => gd (v10 = 0 ∨ kC h11 v10 = 5) <| gd (kC h11 v10 = 5) <| bd (f_X5_isMember v10 h11) fun v14 h15 => if v14 = 0 then
  (f_X1_optOut_61 v10 h15)
  else
  (gd (kC h15 v10 = 5) <| if (kI h15 410 v10) = (-1 : Int32) then
  (f_X1_optOut_61 v10 h15)
  else
  (gd (kC h15 x0 = 1) <| if x2 = 0 then
  (f_X1_optOut_47 x0 v10 ((kI h15 18 x0) - (kI h15 410 v10)) (60 : Int32) h15)
  else
  (f_X1_optOut_47 x0 v10 ((kI h15 18 x0) - (kI h15 410 v10)) (90 : Int32) h15)))
theorem b_X1_optOut_82 {rr : (Int32 ⊕ Ex) × Hp}  (C : CX p l R s m args meth c D Hs cX1_optOut "Massclaim" 5 (some .boolean) [] 8 131)  : ∀ (x4 : Int32) (y0 : Nat) (y1 : Int32) (h : Hp) (H : Heap) (locs : List Loc) (cells slots : Nat) (ls : Array Slot), HP D Hs h H → LO Hs locs → lv_has ls 5 [(4, .int x4)] → f_X1_optOut_82 x4 y0 y1 h = some rr → W p l e R s m args below meth c H locs cells slots (ZM D Hs iI rr below args s) (F0 m 82 ls [.int y1, rv y0]) := by
  obtain ⟨⟨hx, hb, hml, hown, hts⟩, -⟩ := id C
  have hl9 := C.2.1.2.2.1
  intro x4 y0 y1 h H locs cells slots ls hH hL hl hrun
  unfold f_X1_optOut_82 at hrun
  obtain ⟨c1, hrun⟩ := gd_some hrun
  obtain ⟨c2, hrun⟩ := gd_some hrun
  refine V_putNI (pc := 82) C hH hL fn_X1_260 dX1_optOut_82 c1 (fok_z c2) rfl hrun (fun h3 H locs hH hL hrun => ?_)
  refine lv_iload (pc := 85) hx hb dX1_optOut_85 (lv_at hl 0 rfl) ?_
  obtain ⟨c4, hrun⟩ := gd_some hrun
  exact V_zret (pc := 87) C hH hL c4 hrun dX1_optOut_87

theorem b_X1_optOut_77 {rr : (Int32 ⊕ Ex) × Hp}  (C : CX p l R s m args meth c D Hs cX1_optOut "Massclaim" 5 (some .boolean) [] 8 131)  : ∀ (x4 : Int32) (y0 : Nat) (h : Hp) (H : Heap) (locs : List Loc) (cells slots : Nat) (ls : Array Slot), HP D Hs h H → LO Hs locs → lv_has ls 5 [(4, .int x4)] → f_X1_optOut_77 x4 y0 h = some rr → W p l e R s m args below meth c H locs cells slots (ZM D Hs iI rr below args s) (F0 m 77 ls [rv y0]) := by
  obtain ⟨⟨hx, hb, hml, hown, hts⟩, -⟩ := id C
  have hl9 := C.2.1.2.2.1
  intro x4 y0 h H locs cells slots ls hH hL hl hrun
  unfold f_X1_optOut_77 at hrun
  refine lv_iconst (v := (1 : Int32)) (pc := 77) hx hb dX1_optOut_77 (by decide) ?_
  refine lv_goto (tgt := 82) (pc := 78) hx hb dX1_optOut_78 (by decide) ?_
  exact b_X1_optOut_82 C x4 y0 (1 : Int32) h H locs cells slots ls hH hL (lv_sub hl [0] rfl) hrun

theorem b_X1_optOut_62 {rr : (Int32 ⊕ Ex) × Hp}  (C : CX p l R s m args meth c D Hs cX1_optOut "Massclaim" 5 (some .boolean) [] 8 131)  : ∀ (x3 : Nat) (y0 : Int32) (h : Hp) (H : Heap) (locs : List Loc) (cells slots : Nat) (ls : Array Slot), HP D Hs h H → LO Hs locs → lv_has ls 5 [(3, rv x3)] → f_X1_optOut_62 x3 y0 h = some rr → W p l e R s m args below meth c H locs cells slots (ZM D Hs iI rr below args s) (F0 m 62 ls [.int y0]) := by
  obtain ⟨⟨hx, hb, hml, hown, hts⟩, -⟩ := id C
  have hl9 := C.2.1.2.2.1
  intro x3 y0 h H locs cells slots ls hH hL hl hrun
  unfold f_X1_optOut_62 at hrun
  refine lv_istore (i := 4) (lv' := [(4, .int y0), (3, rv x3)]) (pc := 62) hx hb dX1_optOut_62 hl (by decide) (by simp [rv_cat, cat_i, cat_l, cat_f, cat_d]) (fun ls hl => ?_)
  refine V_aload_n (pc := 64) hx hb dX1_optOut_64 rfl (lv_at hl 1 rfl) ?_
  refine V_aload_n (pc := 65) hx hb dX1_optOut_65 rfl (lv_at hl 1 rfl) ?_
  obtain ⟨c5, hrun⟩ := gd_some hrun
  refine V_getNI (pc := 66) C hH fn_X1_260 dX1_optOut_66 c5 rfl ?_
  refine lv_if_ne (tgt := 77) (pc := 69) hx hb dX1_optOut_69 (by decide) (fun c_ => ?_) (fun c_ => ?_)
  · have hrun := ite_f hrun c_
    exact b_X1_optOut_77 C y0 x3 h H locs cells slots ls hH hL (lv_sub hl [0] rfl) hrun
  · have hrun := ite_t hrun c_
    refine lv_iload (pc := 72) hx hb dX1_optOut_72 (lv_at hl 0 rfl) ?_
    refine lv_if_eq (tgt := 81) (pc := 74) hx hb dX1_optOut_74 (by decide) (fun c_ => ?_) (fun c_ => ?_)
    · have hrun := ite_t hrun c_
      refine lv_iconst (v := (0 : Int32)) (pc := 81) hx hb dX1_optOut_81 (by decide) ?_
      exact b_X1_optOut_82 C y0 x3 (0 : Int32) h H locs cells slots ls hH hL (lv_sub hl [0] rfl) hrun
    · have hrun := ite_f hrun c_
      exact b_X1_optOut_77 C y0 x3 h H locs cells slots ls hH hL (lv_sub hl [0] rfl) hrun

theorem b_X1_optOut_61 {rr : (Int32 ⊕ Ex) × Hp}  (C : CX p l R s m args meth c D Hs cX1_optOut "Massclaim" 5 (some .boolean) [] 8 131)  : ∀ (x3 : Nat) (h : Hp) (H : Heap) (locs : List Loc) (cells slots : Nat) (ls : Array Slot), HP D Hs h H → LO Hs locs → lv_has ls 5 [(3, rv x3)] → f_X1_optOut_61 x3 h = some rr → W p l e R s m args below meth c H locs cells slots (ZM D Hs iI rr below args s) (F0 m 61 ls []) := by
  obtain ⟨⟨hx, hb, hml, hown, hts⟩, -⟩ := id C
  have hl9 := C.2.1.2.2.1
  intro x3 h H locs cells slots ls hH hL hl hrun
  unfold f_X1_optOut_61 at hrun
  refine lv_iconst (v := (0 : Int32)) (pc := 61) hx hb dX1_optOut_61 (by decide) ?_
  exact b_X1_optOut_62 C x3 (0 : Int32) h H locs cells slots ls hH hL (lv_sub hl [0] rfl) hrun

theorem b_X1_optOut_47 {rr : (Int32 ⊕ Ex) × Hp}  (C : CX p l R s m args meth c D Hs cX1_optOut "Massclaim" 5 (some .boolean) [] 8 131)  : ∀ (x0 : Nat) (x3 : Nat) (y0 : Int32) (y1 : Int32) (h : Hp) (H : Heap) (locs : List Loc) (cells slots : Nat) (ls : Array Slot), HP D Hs h H → LO Hs locs → lv_has ls 5 [(0, rv x0), (3, rv x3)] → f_X1_optOut_47 x0 x3 y0 y1 h = some rr → W p l e R s m args below meth c H locs cells slots (ZM D Hs iI rr below args s) (F0 m 47 ls [.int y1, .int y0]) := by
  obtain ⟨⟨hx, hb, hml, hown, hts⟩, -⟩ := id C
  have hl9 := C.2.1.2.2.1
  intro x0 x3 y0 y1 h H locs cells slots ls hH hL hl hrun
  unfold f_X1_optOut_47 at hrun
  refine lv_icmp_gt (tgt := 61) (pc := 47) hx hb dX1_optOut_47 (by decide) (fun c_ => ?_) (fun c_ => ?_)
  · have hrun := ite_t hrun c_
    exact b_X1_optOut_61 C x3 h H locs cells slots ls hH hL (lv_sub hl [1] rfl) hrun
  · have hrun := ite_f hrun c_
    refine V_aload_n (pc := 50) hx hb dX1_optOut_50 rfl (lv_at hl 0 rfl) ?_
    obtain ⟨c8, hrun⟩ := gd_some hrun
    refine V_bd (pc := 51) C hL rfl hrun (fun rr1 e1 => Z_runV (rest := []) C hH (m_X1_isDone hl9 e1) wV_X1_225 c8 rfl (by decide) rfl rfl ⟨by decide, by decide⟩ rfl (Nat.le_of_ble_eq_true rfl) hl.1 dX1_optOut_51) (fun v6 h7 H locs cells slots hH hL hrun => ?_)
    refine lv_if_ne (tgt := 61) (pc := 54) hx hb dX1_optOut_54 (by decide) (fun c_ => ?_) (fun c_ => ?_)
    · have hrun := ite_f hrun c_
      exact b_X1_optOut_61 C x3 h7 H locs cells slots ls hH hL (lv_sub hl [1] rfl) hrun
    · have hrun := ite_t hrun c_
      refine lv_iconst (v := (1 : Int32)) (pc := 57) hx hb dX1_optOut_57 (by decide) ?_
      refine lv_goto (tgt := 62) (pc := 58) hx hb dX1_optOut_58 (by decide) ?_
      exact b_X1_optOut_62 C x3 (1 : Int32) h7 H locs cells slots ls hH hL (lv_sub hl [1] rfl) hrun

theorem b_X1_optOut {rr : (Int32 ⊕ Ex) × Hp}  (C : CX p l R s m args meth c D Hs cX1_optOut "Massclaim" 5 (some .boolean) [] 8 131)  : ∀ (x0 : Nat) (x1 : Int32) (x2 : Int32) (h : Hp) (H : Heap) (locs : List Loc) (cells slots : Nat) (ls : Array Slot), HP D Hs h H → LO Hs locs → lv_has ls 5 [(0, rv x0), (1, .int x1), (2, .int x2)] → f_X1_optOut x0 x1 x2 h = some rr → W p l e R s m args below meth c H locs cells slots (ZM D Hs iI rr below args s) (F0 m 0 ls []) := by
  obtain ⟨⟨hx, hb, hml, hown, hts⟩, -⟩ := id C
  have hl9 := C.2.1.2.2.1
  intro x0 x1 x2 h H locs cells slots ls hH hL hl hrun
  unfold f_X1_optOut at hrun
  refine V_aload_n (pc := 0) hx hb dX1_optOut_0 rfl (lv_at hl 0 rfl) ?_
  obtain ⟨c9, hrun⟩ := gd_some hrun
  refine V_getR (pc := 1) C hH fr_X1_42 dX1_optOut_1 c9 rfl ?_
  refine lv_iload_n (pc := 4) hx hb dX1_optOut_4 rfl (lv_at hl 1 rfl) ?_
  obtain ⟨c12, hrun⟩ := gd_some hrun
  refine V_bd (pc := 5) C hL rfl hrun (fun rr1 e1 => Z_runV (rest := []) C hH (m_X2_at hl9 e1) wV_X1_136 c12 rfl (by decide) rfl rfl ⟨by decide, by decide⟩ rfl (Nat.le_of_ble_eq_true rfl) hl.1 dX1_optOut_5) (fun v10 h11 H locs cells slots hH hL hrun => ?_)
  obtain ⟨c13, hrun⟩ := gd_some hrun
  refine V_castX (pc := 8) (ci := 4) C hH rfl (by decide) q376 dX1_optOut_8 c13 ?_
  refine V_astore_n (i := 3) (lv' := [(3, rv v10), (0, rv x0), (1, .int x1), (2, .int x2)]) (pc := 11) hx hb dX1_optOut_11 rfl hl (by decide) rfl (fun ls hl => ?_)
  refine V_aload_n (pc := 12) hx hb dX1_optOut_12 rfl (lv_at hl 0 rfl) ?_
  obtain ⟨c16, hrun⟩ := gd_some hrun
  refine V_bd (pc := 13) C hL rfl hrun (fun rr1 e1 => Z_runV (rest := []) C hH (m_X5_isMember hl9 e1) wV_X1_148 c16 rfl (by decide) rfl rfl ⟨by decide, by decide⟩ rfl (Nat.le_of_ble_eq_true rfl) hl.1 dX1_optOut_13) (fun v14 h15 H locs cells slots hH hL hrun => ?_)
  refine lv_if_eq (tgt := 61) (pc := 16) hx hb dX1_optOut_16 (by decide) (fun c_ => ?_) (fun c_ => ?_)
  · have hrun := ite_t hrun c_
    exact b_X1_optOut_61 C v10 h15 H locs cells slots ls hH hL (lv_sub hl [0] rfl) hrun
  · have hrun := ite_f hrun c_
    refine V_aload_n (pc := 19) hx hb dX1_optOut_19 rfl (lv_at hl 0 rfl) ?_
    obtain ⟨c17, hrun⟩ := gd_some hrun
    refine V_getNI (pc := 20) C hH fn_X1_248 dX1_optOut_20 c17 rfl ?_
    refine lv_iconst (v := (-1 : Int32)) (pc := 23) hx hb dX1_optOut_23 (by decide) ?_
    refine lv_icmp_eq (tgt := 61) (pc := 24) hx hb dX1_optOut_24 (by decide) (fun c_ => ?_) (fun c_ => ?_)
    · have hrun := ite_t hrun c_
      exact b_X1_optOut_61 C v10 h15 H locs cells slots ls hH hL (lv_sub hl [0] rfl) hrun
    · have hrun := ite_f hrun c_
      refine V_aload_n (pc := 27) hx hb dX1_optOut_27 rfl (lv_at hl 1 rfl) ?_
      obtain ⟨c18, hrun⟩ := gd_some hrun
      refine V_getI (pc := 28) C hH fr_X1_115 dX1_optOut_28 c18 rfl ?_
      refine V_aload_n (pc := 31) hx hb dX1_optOut_31 rfl (lv_at hl 0 rfl) ?_
      refine V_getNI (pc := 32) C hH fn_X1_248 dX1_optOut_32 c17 rfl ?_
      refine lv_isub (pc := 35) hx hb dX1_optOut_35 ?_
      refine lv_iload_n (pc := 36) hx hb dX1_optOut_36 rfl (lv_at hl 3 rfl) ?_
      refine lv_if_eq (tgt := 45) (pc := 37) hx hb dX1_optOut_37 (by decide) (fun c_ => ?_) (fun c_ => ?_)
      · have hrun := ite_t hrun c_
        refine lv_bipush (v := (60 : Int32)) (pc := 45) hx hb dX1_optOut_45 (by decide) ?_
        exact b_X1_optOut_47 C x0 v10 ((kI h15 18 x0) - (kI h15 410 v10)) (60 : Int32) h15 H locs cells slots ls hH hL (lv_sub hl [1, 0] rfl) hrun
      · have hrun := ite_f hrun c_
        refine lv_bipush (v := (90 : Int32)) (pc := 40) hx hb dX1_optOut_40 (by decide) ?_
        refine lv_goto (tgt := 47) (pc := 42) hx hb dX1_optOut_42 (by decide) ?_
        exact b_X1_optOut_47 C x0 v10 ((kI h15 18 x0) - (kI h15 410 v10)) (90 : Int32) h15 H locs cells slots ls hH hL (lv_sub hl [1, 0] rfl) hrun

theorem m_X1_optOut {l : Launch} {D : va_G} {Hs : Heap} {h : Hp} {rr : (Int32 ⊕ Ex) × Hp} (hl9 : l.stackTraces = false) {x0 : Nat} {x1 : Int32} {x2 : Int32} (hrun : f_X1_optOut x0 x1 x2 h = some rr) : CM l yX1_optOut (ws_ yX1_optOut cX1_optOut 5 (some .boolean)) 8 131 iI [rv x0, .int x1, .int x2] D Hs h rr := by
  refine CM.of (lv := [(0, rv x0), (1, .int x1), (2, .int x2)]) (plainFor_of_name (by decide)) hl9 (by simp [lv_args, rv_cat, cat_i, cat_l, cat_f, cat_d]) (by simp [lg_sl, rv_cat, cat_i, cat_l, cat_f, cat_d]) ?_
  intro p e R s m args below meth c H ls C hH hl hin
  exact b_X1_optOut C x0 x1 x2 _ H [] _ _ ls hH (fun _ q => nomatch q) (lv_sub hl [0, 1, 2] rfl) hrun

/-! MassclaimLaw.optOut(LMassclaim;IZ[J)I -/
def f_X0_optOut_20  (y0 : Nat) (h : Hp) : Rt Int32 :=
  some (.inl (1 : Int32), h)
def f_X0_optOut_16  (y0 : Nat) (y1 : Int32) (y2 : Int64) (h : Hp) : Rt Int32 :=
  gd (kC h y0 = 102 ∧ ixo y1 (kN h y0)) <| vl (tL h y0 (y1).toNatClampNeg y2) fun h2 => some (.inl (0 : Int32), h2)
def f_X0_optOut  (x0 : Nat) (x1 : Int32) (x2 : Int32) (x3 : Nat) (h : Hp) : Rt Int32 :=
  gd (kC h x0 = 1) <| bdH (f_X1_optOut x0 x1 x2 h)
  (fun v3 h4 => if v3 = 0 then
  (f_X0_optOut_16 x3 (0 : Int32) (0 : Int64) h4)
  else
  (f_X0_optOut_16 x3 (0 : Int32) (1 : Int64) h4))
  (fun ex6 h7 => if ex6.1 = 901 then
  (f_X0_optOut_20 ex6.2 h7)
  else
  none)
theorem b_X0_optOut_20 {rr : (Int32 ⊕ Ex) × Hp}  (C : CX p l R s m args meth c D Hs cX0_optOut "MassclaimLaw" 5 (some .int) [(0, 17, 20, 25)] 9 155)  : ∀ (y0 : Nat) (h : Hp) (H : Heap) (locs : List Loc) (cells slots : Nat) (ls : Array Slot), HP D Hs h H → LO Hs locs → lv_has ls 5 [] → f_X0_optOut_20 y0 h = some rr → W p l e R s m args below meth c H locs cells slots (ZM D Hs iI rr below args s) (F0 m 20 ls [rv y0]) := by
  obtain ⟨⟨hx, hb, hml, hown, hts⟩, -⟩ := id C
  have hl9 := C.2.1.2.2.1
  intro y0 h H locs cells slots ls hH hL hl hrun
  unfold f_X0_optOut_20 at hrun
  refine V_astore (i := 4) (lv' := [(4, rv y0)]) (pc := 20) hx hb dX0_optOut_20 hl (by decide) rfl (fun ls hl => ?_)
  refine lv_iconst (v := (1 : Int32)) (pc := 22) hx hb dX0_optOut_22 (by decide) ?_
  exact V_iret (pc := 23) C hH hL hrun dX0_optOut_23

theorem b_X0_optOut_16 {rr : (Int32 ⊕ Ex) × Hp}  (C : CX p l R s m args meth c D Hs cX0_optOut "MassclaimLaw" 5 (some .int) [(0, 17, 20, 25)] 9 155)  : ∀ (y0 : Nat) (y1 : Int32) (y2 : Int64) (h : Hp) (H : Heap) (locs : List Loc) (cells slots : Nat) (ls : Array Slot), HP D Hs h H → LO Hs locs → lv_has ls 5 [] → f_X0_optOut_16 y0 y1 y2 h = some rr → W p l e R s m args below meth c H locs cells slots (ZM D Hs iI rr below args s) (F0 m 16 ls [.long y2, .int y1, rv y0]) := by
  obtain ⟨⟨hx, hb, hml, hown, hts⟩, -⟩ := id C
  have hl9 := C.2.1.2.2.1
  intro y0 y1 y2 h H locs cells slots ls hH hL hl hrun
  unfold f_X0_optOut_16 at hrun
  obtain ⟨c1, hrun⟩ := gd_some hrun
  refine V_last (pc := 16) C hH hL dX0_optOut_16 c1 hrun (fun h2 H locs hH hL hrun => ?_)
  refine lv_goto (tgt := 24) (pc := 17) hx hb dX0_optOut_17 (by decide) ?_
  refine lv_iconst (v := (0 : Int32)) (pc := 24) hx hb dX0_optOut_24 (by decide) ?_
  exact V_iret (pc := 25) C hH hL hrun dX0_optOut_25

theorem b_X0_optOut {rr : (Int32 ⊕ Ex) × Hp}  (C : CX p l R s m args meth c D Hs cX0_optOut "MassclaimLaw" 5 (some .int) [(0, 17, 20, 25)] 9 155)  : ∀ (x0 : Nat) (x1 : Int32) (x2 : Int32) (x3 : Nat) (h : Hp) (H : Heap) (locs : List Loc) (cells slots : Nat) (ls : Array Slot), HP D Hs h H → LO Hs locs → lv_has ls 5 [(0, rv x0), (1, .int x1), (2, .int x2), (3, rv x3)] → f_X0_optOut x0 x1 x2 x3 h = some rr → W p l e R s m args below meth c H locs cells slots (ZM D Hs iI rr below args s) (F0 m 0 ls []) := by
  obtain ⟨⟨hx, hb, hml, hown, hts⟩, -⟩ := id C
  have hl9 := C.2.1.2.2.1
  intro x0 x1 x2 x3 h H locs cells slots ls hH hL hl hrun
  unfold f_X0_optOut at hrun
  refine V_aload_n (pc := 0) hx hb dX0_optOut_0 rfl (lv_at hl 3 rfl) ?_
  refine lv_iconst (v := (0 : Int32)) (pc := 1) hx hb dX0_optOut_1 (by decide) ?_
  refine V_aload_n (pc := 2) hx hb dX0_optOut_2 rfl (lv_at hl 0 rfl) ?_
  refine lv_iload_n (pc := 3) hx hb dX0_optOut_3 rfl (lv_at hl 1 rfl) ?_
  refine lv_iload_n (pc := 4) hx hb dX0_optOut_4 rfl (lv_at hl 2 rfl) ?_
  obtain ⟨c5, hrun⟩ := gd_some hrun
  refine V_bdH (pc := 5) hL hrun (fun rr1 e1 => Z_runV (rest := [.int (0 : Int32), rv x3]) C hH (m_X1_optOut hl9 e1) wV_X0_55 c5 rfl (by decide) rfl rfl ⟨by decide, by decide⟩ rfl (by simp [csum, rv_cat, cat_i, cat_l, cat_f, cat_d]) hl.1 dX0_optOut_5) (fun v3 h4 H locs cells slots hH hL hrun => ?_) (fun x_ q_ ce_ h7 H locs cells slots hH hL hrun hc_ hv_ hcl_ => ?_)
  · refine lv_if_eq (tgt := 15) (pc := 8) hx hb dX0_optOut_8 (by decide) (fun c_ => ?_) (fun c_ => ?_)
    · have hrun := ite_t hrun c_
      refine lv_lconst (v := (0 : Int64)) (pc := 15) hx hb dX0_optOut_15 (by decide) ?_
      exact b_X0_optOut_16 C x3 (0 : Int32) (0 : Int64) h4 H locs cells slots ls hH hL (lv_sub hl [] rfl) hrun
    · have hrun := ite_f hrun c_
      refine lv_lconst (v := (1 : Int64)) (pc := 11) hx hb dX0_optOut_11 (by decide) ?_
      refine lv_goto (tgt := 16) (pc := 12) hx hb dX0_optOut_12 (by decide) ?_
      exact b_X0_optOut_16 C x3 (0 : Int32) (1 : Int64) h4 H locs cells slots ls hH hL (lv_sub hl [] rfl) hrun
  · by_cases n901 : x_ = 901
    · subst n901
      have hrun := ite_t hrun rfl
      refine vx_catch (E := "java/lang/IndexOutOfBoundsException") (name := "java/lang/IndexOutOfBoundsException") hown (tableOf []) ⟨0, 17, 20, 25⟩ (tableOf []) (by rw [C.2.1.2.2.2.2]; rfl) (fun z hz => nomatch hz) (by decide) (by decide) (hts _ q829) (va_Nw.use rfl (C.2.1.2.2.2.1.2.1 _ q537 rfl)) hc_ hv_ hcl_ ?_
      exact b_X0_optOut_20 C (q_ + 1) h7 H locs cells slots ls hH hL (lv_sub hl [] rfl) hrun
    have hrun := ite_f hrun n901
    cases hrun

theorem m_X0_optOut {l : Launch} {D : va_G} {Hs : Heap} {h : Hp} {rr : (Int32 ⊕ Ex) × Hp} (hl9 : l.stackTraces = false) {x0 : Nat} {x1 : Int32} {x2 : Int32} {x3 : Nat} (hrun : f_X0_optOut x0 x1 x2 x3 h = some rr) : CM l yX0_optOut (wsW_ yX0_optOut cX0_optOut 5 (some .int) [(0, 17, 20, 25)]) 9 155 iI [rv x0, .int x1, .int x2, rv x3] D Hs h rr := by
  refine CM.ofH (lv := [(0, rv x0), (1, .int x1), (2, .int x2), (3, rv x3)]) (plainFor_of_name (by decide)) hl9 (by simp [lv_args, rv_cat, cat_i, cat_l, cat_f, cat_d]) (by simp [lg_sl, rv_cat, cat_i, cat_l, cat_f, cat_d]) ?_
  intro p e R s m args below meth c H ls C hH hl hin
  exact b_X0_optOut C x0 x1 x2 x3 _ H [] _ _ ls hH (fun _ q => nomatch q) (lv_sub hl [0, 1, 2, 3] rfl) hrun

/-! MassclaimModel.optOut(IZ)Z -/
def f_X4_optOut_78  (x3 : Nat) (y0 : Int32) (h : Hp) : Rt Int32 :=
  gd (kC h x3 = 6) <| gd (b01 ((kI h 510 x3) ||| y0)) <| vl (sI h 510 x3 ((kI h 510 x3) ||| y0)) fun h3 => gd (b01 y0) <| some (.inl y0, h3)
def f_X4_optOut_77  (x3 : Nat) (h : Hp) : Rt Int32 :=
  f_X4_optOut_78 x3 (0 : Int32) h
def f_X4_optOut_70  (x3 : Nat) (y0 : Int32) (y1 : Int32) (h : Hp) : Rt Int32 :=
  if y1 < y0 then
  (f_X4_optOut_77 x3 h)
  else
  (f_X4_optOut_78 x3 (1 : Int32) h)
def f_X4_optOut  (x0 : Nat) (x1 : Int32) (x2 : Int32) (h : Hp) : Rt Int32 :=
  gd (kC h x0 = 4) <| bd (f_X4_isPerson x0 x1 h) fun v5 h6 => gd (kC h6 x0 = 4) <| bd (f_X4_isGood x0 v5 (1 : Int32) h6) fun v8 h9 => if v8 = 0 then
  (some (.inl (0 : Int32), h9))
  else
  (gd (kC h9 x0 = 4) <| gd (kC h9 (kR h9 302 x0) = 18) <| bd (f_J2_get (kR h9 302 x0) x1 h9) fun v12 h13 => gd (v12 = 0 ∨ kC h13 v12 = 6) <| gd (kC h13 x0 = 4) <| bd (f_X4_isOver x0 h13) fun v16 h17 => if v16 = 0 then
  (gd (kC h17 x0 = 4) <| bd (f_X4_isIn x0 v12 h17) fun v19 h20 => if v19 = 0 then
  (f_X4_optOut_77 v12 h20)
  else
  (gd (kC h20 v12 = 6) <| if (kI h20 509 v12) = (-1 : Int32) then
  (f_X4_optOut_77 v12 h20)
  else
  (gd (kC h20 x0 = 4) <| if x2 = 0 then
  (f_X4_optOut_70 v12 ((kI h20 301 x0) - (kI h20 509 v12)) (60 : Int32) h20)
  else
  (f_X4_optOut_70 v12 ((kI h20 301 x0) - (kI h20 509 v12)) (90 : Int32) h20))))
  else
  (f_X4_optOut_77 v12 h17))
theorem b_X4_optOut_78 {rr : (Int32 ⊕ Ex) × Hp}  (C : CX p l R s m args meth c D Hs cX4_optOut "MassclaimModel" 5 (some .boolean) [] 4 64)  : ∀ (x3 : Nat) (y0 : Int32) (h : Hp) (H : Heap) (locs : List Loc) (cells slots : Nat) (ls : Array Slot), HP D Hs h H → LO Hs locs → lv_has ls 5 [(3, rv x3)] → f_X4_optOut_78 x3 y0 h = some rr → W p l e R s m args below meth c H locs cells slots (ZM D Hs iI rr below args s) (F0 m 78 ls [.int y0]) := by
  obtain ⟨⟨hx, hb, hml, hown, hts⟩, -⟩ := id C
  have hl9 := C.2.1.2.2.1
  intro x3 y0 h H locs cells slots ls hH hL hl hrun
  unfold f_X4_optOut_78 at hrun
  refine lv_istore (i := 4) (lv' := [(4, .int y0), (3, rv x3)]) (pc := 78) hx hb dX4_optOut_78 hl (by decide) (by simp [rv_cat, cat_i, cat_l, cat_f, cat_d]) (fun ls hl => ?_)
  refine V_aload_n (pc := 80) hx hb dX4_optOut_80 rfl (lv_at hl 1 rfl) ?_
  refine lv_dup (pc := 81) hx hb dX4_optOut_81 (rv_cat _) ?_
  obtain ⟨c1, hrun⟩ := gd_some hrun
  refine V_getI (pc := 82) C hH fr_X4_225 dX4_optOut_82 c1 rfl ?_
  refine lv_iload (pc := 85) hx hb dX4_optOut_85 (lv_at hl 0 rfl) ?_
  refine lv_ior (pc := 87) hx hb dX4_optOut_87 ?_
  obtain ⟨c2, hrun⟩ := gd_some hrun
  refine V_putI (pc := 88) C hH hL fl_X4_225 dX4_optOut_88 c1 (fok_z c2) rfl (fun q => Bool.noConfusion q) hrun (fun h3 H locs hH hL hrun => ?_)
  refine lv_iload (pc := 91) hx hb dX4_optOut_91 (lv_at hl 0 rfl) ?_
  obtain ⟨c4, hrun⟩ := gd_some hrun
  exact V_zret (pc := 93) C hH hL c4 hrun dX4_optOut_93

theorem b_X4_optOut_77 {rr : (Int32 ⊕ Ex) × Hp}  (C : CX p l R s m args meth c D Hs cX4_optOut "MassclaimModel" 5 (some .boolean) [] 4 64)  : ∀ (x3 : Nat) (h : Hp) (H : Heap) (locs : List Loc) (cells slots : Nat) (ls : Array Slot), HP D Hs h H → LO Hs locs → lv_has ls 5 [(3, rv x3)] → f_X4_optOut_77 x3 h = some rr → W p l e R s m args below meth c H locs cells slots (ZM D Hs iI rr below args s) (F0 m 77 ls []) := by
  obtain ⟨⟨hx, hb, hml, hown, hts⟩, -⟩ := id C
  have hl9 := C.2.1.2.2.1
  intro x3 h H locs cells slots ls hH hL hl hrun
  unfold f_X4_optOut_77 at hrun
  refine lv_iconst (v := (0 : Int32)) (pc := 77) hx hb dX4_optOut_77 (by decide) ?_
  exact b_X4_optOut_78 C x3 (0 : Int32) h H locs cells slots ls hH hL (lv_sub hl [0] rfl) hrun

theorem b_X4_optOut_70 {rr : (Int32 ⊕ Ex) × Hp}  (C : CX p l R s m args meth c D Hs cX4_optOut "MassclaimModel" 5 (some .boolean) [] 4 64)  : ∀ (x3 : Nat) (y0 : Int32) (y1 : Int32) (h : Hp) (H : Heap) (locs : List Loc) (cells slots : Nat) (ls : Array Slot), HP D Hs h H → LO Hs locs → lv_has ls 5 [(3, rv x3)] → f_X4_optOut_70 x3 y0 y1 h = some rr → W p l e R s m args below meth c H locs cells slots (ZM D Hs iI rr below args s) (F0 m 70 ls [.int y1, .int y0]) := by
  obtain ⟨⟨hx, hb, hml, hown, hts⟩, -⟩ := id C
  have hl9 := C.2.1.2.2.1
  intro x3 y0 y1 h H locs cells slots ls hH hL hl hrun
  unfold f_X4_optOut_70 at hrun
  refine lv_icmp_gt (tgt := 77) (pc := 70) hx hb dX4_optOut_70 (by decide) (fun c_ => ?_) (fun c_ => ?_)
  · have hrun := ite_t hrun c_
    exact b_X4_optOut_77 C x3 h H locs cells slots ls hH hL (lv_sub hl [0] rfl) hrun
  · have hrun := ite_f hrun c_
    refine lv_iconst (v := (1 : Int32)) (pc := 73) hx hb dX4_optOut_73 (by decide) ?_
    refine lv_goto (tgt := 78) (pc := 74) hx hb dX4_optOut_74 (by decide) ?_
    exact b_X4_optOut_78 C x3 (1 : Int32) h H locs cells slots ls hH hL (lv_sub hl [0] rfl) hrun

theorem b_X4_optOut {rr : (Int32 ⊕ Ex) × Hp}  (C : CX p l R s m args meth c D Hs cX4_optOut "MassclaimModel" 5 (some .boolean) [] 4 64)  : ∀ (x0 : Nat) (x1 : Int32) (x2 : Int32) (h : Hp) (H : Heap) (locs : List Loc) (cells slots : Nat) (ls : Array Slot), HP D Hs h H → LO Hs locs → lv_has ls 5 [(0, rv x0), (1, .int x1), (2, .int x2)] → f_X4_optOut x0 x1 x2 h = some rr → W p l e R s m args below meth c H locs cells slots (ZM D Hs iI rr below args s) (F0 m 0 ls []) := by
  obtain ⟨⟨hx, hb, hml, hown, hts⟩, -⟩ := id C
  have hl9 := C.2.1.2.2.1
  intro x0 x1 x2 h H locs cells slots ls hH hL hl hrun
  unfold f_X4_optOut at hrun
  refine V_aload_n (pc := 0) hx hb dX4_optOut_0 rfl (lv_at hl 0 rfl) ?_
  refine V_aload_n (pc := 1) hx hb dX4_optOut_1 rfl (lv_at hl 0 rfl) ?_
  refine lv_iload_n (pc := 2) hx hb dX4_optOut_2 rfl (lv_at hl 1 rfl) ?_
  obtain ⟨c7, hrun⟩ := gd_some hrun
  refine V_bd (pc := 3) C hL rfl hrun (fun rr1 e1 => Z_runV (rest := [rv x0]) C hH (m_X4_isPerson hl9 e1) wV_X4_190 c7 rfl (by decide) rfl rfl ⟨by decide, by decide⟩ rfl (by simp [csum, rv_cat, cat_i, cat_l, cat_f, cat_d]) hl.1 dX4_optOut_3) (fun v5 h6 H locs cells slots hH hL hrun => ?_)
  refine lv_iconst (v := (1 : Int32)) (pc := 6) hx hb dX4_optOut_6 (by decide) ?_
  obtain ⟨c10, hrun⟩ := gd_some hrun
  refine V_bd (pc := 7) C hL rfl hrun (fun rr1 e1 => Z_runV (rest := []) C hH (m_X4_isGood hl9 e1) wV_X4_104 c10 rfl (by decide) rfl rfl ⟨by decide, by decide⟩ rfl (Nat.le_of_ble_eq_true rfl) hl.1 dX4_optOut_7) (fun v8 h9 H locs cells slots hH hL hrun => ?_)
  refine lv_if_ne (tgt := 15) (pc := 10) hx hb dX4_optOut_10 (by decide) (fun c_ => ?_) (fun c_ => ?_)
  · have hrun := ite_f hrun c_
    refine V_aload_n (pc := 15) hx hb dX4_optOut_15 rfl (lv_at hl 0 rfl) ?_
    obtain ⟨c11, hrun⟩ := gd_some hrun
    refine V_getR (pc := 16) C hH fr_X4_16 dX4_optOut_16 c11 rfl ?_
    refine lv_iload_n (pc := 19) hx hb dX4_optOut_19 rfl (lv_at hl 1 rfl) ?_
    obtain ⟨c14, hrun⟩ := gd_some hrun
    refine V_bd (pc := 20) C hL rfl hrun (fun rr1 e1 => Z_runV (rest := []) C hH (m_J2_get hl9 e1) wV_X4_108 c14 rfl (by decide) rfl rfl ⟨by decide, by decide⟩ rfl (Nat.le_of_ble_eq_true rfl) hl.1 dX4_optOut_20) (fun v12 h13 H locs cells slots hH hL hrun => ?_)
    obtain ⟨c15, hrun⟩ := gd_some hrun
    refine V_castX (pc := 23) (ci := 5) C hH rfl (by decide) q1946 dX4_optOut_23 c15 ?_
    refine V_astore_n (i := 3) (lv' := [(3, rv v12), (0, rv x0), (1, .int x1), (2, .int x2)]) (pc := 26) hx hb dX4_optOut_26 rfl hl (by decide) rfl (fun ls hl => ?_)
    refine V_aload_n (pc := 27) hx hb dX4_optOut_27 rfl (lv_at hl 1 rfl) ?_
    obtain ⟨c18, hrun⟩ := gd_some hrun
    refine V_bd (pc := 28) C hL rfl hrun (fun rr1 e1 => Z_runV (rest := []) C hH (m_X4_isOver hl9 e1) wV_X4_232 c18 rfl (by decide) rfl rfl ⟨by decide, by decide⟩ rfl (Nat.le_of_ble_eq_true rfl) hl.1 dX4_optOut_28) (fun v16 h17 H locs cells slots hH hL hrun => ?_)
    refine lv_if_ne (tgt := 77) (pc := 31) hx hb dX4_optOut_31 (by decide) (fun c_ => ?_) (fun c_ => ?_)
    · have hrun := ite_f hrun c_
      exact b_X4_optOut_77 C v12 h17 H locs cells slots ls hH hL (lv_sub hl [0] rfl) hrun
    · have hrun := ite_t hrun c_
      refine V_aload_n (pc := 34) hx hb dX4_optOut_34 rfl (lv_at hl 1 rfl) ?_
      refine V_aload_n (pc := 35) hx hb dX4_optOut_35 rfl (lv_at hl 0 rfl) ?_
      obtain ⟨c21, hrun⟩ := gd_some hrun
      refine V_bd (pc := 36) C hL rfl hrun (fun rr1 e1 => Z_runV (rest := []) C hH (m_X4_isIn hl9 e1) wV_X4_120 c21 rfl (by decide) rfl rfl ⟨by decide, by decide⟩ rfl (Nat.le_of_ble_eq_true rfl) hl.1 dX4_optOut_36) (fun v19 h20 H locs cells slots hH hL hrun => ?_)
      refine lv_if_eq (tgt := 77) (pc := 39) hx hb dX4_optOut_39 (by decide) (fun c_ => ?_) (fun c_ => ?_)
      · have hrun := ite_t hrun c_
        exact b_X4_optOut_77 C v12 h20 H locs cells slots ls hH hL (lv_sub hl [0] rfl) hrun
      · have hrun := ite_f hrun c_
        refine V_aload_n (pc := 42) hx hb dX4_optOut_42 rfl (lv_at hl 0 rfl) ?_
        obtain ⟨c22, hrun⟩ := gd_some hrun
        refine V_getI (pc := 43) C hH fr_X4_245 dX4_optOut_43 c22 rfl ?_
        refine lv_iconst (v := (-1 : Int32)) (pc := 46) hx hb dX4_optOut_46 (by decide) ?_
        refine lv_icmp_eq (tgt := 77) (pc := 47) hx hb dX4_optOut_47 (by decide) (fun c_ => ?_) (fun c_ => ?_)
        · have hrun := ite_t hrun c_
          exact b_X4_optOut_77 C v12 h20 H locs cells slots ls hH hL (lv_sub hl [0] rfl) hrun
        · have hrun := ite_f hrun c_
          refine V_aload_n (pc := 50) hx hb dX4_optOut_50 rfl (lv_at hl 1 rfl) ?_
          obtain ⟨c23, hrun⟩ := gd_some hrun
          refine V_getI (pc := 51) C hH fr_X4_43 dX4_optOut_51 c23 rfl ?_
          refine V_aload_n (pc := 54) hx hb dX4_optOut_54 rfl (lv_at hl 0 rfl) ?_
          refine V_getI (pc := 55) C hH fr_X4_245 dX4_optOut_55 c22 rfl ?_
          refine lv_isub (pc := 58) hx hb dX4_optOut_58 ?_
          refine lv_iload_n (pc := 59) hx hb dX4_optOut_59 rfl (lv_at hl 3 rfl) ?_
          refine lv_if_eq (tgt := 68) (pc := 60) hx hb dX4_optOut_60 (by decide) (fun c_ => ?_) (fun c_ => ?_)
          · have hrun := ite_t hrun c_
            refine lv_bipush (v := (60 : Int32)) (pc := 68) hx hb dX4_optOut_68 (by decide) ?_
            exact b_X4_optOut_70 C v12 ((kI h20 301 x0) - (kI h20 509 v12)) (60 : Int32) h20 H locs cells slots ls hH hL (lv_sub hl [0] rfl) hrun
          · have hrun := ite_f hrun c_
            refine lv_bipush (v := (90 : Int32)) (pc := 63) hx hb dX4_optOut_63 (by decide) ?_
            refine lv_goto (tgt := 70) (pc := 65) hx hb dX4_optOut_65 (by decide) ?_
            exact b_X4_optOut_70 C v12 ((kI h20 301 x0) - (kI h20 509 v12)) (90 : Int32) h20 H locs cells slots ls hH hL (lv_sub hl [0] rfl) hrun
  · have hrun := ite_t hrun c_
    refine lv_iconst (v := (0 : Int32)) (pc := 13) hx hb dX4_optOut_13 (by decide) ?_
    exact V_zret (pc := 14) C hH hL (Or.inl rfl) hrun dX4_optOut_14

theorem m_X4_optOut {l : Launch} {D : va_G} {Hs : Heap} {h : Hp} {rr : (Int32 ⊕ Ex) × Hp} (hl9 : l.stackTraces = false) {x0 : Nat} {x1 : Int32} {x2 : Int32} (hrun : f_X4_optOut x0 x1 x2 h = some rr) : CM l yX4_optOut (ws_ yX4_optOut cX4_optOut 5 (some .boolean)) 4 64 iI [rv x0, .int x1, .int x2] D Hs h rr := by
  refine CM.of (lv := [(0, rv x0), (1, .int x1), (2, .int x2)]) (plainFor_of_name (by decide)) hl9 (by simp [lv_args, rv_cat, cat_i, cat_l, cat_f, cat_d]) (by simp [lg_sl, rv_cat, cat_i, cat_l, cat_f, cat_d]) ?_
  intro p e R s m args below meth c H ls C hH hl hin
  exact b_X4_optOut C x0 x1 x2 _ H [] _ _ ls hH (fun _ q => nomatch q) (lv_sub hl [0, 1, 2] rfl) hrun

/-! Massclaim.optIn(I)Z -/
def f_X1_optIn_49  (x3 : Int32) (y0 : Nat) (y1 : Int32) (h : Hp) : Rt Int32 :=
  gd (kC h y0 = 5) <| gd (b01 y1) <| vl (sI h 408 y0 y1) fun h3 => gd (b01 x3) <| some (.inl x3, h3)
def f_X1_optIn_48  (x3 : Int32) (y0 : Nat) (h : Hp) : Rt Int32 :=
  f_X1_optIn_49 x3 y0 (0 : Int32) h
def f_X1_optIn_31  (x2 : Nat) (y0 : Int32) (h : Hp) : Rt Int32 :=
  gd (kC h x2 = 5) <| if (kI h 408 x2) = 0 then
  (f_X1_optIn_48 y0 x2 h)
  else
  (if y0 = 0 then
  (f_X1_optIn_49 y0 x2 (1 : Int32) h)
  else
  (f_X1_optIn_48 y0 x2 h))
def f_X1_optIn_30  (x2 : Nat) (h : Hp) : Rt Int32 :=
  f_X1_optIn_31 x2 (0 : Int32) h
def f_X1_optIn  (x0 : Nat) (x1 : Int32) (h : Hp) : Rt Int32 :=
  gd (kC h x0 = 1) <| gd (kC h (kR h 0 x0) = 2) <| bd (f_X2_at (kR h 0 x0) x1 h) fun v7 h8 => gd (v7 = 0 ∨ kC h8 v7 = 5) <| gd (kC h8 v7 = 5) <| if (kI h8 408 v7) = 0 then
  (f_X1_optIn_30 v7 h8)
  else
  (gd (kC h8 x0 = 1) <| bd (f_X1_isDone x0 h8) fun v12 h13 => if v12 = 0 then
  (f_X1_optIn_31 v7 (1 : Int32) h13)
  else
  (f_X1_optIn_30 v7 h13))
theorem b_X1_optIn_49 {rr : (Int32 ⊕ Ex) × Hp}  (C : CX p l R s m args meth c D Hs cX1_optIn "Massclaim" 4 (some .boolean) [] 8 131)  : ∀ (x3 : Int32) (y0 : Nat) (y1 : Int32) (h : Hp) (H : Heap) (locs : List Loc) (cells slots : Nat) (ls : Array Slot), HP D Hs h H → LO Hs locs → lv_has ls 4 [(3, .int x3)] → f_X1_optIn_49 x3 y0 y1 h = some rr → W p l e R s m args below meth c H locs cells slots (ZM D Hs iI rr below args s) (F0 m 49 ls [.int y1, rv y0]) := by
  obtain ⟨⟨hx, hb, hml, hown, hts⟩, -⟩ := id C
  have hl9 := C.2.1.2.2.1
  intro x3 y0 y1 h H locs cells slots ls hH hL hl hrun
  unfold f_X1_optIn_49 at hrun
  obtain ⟨c1, hrun⟩ := gd_some hrun
  obtain ⟨c2, hrun⟩ := gd_some hrun
  refine V_putNI (pc := 49) C hH hL fn_X1_260 dX1_optIn_49 c1 (fok_z c2) rfl hrun (fun h3 H locs hH hL hrun => ?_)
  refine lv_iload_n (pc := 52) hx hb dX1_optIn_52 rfl (lv_at hl 0 rfl) ?_
  obtain ⟨c4, hrun⟩ := gd_some hrun
  exact V_zret (pc := 53) C hH hL c4 hrun dX1_optIn_53

theorem b_X1_optIn_48 {rr : (Int32 ⊕ Ex) × Hp}  (C : CX p l R s m args meth c D Hs cX1_optIn "Massclaim" 4 (some .boolean) [] 8 131)  : ∀ (x3 : Int32) (y0 : Nat) (h : Hp) (H : Heap) (locs : List Loc) (cells slots : Nat) (ls : Array Slot), HP D Hs h H → LO Hs locs → lv_has ls 4 [(3, .int x3)] → f_X1_optIn_48 x3 y0 h = some rr → W p l e R s m args below meth c H locs cells slots (ZM D Hs iI rr below args s) (F0 m 48 ls [rv y0]) := by
  obtain ⟨⟨hx, hb, hml, hown, hts⟩, -⟩ := id C
  have hl9 := C.2.1.2.2.1
  intro x3 y0 h H locs cells slots ls hH hL hl hrun
  unfold f_X1_optIn_48 at hrun
  refine lv_iconst (v := (0 : Int32)) (pc := 48) hx hb dX1_optIn_48 (by decide) ?_
  exact b_X1_optIn_49 C x3 y0 (0 : Int32) h H locs cells slots ls hH hL (lv_sub hl [0] rfl) hrun

theorem b_X1_optIn_31 {rr : (Int32 ⊕ Ex) × Hp}  (C : CX p l R s m args meth c D Hs cX1_optIn "Massclaim" 4 (some .boolean) [] 8 131)  : ∀ (x2 : Nat) (y0 : Int32) (h : Hp) (H : Heap) (locs : List Loc) (cells slots : Nat) (ls : Array Slot), HP D Hs h H → LO Hs locs → lv_has ls 4 [(2, rv x2)] → f_X1_optIn_31 x2 y0 h = some rr → W p l e R s m args below meth c H locs cells slots (ZM D Hs iI rr below args s) (F0 m 31 ls [.int y0]) := by
  obtain ⟨⟨hx, hb, hml, hown, hts⟩, -⟩ := id C
  have hl9 := C.2.1.2.2.1
  intro x2 y0 h H locs cells slots ls hH hL hl hrun
  unfold f_X1_optIn_31 at hrun
  refine lv_istore_n (i := 3) (lv' := [(3, .int y0), (2, rv x2)]) (pc := 31) hx hb dX1_optIn_31 rfl hl (by decide) (by simp [rv_cat, cat_i, cat_l, cat_f, cat_d]) (fun ls hl => ?_)
  refine V_aload_n (pc := 32) hx hb dX1_optIn_32 rfl (lv_at hl 1 rfl) ?_
  refine V_aload_n (pc := 33) hx hb dX1_optIn_33 rfl (lv_at hl 1 rfl) ?_
  obtain ⟨c5, hrun⟩ := gd_some hrun
  refine V_getNI (pc := 34) C hH fn_X1_260 dX1_optIn_34 c5 rfl ?_
  refine lv_if_eq (tgt := 48) (pc := 37) hx hb dX1_optIn_37 (by decide) (fun c_ => ?_) (fun c_ => ?_)
  · have hrun := ite_t hrun c_
    exact b_X1_optIn_48 C y0 x2 h H locs cells slots ls hH hL (lv_sub hl [0] rfl) hrun
  · have hrun := ite_f hrun c_
    refine lv_iload_n (pc := 40) hx hb dX1_optIn_40 rfl (lv_at hl 0 rfl) ?_
    refine lv_if_ne (tgt := 48) (pc := 41) hx hb dX1_optIn_41 (by decide) (fun c_ => ?_) (fun c_ => ?_)
    · have hrun := ite_f hrun c_
      exact b_X1_optIn_48 C y0 x2 h H locs cells slots ls hH hL (lv_sub hl [0] rfl) hrun
    · have hrun := ite_t hrun c_
      refine lv_iconst (v := (1 : Int32)) (pc := 44) hx hb dX1_optIn_44 (by decide) ?_
      refine lv_goto (tgt := 49) (pc := 45) hx hb dX1_optIn_45 (by decide) ?_
      exact b_X1_optIn_49 C y0 x2 (1 : Int32) h H locs cells slots ls hH hL (lv_sub hl [0] rfl) hrun

theorem b_X1_optIn_30 {rr : (Int32 ⊕ Ex) × Hp}  (C : CX p l R s m args meth c D Hs cX1_optIn "Massclaim" 4 (some .boolean) [] 8 131)  : ∀ (x2 : Nat) (h : Hp) (H : Heap) (locs : List Loc) (cells slots : Nat) (ls : Array Slot), HP D Hs h H → LO Hs locs → lv_has ls 4 [(2, rv x2)] → f_X1_optIn_30 x2 h = some rr → W p l e R s m args below meth c H locs cells slots (ZM D Hs iI rr below args s) (F0 m 30 ls []) := by
  obtain ⟨⟨hx, hb, hml, hown, hts⟩, -⟩ := id C
  have hl9 := C.2.1.2.2.1
  intro x2 h H locs cells slots ls hH hL hl hrun
  unfold f_X1_optIn_30 at hrun
  refine lv_iconst (v := (0 : Int32)) (pc := 30) hx hb dX1_optIn_30 (by decide) ?_
  exact b_X1_optIn_31 C x2 (0 : Int32) h H locs cells slots ls hH hL (lv_sub hl [0] rfl) hrun

theorem b_X1_optIn {rr : (Int32 ⊕ Ex) × Hp}  (C : CX p l R s m args meth c D Hs cX1_optIn "Massclaim" 4 (some .boolean) [] 8 131)  : ∀ (x0 : Nat) (x1 : Int32) (h : Hp) (H : Heap) (locs : List Loc) (cells slots : Nat) (ls : Array Slot), HP D Hs h H → LO Hs locs → lv_has ls 4 [(0, rv x0), (1, .int x1)] → f_X1_optIn x0 x1 h = some rr → W p l e R s m args below meth c H locs cells slots (ZM D Hs iI rr below args s) (F0 m 0 ls []) := by
  obtain ⟨⟨hx, hb, hml, hown, hts⟩, -⟩ := id C
  have hl9 := C.2.1.2.2.1
  intro x0 x1 h H locs cells slots ls hH hL hl hrun
  unfold f_X1_optIn at hrun
  refine V_aload_n (pc := 0) hx hb dX1_optIn_0 rfl (lv_at hl 0 rfl) ?_
  obtain ⟨c6, hrun⟩ := gd_some hrun
  refine V_getR (pc := 1) C hH fr_X1_42 dX1_optIn_1 c6 rfl ?_
  refine lv_iload_n (pc := 4) hx hb dX1_optIn_4 rfl (lv_at hl 1 rfl) ?_
  obtain ⟨c9, hrun⟩ := gd_some hrun
  refine V_bd (pc := 5) C hL rfl hrun (fun rr1 e1 => Z_runV (rest := []) C hH (m_X2_at hl9 e1) wV_X1_136 c9 rfl (by decide) rfl rfl ⟨by decide, by decide⟩ rfl (Nat.le_of_ble_eq_true rfl) hl.1 dX1_optIn_5) (fun v7 h8 H locs cells slots hH hL hrun => ?_)
  obtain ⟨c10, hrun⟩ := gd_some hrun
  refine V_castX (pc := 8) (ci := 4) C hH rfl (by decide) q376 dX1_optIn_8 c10 ?_
  refine V_astore_n (i := 2) (lv' := [(2, rv v7), (0, rv x0), (1, .int x1)]) (pc := 11) hx hb dX1_optIn_11 rfl hl (by decide) rfl (fun ls hl => ?_)
  refine V_aload_n (pc := 12) hx hb dX1_optIn_12 rfl (lv_at hl 0 rfl) ?_
  obtain ⟨c11, hrun⟩ := gd_some hrun
  refine V_getNI (pc := 13) C hH fn_X1_260 dX1_optIn_13 c11 rfl ?_
  refine lv_if_eq (tgt := 30) (pc := 16) hx hb dX1_optIn_16 (by decide) (fun c_ => ?_) (fun c_ => ?_)
  · have hrun := ite_t hrun c_
    exact b_X1_optIn_30 C v7 h8 H locs cells slots ls hH hL (lv_sub hl [0] rfl) hrun
  · have hrun := ite_f hrun c_
    refine V_aload_n (pc := 19) hx hb dX1_optIn_19 rfl (lv_at hl 1 rfl) ?_
    obtain ⟨c14, hrun⟩ := gd_some hrun
    refine V_bd (pc := 20) C hL rfl hrun (fun rr1 e1 => Z_runV (rest := []) C hH (m_X1_isDone hl9 e1) wV_X1_225 c14 rfl (by decide) rfl rfl ⟨by decide, by decide⟩ rfl (Nat.le_of_ble_eq_true rfl) hl.1 dX1_optIn_20) (fun v12 h13 H locs cells slots hH hL hrun => ?_)
    refine lv_if_ne (tgt := 30) (pc := 23) hx hb dX1_optIn_23 (by decide) (fun c_ => ?_) (fun c_ => ?_)
    · have hrun := ite_f hrun c_
      exact b_X1_optIn_30 C v7 h13 H locs cells slots ls hH hL (lv_sub hl [0] rfl) hrun
    · have hrun := ite_t hrun c_
      refine lv_iconst (v := (1 : Int32)) (pc := 26) hx hb dX1_optIn_26 (by decide) ?_
      refine lv_goto (tgt := 31) (pc := 27) hx hb dX1_optIn_27 (by decide) ?_
      exact b_X1_optIn_31 C v7 (1 : Int32) h13 H locs cells slots ls hH hL (lv_sub hl [0] rfl) hrun

theorem m_X1_optIn {l : Launch} {D : va_G} {Hs : Heap} {h : Hp} {rr : (Int32 ⊕ Ex) × Hp} (hl9 : l.stackTraces = false) {x0 : Nat} {x1 : Int32} (hrun : f_X1_optIn x0 x1 h = some rr) : CM l yX1_optIn (ws_ yX1_optIn cX1_optIn 4 (some .boolean)) 8 131 iI [rv x0, .int x1] D Hs h rr := by
  refine CM.of (lv := [(0, rv x0), (1, .int x1)]) (plainFor_of_name (by decide)) hl9 (by simp [lv_args, rv_cat, cat_i, cat_l, cat_f, cat_d]) (by simp [lg_sl, rv_cat, cat_i, cat_l, cat_f, cat_d]) ?_
  intro p e R s m args below meth c H ls C hH hl hin
  exact b_X1_optIn C x0 x1 _ H [] _ _ ls hH (fun _ q => nomatch q) (lv_sub hl [0, 1] rfl) hrun

/-! MassclaimLaw.optIn(LMassclaim;I[J)I -/
def f_X0_optIn_19  (y0 : Nat) (h : Hp) : Rt Int32 :=
  some (.inl (1 : Int32), h)
def f_X0_optIn_15  (y0 : Nat) (y1 : Int32) (y2 : Int64) (h : Hp) : Rt Int32 :=
  gd (kC h y0 = 102 ∧ ixo y1 (kN h y0)) <| vl (tL h y0 (y1).toNatClampNeg y2) fun h2 => some (.inl (0 : Int32), h2)
def f_X0_optIn  (x0 : Nat) (x1 : Int32) (x2 : Nat) (h : Hp) : Rt Int32 :=
  gd (kC h x0 = 1) <| bdH (f_X1_optIn x0 x1 h)
  (fun v3 h4 => if v3 = 0 then
  (f_X0_optIn_15 x2 (0 : Int32) (0 : Int64) h4)
  else
  (f_X0_optIn_15 x2 (0 : Int32) (1 : Int64) h4))
  (fun ex6 h7 => if ex6.1 = 901 then
  (f_X0_optIn_19 ex6.2 h7)
  else
  none)
theorem b_X0_optIn_19 {rr : (Int32 ⊕ Ex) × Hp}  (C : CX p l R s m args meth c D Hs cX0_optIn "MassclaimLaw" 4 (some .int) [(0, 16, 19, 25)] 9 154)  : ∀ (y0 : Nat) (h : Hp) (H : Heap) (locs : List Loc) (cells slots : Nat) (ls : Array Slot), HP D Hs h H → LO Hs locs → lv_has ls 4 [] → f_X0_optIn_19 y0 h = some rr → W p l e R s m args below meth c H locs cells slots (ZM D Hs iI rr below args s) (F0 m 19 ls [rv y0]) := by
  obtain ⟨⟨hx, hb, hml, hown, hts⟩, -⟩ := id C
  have hl9 := C.2.1.2.2.1
  intro y0 h H locs cells slots ls hH hL hl hrun
  unfold f_X0_optIn_19 at hrun
  refine V_astore_n (i := 3) (lv' := [(3, rv y0)]) (pc := 19) hx hb dX0_optIn_19 rfl hl (by decide) rfl (fun ls hl => ?_)
  refine lv_iconst (v := (1 : Int32)) (pc := 20) hx hb dX0_optIn_20 (by decide) ?_
  exact V_iret (pc := 21) C hH hL hrun dX0_optIn_21

theorem b_X0_optIn_15 {rr : (Int32 ⊕ Ex) × Hp}  (C : CX p l R s m args meth c D Hs cX0_optIn "MassclaimLaw" 4 (some .int) [(0, 16, 19, 25)] 9 154)  : ∀ (y0 : Nat) (y1 : Int32) (y2 : Int64) (h : Hp) (H : Heap) (locs : List Loc) (cells slots : Nat) (ls : Array Slot), HP D Hs h H → LO Hs locs → lv_has ls 4 [] → f_X0_optIn_15 y0 y1 y2 h = some rr → W p l e R s m args below meth c H locs cells slots (ZM D Hs iI rr below args s) (F0 m 15 ls [.long y2, .int y1, rv y0]) := by
  obtain ⟨⟨hx, hb, hml, hown, hts⟩, -⟩ := id C
  have hl9 := C.2.1.2.2.1
  intro y0 y1 y2 h H locs cells slots ls hH hL hl hrun
  unfold f_X0_optIn_15 at hrun
  obtain ⟨c1, hrun⟩ := gd_some hrun
  refine V_last (pc := 15) C hH hL dX0_optIn_15 c1 hrun (fun h2 H locs hH hL hrun => ?_)
  refine lv_goto (tgt := 22) (pc := 16) hx hb dX0_optIn_16 (by decide) ?_
  refine lv_iconst (v := (0 : Int32)) (pc := 22) hx hb dX0_optIn_22 (by decide) ?_
  exact V_iret (pc := 23) C hH hL hrun dX0_optIn_23

theorem b_X0_optIn {rr : (Int32 ⊕ Ex) × Hp}  (C : CX p l R s m args meth c D Hs cX0_optIn "MassclaimLaw" 4 (some .int) [(0, 16, 19, 25)] 9 154)  : ∀ (x0 : Nat) (x1 : Int32) (x2 : Nat) (h : Hp) (H : Heap) (locs : List Loc) (cells slots : Nat) (ls : Array Slot), HP D Hs h H → LO Hs locs → lv_has ls 4 [(0, rv x0), (1, .int x1), (2, rv x2)] → f_X0_optIn x0 x1 x2 h = some rr → W p l e R s m args below meth c H locs cells slots (ZM D Hs iI rr below args s) (F0 m 0 ls []) := by
  obtain ⟨⟨hx, hb, hml, hown, hts⟩, -⟩ := id C
  have hl9 := C.2.1.2.2.1
  intro x0 x1 x2 h H locs cells slots ls hH hL hl hrun
  unfold f_X0_optIn at hrun
  refine V_aload_n (pc := 0) hx hb dX0_optIn_0 rfl (lv_at hl 2 rfl) ?_
  refine lv_iconst (v := (0 : Int32)) (pc := 1) hx hb dX0_optIn_1 (by decide) ?_
  refine V_aload_n (pc := 2) hx hb dX0_optIn_2 rfl (lv_at hl 0 rfl) ?_
  refine lv_iload_n (pc := 3) hx hb dX0_optIn_3 rfl (lv_at hl 1 rfl) ?_
  obtain ⟨c5, hrun⟩ := gd_some hrun
  refine V_bdH (pc := 4) hL hrun (fun rr1 e1 => Z_runV (rest := [.int (0 : Int32), rv x2]) C hH (m_X1_optIn hl9 e1) wV_X0_58 c5 rfl (by decide) rfl rfl ⟨by decide, by decide⟩ rfl (by simp [csum, rv_cat, cat_i, cat_l, cat_f, cat_d]) hl.1 dX0_optIn_4) (fun v3 h4 H locs cells slots hH hL hrun => ?_) (fun x_ q_ ce_ h7 H locs cells slots hH hL hrun hc_ hv_ hcl_ => ?_)
  · refine lv_if_eq (tgt := 14) (pc := 7) hx hb dX0_optIn_7 (by decide) (fun c_ => ?_) (fun c_ => ?_)
    · have hrun := ite_t hrun c_
      refine lv_lconst (v := (0 : Int64)) (pc := 14) hx hb dX0_optIn_14 (by decide) ?_
      exact b_X0_optIn_15 C x2 (0 : Int32) (0 : Int64) h4 H locs cells slots ls hH hL (lv_sub hl [] rfl) hrun
    · have hrun := ite_f hrun c_
      refine lv_lconst (v := (1 : Int64)) (pc := 10) hx hb dX0_optIn_10 (by decide) ?_
      refine lv_goto (tgt := 15) (pc := 11) hx hb dX0_optIn_11 (by decide) ?_
      exact b_X0_optIn_15 C x2 (0 : Int32) (1 : Int64) h4 H locs cells slots ls hH hL (lv_sub hl [] rfl) hrun
  · by_cases n901 : x_ = 901
    · subst n901
      have hrun := ite_t hrun rfl
      refine vx_catch (E := "java/lang/IndexOutOfBoundsException") (name := "java/lang/IndexOutOfBoundsException") hown (tableOf []) ⟨0, 16, 19, 25⟩ (tableOf []) (by rw [C.2.1.2.2.2.2]; rfl) (fun z hz => nomatch hz) (by decide) (by decide) (hts _ q829) (va_Nw.use rfl (C.2.1.2.2.2.1.2.1 _ q537 rfl)) hc_ hv_ hcl_ ?_
      exact b_X0_optIn_19 C (q_ + 1) h7 H locs cells slots ls hH hL (lv_sub hl [] rfl) hrun
    have hrun := ite_f hrun n901
    cases hrun

theorem m_X0_optIn {l : Launch} {D : va_G} {Hs : Heap} {h : Hp} {rr : (Int32 ⊕ Ex) × Hp} (hl9 : l.stackTraces = false) {x0 : Nat} {x1 : Int32} {x2 : Nat} (hrun : f_X0_optIn x0 x1 x2 h = some rr) : CM l yX0_optIn (wsW_ yX0_optIn cX0_optIn 4 (some .int) [(0, 16, 19, 25)]) 9 154 iI [rv x0, .int x1, rv x2] D Hs h rr := by
  refine CM.ofH (lv := [(0, rv x0), (1, .int x1), (2, rv x2)]) (plainFor_of_name (by decide)) hl9 (by simp [lv_args, rv_cat, cat_i, cat_l, cat_f, cat_d]) (by simp [lg_sl, rv_cat, cat_i, cat_l, cat_f, cat_d]) ?_
  intro p e R s m args below meth c H ls C hH hl hin
  exact b_X0_optIn C x0 x1 x2 _ H [] _ _ ls hH (fun _ q => nomatch q) (lv_sub hl [0, 1, 2] rfl) hrun

/-! MassclaimModel.optIn(I)Z -/
def f_X4_optIn_61  (x3 : Int32) (y0 : Nat) (y1 : Int32) (y2 : Int32) (h : Hp) : Rt Int32 :=
  gd (kC h y0 = 6) <| gd (b01 (y1 &&& y2)) <| vl (sI h 510 y0 (y1 &&& y2)) fun h3 => gd (b01 x3) <| some (.inl x3, h3)
def f_X4_optIn_46  (x2 : Nat) (y0 : Int32) (h : Hp) : Rt Int32 :=
  gd (kC h x2 = 6) <| if y0 = 0 then
  (f_X4_optIn_61 y0 x2 (kI h 510 x2) (1 : Int32) h)
  else
  (f_X4_optIn_61 y0 x2 (kI h 510 x2) (0 : Int32) h)
def f_X4_optIn_45  (x2 : Nat) (h : Hp) : Rt Int32 :=
  f_X4_optIn_46 x2 (0 : Int32) h
def f_X4_optIn  (x0 : Nat) (x1 : Int32) (h : Hp) : Rt Int32 :=
  gd (kC h x0 = 4) <| bd (f_X4_isPerson x0 x1 h) fun v6 h7 => gd (kC h7 x0 = 4) <| bd (f_X4_isGood x0 v6 (1 : Int32) h7) fun v9 h10 => if v9 = 0 then
  (some (.inl (0 : Int32), h10))
  else
  (gd (kC h10 x0 = 4) <| gd (kC h10 (kR h10 302 x0) = 18) <| bd (f_J2_get (kR h10 302 x0) x1 h10) fun v13 h14 => gd (v13 = 0 ∨ kC h14 v13 = 6) <| gd (kC h14 x0 = 4) <| bd (f_X4_isOver x0 h14) fun v17 h18 => if v17 = 0 then
  (gd (kC h18 v13 = 6) <| if (kI h18 510 v13) = 0 then
  (f_X4_optIn_45 v13 h18)
  else
  (f_X4_optIn_46 v13 (1 : Int32) h18))
  else
  (f_X4_optIn_45 v13 h18))
theorem b_X4_optIn_61 {rr : (Int32 ⊕ Ex) × Hp}  (C : CX p l R s m args meth c D Hs cX4_optIn "MassclaimModel" 4 (some .boolean) [] 4 64)  : ∀ (x3 : Int32) (y0 : Nat) (y1 : Int32) (y2 : Int32) (h : Hp) (H : Heap) (locs : List Loc) (cells slots : Nat) (ls : Array Slot), HP D Hs h H → LO Hs locs → lv_has ls 4 [(3, .int x3)] → f_X4_optIn_61 x3 y0 y1 y2 h = some rr → W p l e R s m args below meth c H locs cells slots (ZM D Hs iI rr below args s) (F0 m 61 ls [.int y2, .int y1, rv y0]) := by
  obtain ⟨⟨hx, hb, hml, hown, hts⟩, -⟩ := id C
  have hl9 := C.2.1.2.2.1
  intro x3 y0 y1 y2 h H locs cells slots ls hH hL hl hrun
  unfold f_X4_optIn_61 at hrun
  refine lv_iand (pc := 61) hx hb dX4_optIn_61 ?_
  obtain ⟨c1, hrun⟩ := gd_some hrun
  obtain ⟨c2, hrun⟩ := gd_some hrun
  refine V_putI (pc := 62) C hH hL fl_X4_225 dX4_optIn_62 c1 (fok_z c2) rfl (fun q => Bool.noConfusion q) hrun (fun h3 H locs hH hL hrun => ?_)
  refine lv_iload_n (pc := 65) hx hb dX4_optIn_65 rfl (lv_at hl 0 rfl) ?_
  obtain ⟨c4, hrun⟩ := gd_some hrun
  exact V_zret (pc := 66) C hH hL c4 hrun dX4_optIn_66

theorem b_X4_optIn_46 {rr : (Int32 ⊕ Ex) × Hp}  (C : CX p l R s m args meth c D Hs cX4_optIn "MassclaimModel" 4 (some .boolean) [] 4 64)  : ∀ (x2 : Nat) (y0 : Int32) (h : Hp) (H : Heap) (locs : List Loc) (cells slots : Nat) (ls : Array Slot), HP D Hs h H → LO Hs locs → lv_has ls 4 [(2, rv x2)] → f_X4_optIn_46 x2 y0 h = some rr → W p l e R s m args below meth c H locs cells slots (ZM D Hs iI rr below args s) (F0 m 46 ls [.int y0]) := by
  obtain ⟨⟨hx, hb, hml, hown, hts⟩, -⟩ := id C
  have hl9 := C.2.1.2.2.1
  intro x2 y0 h H locs cells slots ls hH hL hl hrun
  unfold f_X4_optIn_46 at hrun
  refine lv_istore_n (i := 3) (lv' := [(3, .int y0), (2, rv x2)]) (pc := 46) hx hb dX4_optIn_46 rfl hl (by decide) (by simp [rv_cat, cat_i, cat_l, cat_f, cat_d]) (fun ls hl => ?_)
  refine V_aload_n (pc := 47) hx hb dX4_optIn_47 rfl (lv_at hl 1 rfl) ?_
  refine lv_dup (pc := 48) hx hb dX4_optIn_48 (rv_cat _) ?_
  obtain ⟨c5, hrun⟩ := gd_some hrun
  refine V_getI (pc := 49) C hH fr_X4_225 dX4_optIn_49 c5 rfl ?_
  refine lv_iload_n (pc := 52) hx hb dX4_optIn_52 rfl (lv_at hl 0 rfl) ?_
  refine lv_if_ne (tgt := 60) (pc := 53) hx hb dX4_optIn_53 (by decide) (fun c_ => ?_) (fun c_ => ?_)
  · have hrun := ite_f hrun c_
    refine lv_iconst (v := (0 : Int32)) (pc := 60) hx hb dX4_optIn_60 (by decide) ?_
    exact b_X4_optIn_61 C y0 x2 (kI h 510 x2) (0 : Int32) h H locs cells slots ls hH hL (lv_sub hl [0] rfl) hrun
  · have hrun := ite_t hrun c_
    refine lv_iconst (v := (1 : Int32)) (pc := 56) hx hb dX4_optIn_56 (by decide) ?_
    refine lv_goto (tgt := 61) (pc := 57) hx hb dX4_optIn_57 (by decide) ?_
    exact b_X4_optIn_61 C y0 x2 (kI h 510 x2) (1 : Int32) h H locs cells slots ls hH hL (lv_sub hl [0] rfl) hrun

theorem b_X4_optIn_45 {rr : (Int32 ⊕ Ex) × Hp}  (C : CX p l R s m args meth c D Hs cX4_optIn "MassclaimModel" 4 (some .boolean) [] 4 64)  : ∀ (x2 : Nat) (h : Hp) (H : Heap) (locs : List Loc) (cells slots : Nat) (ls : Array Slot), HP D Hs h H → LO Hs locs → lv_has ls 4 [(2, rv x2)] → f_X4_optIn_45 x2 h = some rr → W p l e R s m args below meth c H locs cells slots (ZM D Hs iI rr below args s) (F0 m 45 ls []) := by
  obtain ⟨⟨hx, hb, hml, hown, hts⟩, -⟩ := id C
  have hl9 := C.2.1.2.2.1
  intro x2 h H locs cells slots ls hH hL hl hrun
  unfold f_X4_optIn_45 at hrun
  refine lv_iconst (v := (0 : Int32)) (pc := 45) hx hb dX4_optIn_45 (by decide) ?_
  exact b_X4_optIn_46 C x2 (0 : Int32) h H locs cells slots ls hH hL (lv_sub hl [0] rfl) hrun

theorem b_X4_optIn {rr : (Int32 ⊕ Ex) × Hp}  (C : CX p l R s m args meth c D Hs cX4_optIn "MassclaimModel" 4 (some .boolean) [] 4 64)  : ∀ (x0 : Nat) (x1 : Int32) (h : Hp) (H : Heap) (locs : List Loc) (cells slots : Nat) (ls : Array Slot), HP D Hs h H → LO Hs locs → lv_has ls 4 [(0, rv x0), (1, .int x1)] → f_X4_optIn x0 x1 h = some rr → W p l e R s m args below meth c H locs cells slots (ZM D Hs iI rr below args s) (F0 m 0 ls []) := by
  obtain ⟨⟨hx, hb, hml, hown, hts⟩, -⟩ := id C
  have hl9 := C.2.1.2.2.1
  intro x0 x1 h H locs cells slots ls hH hL hl hrun
  unfold f_X4_optIn at hrun
  refine V_aload_n (pc := 0) hx hb dX4_optIn_0 rfl (lv_at hl 0 rfl) ?_
  refine V_aload_n (pc := 1) hx hb dX4_optIn_1 rfl (lv_at hl 0 rfl) ?_
  refine lv_iload_n (pc := 2) hx hb dX4_optIn_2 rfl (lv_at hl 1 rfl) ?_
  obtain ⟨c8, hrun⟩ := gd_some hrun
  refine V_bd (pc := 3) C hL rfl hrun (fun rr1 e1 => Z_runV (rest := [rv x0]) C hH (m_X4_isPerson hl9 e1) wV_X4_190 c8 rfl (by decide) rfl rfl ⟨by decide, by decide⟩ rfl (by simp [csum, rv_cat, cat_i, cat_l, cat_f, cat_d]) hl.1 dX4_optIn_3) (fun v6 h7 H locs cells slots hH hL hrun => ?_)
  refine lv_iconst (v := (1 : Int32)) (pc := 6) hx hb dX4_optIn_6 (by decide) ?_
  obtain ⟨c11, hrun⟩ := gd_some hrun
  refine V_bd (pc := 7) C hL rfl hrun (fun rr1 e1 => Z_runV (rest := []) C hH (m_X4_isGood hl9 e1) wV_X4_104 c11 rfl (by decide) rfl rfl ⟨by decide, by decide⟩ rfl (Nat.le_of_ble_eq_true rfl) hl.1 dX4_optIn_7) (fun v9 h10 H locs cells slots hH hL hrun => ?_)
  refine lv_if_ne (tgt := 15) (pc := 10) hx hb dX4_optIn_10 (by decide) (fun c_ => ?_) (fun c_ => ?_)
  · have hrun := ite_f hrun c_
    refine V_aload_n (pc := 15) hx hb dX4_optIn_15 rfl (lv_at hl 0 rfl) ?_
    obtain ⟨c12, hrun⟩ := gd_some hrun
    refine V_getR (pc := 16) C hH fr_X4_16 dX4_optIn_16 c12 rfl ?_
    refine lv_iload_n (pc := 19) hx hb dX4_optIn_19 rfl (lv_at hl 1 rfl) ?_
    obtain ⟨c15, hrun⟩ := gd_some hrun
    refine V_bd (pc := 20) C hL rfl hrun (fun rr1 e1 => Z_runV (rest := []) C hH (m_J2_get hl9 e1) wV_X4_108 c15 rfl (by decide) rfl rfl ⟨by decide, by decide⟩ rfl (Nat.le_of_ble_eq_true rfl) hl.1 dX4_optIn_20) (fun v13 h14 H locs cells slots hH hL hrun => ?_)
    obtain ⟨c16, hrun⟩ := gd_some hrun
    refine V_castX (pc := 23) (ci := 5) C hH rfl (by decide) q1946 dX4_optIn_23 c16 ?_
    refine V_astore_n (i := 2) (lv' := [(2, rv v13), (0, rv x0), (1, .int x1)]) (pc := 26) hx hb dX4_optIn_26 rfl hl (by decide) rfl (fun ls hl => ?_)
    refine V_aload_n (pc := 27) hx hb dX4_optIn_27 rfl (lv_at hl 1 rfl) ?_
    obtain ⟨c19, hrun⟩ := gd_some hrun
    refine V_bd (pc := 28) C hL rfl hrun (fun rr1 e1 => Z_runV (rest := []) C hH (m_X4_isOver hl9 e1) wV_X4_232 c19 rfl (by decide) rfl rfl ⟨by decide, by decide⟩ rfl (Nat.le_of_ble_eq_true rfl) hl.1 dX4_optIn_28) (fun v17 h18 H locs cells slots hH hL hrun => ?_)
    refine lv_if_ne (tgt := 45) (pc := 31) hx hb dX4_optIn_31 (by decide) (fun c_ => ?_) (fun c_ => ?_)
    · have hrun := ite_f hrun c_
      exact b_X4_optIn_45 C v13 h18 H locs cells slots ls hH hL (lv_sub hl [0] rfl) hrun
    · have hrun := ite_t hrun c_
      refine V_aload_n (pc := 34) hx hb dX4_optIn_34 rfl (lv_at hl 0 rfl) ?_
      obtain ⟨c20, hrun⟩ := gd_some hrun
      refine V_getI (pc := 35) C hH fr_X4_225 dX4_optIn_35 c20 rfl ?_
      refine lv_if_eq (tgt := 45) (pc := 38) hx hb dX4_optIn_38 (by decide) (fun c_ => ?_) (fun c_ => ?_)
      · have hrun := ite_t hrun c_
        exact b_X4_optIn_45 C v13 h18 H locs cells slots ls hH hL (lv_sub hl [0] rfl) hrun
      · have hrun := ite_f hrun c_
        refine lv_iconst (v := (1 : Int32)) (pc := 41) hx hb dX4_optIn_41 (by decide) ?_
        refine lv_goto (tgt := 46) (pc := 42) hx hb dX4_optIn_42 (by decide) ?_
        exact b_X4_optIn_46 C v13 (1 : Int32) h18 H locs cells slots ls hH hL (lv_sub hl [0] rfl) hrun
  · have hrun := ite_t hrun c_
    refine lv_iconst (v := (0 : Int32)) (pc := 13) hx hb dX4_optIn_13 (by decide) ?_
    exact V_zret (pc := 14) C hH hL (Or.inl rfl) hrun dX4_optIn_14

theorem m_X4_optIn {l : Launch} {D : va_G} {Hs : Heap} {h : Hp} {rr : (Int32 ⊕ Ex) × Hp} (hl9 : l.stackTraces = false) {x0 : Nat} {x1 : Int32} (hrun : f_X4_optIn x0 x1 h = some rr) : CM l yX4_optIn (ws_ yX4_optIn cX4_optIn 4 (some .boolean)) 4 64 iI [rv x0, .int x1] D Hs h rr := by
  refine CM.of (lv := [(0, rv x0), (1, .int x1)]) (plainFor_of_name (by decide)) hl9 (by simp [lv_args, rv_cat, cat_i, cat_l, cat_f, cat_d]) (by simp [lg_sl, rv_cat, cat_i, cat_l, cat_f, cat_d]) ?_
  intro p e R s m args below meth c H ls C hH hl hin
  exact b_X4_optIn C x0 x1 _ H [] _ _ ls hH (fun _ q => nomatch q) (lv_sub hl [0, 1] rfl) hrun

/-! java/util/ArrayList.rangeCheckForAdd(I)V -/
def f_J2_rangeCheckForAdd_12  (h : Hp) : Rt Unit :=
  none
def f_J2_rangeCheckForAdd  (x0 : Nat) (x1 : Int32) (h : Hp) : Rt Unit :=
  gd (kC h x0 = 18) <| if (kI h 1702 x0) < x1 then
  (f_J2_rangeCheckForAdd_12  h)
  else
  (if 0 ≤ x1 then
  (some (.inl (), h))
  else
  (f_J2_rangeCheckForAdd_12  h))
theorem b_J2_rangeCheckForAdd_12 {rr : (Unit ⊕ Ex) × Hp}  (C : CX p l R s m args meth c D Hs cJ2_rangeCheckForAdd "java/util/ArrayList" 2 none [] 1 0)  : ∀ (h : Hp) (H : Heap) (locs : List Loc) (cells slots : Nat) (ls : Array Slot), HP D Hs h H → LO Hs locs → lv_has ls 2 [] → f_J2_rangeCheckForAdd_12 h = some rr → W p l e R s m args below meth c H locs cells slots (ZM D Hs iV rr below args s) (F0 m 12 ls []) := by
  obtain ⟨⟨hx, hb, hml, hown, hts⟩, -⟩ := id C
  have hl9 := C.2.1.2.2.1
  intro h H locs cells slots ls hH hL hl hrun
  unfold f_J2_rangeCheckForAdd_12 at hrun
  cases hrun

theorem b_J2_rangeCheckForAdd {rr : (Unit ⊕ Ex) × Hp}  (C : CX p l R s m args meth c D Hs cJ2_rangeCheckForAdd "java/util/ArrayList" 2 none [] 1 0)  : ∀ (x0 : Nat) (x1 : Int32) (h : Hp) (H : Heap) (locs : List Loc) (cells slots : Nat) (ls : Array Slot), HP D Hs h H → LO Hs locs → lv_has ls 2 [(0, rv x0), (1, .int x1)] → f_J2_rangeCheckForAdd x0 x1 h = some rr → W p l e R s m args below meth c H locs cells slots (ZM D Hs iV rr below args s) (F0 m 0 ls []) := by
  obtain ⟨⟨hx, hb, hml, hown, hts⟩, -⟩ := id C
  have hl9 := C.2.1.2.2.1
  intro x0 x1 h H locs cells slots ls hH hL hl hrun
  unfold f_J2_rangeCheckForAdd at hrun
  refine lv_iload_n (pc := 0) hx hb dJ2_rangeCheckForAdd_0 rfl (lv_at hl 1 rfl) ?_
  refine V_aload_n (pc := 1) hx hb dJ2_rangeCheckForAdd_1 rfl (lv_at hl 0 rfl) ?_
  obtain ⟨c1, hrun⟩ := gd_some hrun
  refine V_getI (pc := 2) C hH fr_J2_48 dJ2_rangeCheckForAdd_2 c1 rfl ?_
  refine lv_icmp_gt (tgt := 12) (pc := 5) hx hb dJ2_rangeCheckForAdd_5 (by decide) (fun c_ => ?_) (fun c_ => ?_)
  · have hrun := ite_t hrun c_
    exact b_J2_rangeCheckForAdd_12 C h H locs cells slots ls hH hL (lv_sub hl [] rfl) hrun
  · have hrun := ite_f hrun c_
    refine lv_iload_n (pc := 8) hx hb dJ2_rangeCheckForAdd_8 rfl (lv_at hl 1 rfl) ?_
    refine lv_if_ge (tgt := 25) (pc := 9) hx hb dJ2_rangeCheckForAdd_9 (by decide) (fun c_ => ?_) (fun c_ => ?_)
    · have hrun := ite_t hrun c_
      exact V_vret (pc := 25) C hH hL hrun dJ2_rangeCheckForAdd_25
    · have hrun := ite_f hrun c_
      exact b_J2_rangeCheckForAdd_12 C h H locs cells slots ls hH hL (lv_sub hl [] rfl) hrun

theorem m_J2_rangeCheckForAdd {l : Launch} {D : va_G} {Hs : Heap} {h : Hp} {rr : (Unit ⊕ Ex) × Hp} (hl9 : l.stackTraces = false) {x0 : Nat} {x1 : Int32} (hrun : f_J2_rangeCheckForAdd x0 x1 h = some rr) : CM l yJ2_rangeCheckForAdd (ws_ yJ2_rangeCheckForAdd cJ2_rangeCheckForAdd 2 none) 1 0 iV [rv x0, .int x1] D Hs h rr := by
  refine CM.of (lv := [(0, rv x0), (1, .int x1)]) (by decide +kernel) hl9 (by simp [lv_args, rv_cat, cat_i, cat_l, cat_f, cat_d]) (by simp [lg_sl, rv_cat, cat_i, cat_l, cat_f, cat_d]) ?_
  intro p e R s m args below meth c H ls C hH hl hin
  exact b_J2_rangeCheckForAdd C x0 x1 _ H [] _ _ ls hH (fun _ q => nomatch q) (lv_sub hl [0, 1] rfl) hrun

/-! java/util/ArrayList.add(ILjava/lang/Object;)V -/
def f_J2_add_3_38  (x0 : Nat) (x1 : Int32) (x2 : Nat) (x3 : Int32) (x4 : Nat) (h : Hp) : Rt Unit :=
  ac_ h x4 x1 x4 (x1 + (1 : Int32)) (x3 - x1) fun h1 => gd (kC h1 x4 = 103 ∧ ixo x1 (kN h1 x4)) <| gd (x2 = 0 ∨ kC h1 x2 ≠ 0) <| vl (tR h1 x4 (x1).toNatClampNeg x2) fun h4 => gd (kC h4 x0 = 18) <| vl (sI h4 1702 x0 (x3 + (1 : Int32))) fun h6 => some (.inl (), h6)
def f_J2_add_3  (x0 : Nat) (x1 : Int32) (x2 : Nat) (h : Hp) : Rt Unit :=
  gd (kC h x0 = 18) <| bd (f_J2_rangeCheckForAdd x0 x1 h) fun _ h8 => gd (kC h8 x0 = 18) <| vl (sI h8 1700 x0 ((kI h8 1700 x0) + (1 : Int32))) fun h11 => gd (kC h11 x0 = 18) <| vl (kI h11 1702 x0) fun v13 => vl (kR h11 1701 x0) fun v14 => gd (kC h11 (kR h11 1701 x0) = 103 ∨ (kR h11 1701 x0) = kE h11) <| if (kI h11 1702 x0) = (Int32.ofNat (kN h11 (kR h11 1701 x0))) then
  (bd (f_J2_grow x0 h11) fun v16 h17 => f_J2_add_3_38 x0 x1 x2 v13 v16 h17)
  else
  (f_J2_add_3_38 x0 x1 x2 v13 v14 h11)
theorem b_J2_add_3_38 {rr : (Unit ⊕ Ex) × Hp}  (C : CX p l R s m args meth c D Hs cJ2_add_3 "java/util/ArrayList" 5 none [] 6 287)  : ∀ (x0 : Nat) (x1 : Int32) (x2 : Nat) (x3 : Int32) (x4 : Nat) (h : Hp) (H : Heap) (locs : List Loc) (cells slots : Nat) (ls : Array Slot), HP D Hs h H → LO Hs locs → lv_has ls 5 [(0, rv x0), (1, .int x1), (2, rv x2), (3, .int x3), (4, rv x4)] → f_J2_add_3_38 x0 x1 x2 x3 x4 h = some rr → W p l e R s m args below meth c H locs cells slots (ZM D Hs iV rr below args s) (F0 m 38 ls []) := by
  obtain ⟨⟨hx, hb, hml, hown, hts⟩, -⟩ := id C
  have hl9 := C.2.1.2.2.1
  intro x0 x1 x2 x3 x4 h H locs cells slots ls hH hL hl hrun
  unfold f_J2_add_3_38 at hrun
  refine V_aload (pc := 38) hx hb dJ2_add_3_38 (lv_at hl 4 rfl) ?_
  refine lv_iload_n (pc := 40) hx hb dJ2_add_3_40 rfl (lv_at hl 1 rfl) ?_
  refine V_aload (pc := 41) hx hb dJ2_add_3_41 (lv_at hl 4 rfl) ?_
  refine lv_iload_n (pc := 43) hx hb dJ2_add_3_43 rfl (lv_at hl 1 rfl) ?_
  refine lv_iconst (v := (1 : Int32)) (pc := 44) hx hb dJ2_add_3_44 (by decide) ?_
  refine lv_iadd (pc := 45) hx hb dJ2_add_3_45 ?_
  refine lv_iload_n (pc := 46) hx hb dJ2_add_3_46 rfl (lv_at hl 3 rfl) ?_
  refine lv_iload_n (pc := 47) hx hb dJ2_add_3_47 rfl (lv_at hl 1 rfl) ?_
  refine lv_isub (pc := 48) hx hb dJ2_add_3_48 ?_
  refine V_copy (pc := 49) C hH hL q1285 dJ2_add_3_49 hrun (by decide) (by simp [csum, rv_cat, cat_i, cat_l, cat_f, cat_d, nativeFrameWords]) hl.1 (fun h1 H locs hH hL hrun => ?_)
  refine V_aload (pc := 52) hx hb dJ2_add_3_52 (lv_at hl 4 rfl) ?_
  refine lv_iload_n (pc := 54) hx hb dJ2_add_3_54 rfl (lv_at hl 1 rfl) ?_
  refine V_aload_n (pc := 55) hx hb dJ2_add_3_55 rfl (lv_at hl 2 rfl) ?_
  obtain ⟨c2, hrun⟩ := gd_some hrun
  obtain ⟨c3, hrun⟩ := gd_some hrun
  refine V_aast (pc := 56) C hH hL dJ2_add_3_56 c2 c3 hrun (fun h4 H locs hH hL hrun => ?_)
  refine V_aload_n (pc := 57) hx hb dJ2_add_3_57 rfl (lv_at hl 0 rfl) ?_
  refine lv_iload_n (pc := 58) hx hb dJ2_add_3_58 rfl (lv_at hl 3 rfl) ?_
  refine lv_iconst (v := (1 : Int32)) (pc := 59) hx hb dJ2_add_3_59 (by decide) ?_
  refine lv_iadd (pc := 60) hx hb dJ2_add_3_60 ?_
  obtain ⟨c5, hrun⟩ := gd_some hrun
  refine V_putI (pc := 61) C hH hL fl_J2_48 dJ2_add_3_61 c5 (fok_i _) rfl (fun q => Bool.noConfusion q) hrun (fun h6 H locs hH hL hrun => ?_)
  exact V_vret (pc := 64) C hH hL hrun dJ2_add_3_64

theorem b_J2_add_3 {rr : (Unit ⊕ Ex) × Hp}  (C : CX p l R s m args meth c D Hs cJ2_add_3 "java/util/ArrayList" 5 none [] 6 287)  : ∀ (x0 : Nat) (x1 : Int32) (x2 : Nat) (h : Hp) (H : Heap) (locs : List Loc) (cells slots : Nat) (ls : Array Slot), HP D Hs h H → LO Hs locs → lv_has ls 5 [(0, rv x0), (1, .int x1), (2, rv x2)] → f_J2_add_3 x0 x1 x2 h = some rr → W p l e R s m args below meth c H locs cells slots (ZM D Hs iV rr below args s) (F0 m 0 ls []) := by
  obtain ⟨⟨hx, hb, hml, hown, hts⟩, -⟩ := id C
  have hl9 := C.2.1.2.2.1
  intro x0 x1 x2 h H locs cells slots ls hH hL hl hrun
  unfold f_J2_add_3 at hrun
  refine V_aload_n (pc := 0) hx hb dJ2_add_3_0 rfl (lv_at hl 0 rfl) ?_
  refine lv_iload_n (pc := 1) hx hb dJ2_add_3_1 rfl (lv_at hl 1 rfl) ?_
  obtain ⟨c9, hrun⟩ := gd_some hrun
  refine V_bd (pc := 2) C hL rfl hrun (fun rr1 e1 => Z_runV (rest := []) C hH (m_J2_rangeCheckForAdd hl9 e1) wV_J2_135 c9 rfl (by decide) rfl rfl ⟨by decide, by decide⟩ rfl (Nat.le_of_ble_eq_true rfl) hl.1 dJ2_add_3_2) (fun _ h8 H locs cells slots hH hL hrun => ?_)
  refine V_aload_n (pc := 5) hx hb dJ2_add_3_5 rfl (lv_at hl 0 rfl) ?_
  refine lv_dup (pc := 6) hx hb dJ2_add_3_6 (rv_cat _) ?_
  obtain ⟨c10, hrun⟩ := gd_some hrun
  refine V_getI (pc := 7) C hH fr_J2_63 dJ2_add_3_7 c10 rfl ?_
  refine lv_iconst (v := (1 : Int32)) (pc := 10) hx hb dJ2_add_3_10 (by decide) ?_
  refine lv_iadd (pc := 11) hx hb dJ2_add_3_11 ?_
  refine V_putI (pc := 12) C hH hL fl_J2_63 dJ2_add_3_12 c10 (fok_i _) rfl (fun q => Bool.noConfusion q) hrun (fun h11 H locs hH hL hrun => ?_)
  refine V_aload_n (pc := 15) hx hb dJ2_add_3_15 rfl (lv_at hl 0 rfl) ?_
  obtain ⟨c12, hrun⟩ := gd_some hrun
  refine V_getI (pc := 16) C hH fr_J2_48 dJ2_add_3_16 c12 rfl ?_
  refine lv_dup (pc := 19) hx hb dJ2_add_3_19 rfl ?_
  refine lv_topi (fun v13 ev13 => ?_)
  have hrun := vl_at hrun v13 ev13
  refine lv_istore_n (i := 3) (lv' := [(3, .int v13), (0, rv x0), (1, .int x1), (2, rv x2)]) (pc := 20) hx hb dJ2_add_3_20 rfl hl (by decide) (by simp [rv_cat, cat_i, cat_l, cat_f, cat_d]) (fun ls hl => ?_)
  refine V_aload_n (pc := 21) hx hb dJ2_add_3_21 rfl (lv_at hl 1 rfl) ?_
  refine V_getR (pc := 22) C hH fr_J2_9 dJ2_add_3_22 c12 rfl ?_
  refine lv_dup (pc := 25) hx hb dJ2_add_3_25 (rv_cat _) ?_
  refine V_topr (fun v14 ev14 => ?_)
  have hrun := vl_at hrun v14 ev14
  refine V_astore (i := 4) (lv' := [(4, rv v14), (3, .int v13), (0, rv x0), (1, .int x1), (2, rv x2)]) (pc := 26) hx hb dJ2_add_3_26 hl (by decide) rfl (fun ls hl => ?_)
  obtain ⟨c15, hrun⟩ := gd_some hrun
  refine V_alenE (pc := 28) C hH dJ2_add_3_28 c15 ?_
  refine lv_icmp_ne (tgt := 38) (pc := 29) hx hb dJ2_add_3_29 (by decide) (fun c_ => ?_) (fun c_ => ?_)
  · have hrun := ite_f hrun c_
    exact b_J2_add_3_38 C x0 x1 x2 v13 v14 h11 H locs cells slots ls hH hL (lv_sub hl [2, 3, 4, 1, 0] rfl) hrun
  · have hrun := ite_t hrun c_
    refine V_aload_n (pc := 32) hx hb dJ2_add_3_32 rfl (lv_at hl 2 rfl) ?_
    refine V_bd (pc := 33) C hL rfl hrun (fun rr1 e1 => Z_runV (rest := []) C hH (m_J2_grow hl9 e1) wV_J2_129 c12 rfl (by decide) rfl rfl ⟨by decide, by decide⟩ rfl (Nat.le_of_ble_eq_true rfl) hl.1 dJ2_add_3_33) (fun v16 h17 H locs cells slots hH hL hrun => ?_)
    refine V_astore (i := 4) (lv' := [(4, rv v16), (3, .int v13), (0, rv x0), (1, .int x1), (2, rv x2)]) (pc := 36) hx hb dJ2_add_3_36 hl (by decide) rfl (fun ls hl => ?_)
    exact b_J2_add_3_38 C x0 x1 x2 v13 v16 h17 H locs cells slots ls hH hL (lv_sub hl [2, 3, 4, 1, 0] rfl) hrun

theorem m_J2_add_3 {l : Launch} {D : va_G} {Hs : Heap} {h : Hp} {rr : (Unit ⊕ Ex) × Hp} (hl9 : l.stackTraces = false) {x0 : Nat} {x1 : Int32} {x2 : Nat} (hrun : f_J2_add_3 x0 x1 x2 h = some rr) : CM l yJ2_add_3 (ws_ yJ2_add_3 cJ2_add_3 5 none) 6 287 iV [rv x0, .int x1, rv x2] D Hs h rr := by
  refine CM.of (lv := [(0, rv x0), (1, .int x1), (2, rv x2)]) (by decide +kernel) hl9 (by simp [lv_args, rv_cat, cat_i, cat_l, cat_f, cat_d]) (by simp [lg_sl, rv_cat, cat_i, cat_l, cat_f, cat_d]) ?_
  intro p e R s m args below meth c H ls C hH hl hin
  exact b_J2_add_3 C x0 x1 x2 _ H [] _ _ ls hH (fun _ q => nomatch q) (lv_sub hl [0, 1, 2] rfl) hrun

/-! java/util/ArrayList.isEmpty()Z -/
def f_J2_isEmpty_12  (y0 : Int32) (h : Hp) : Rt Int32 :=
  gd (b01 y0) <| some (.inl y0, h)
def f_J2_isEmpty  (x0 : Nat) (h : Hp) : Rt Int32 :=
  gd (kC h x0 = 18) <| if (kI h 1702 x0) = 0 then
  (f_J2_isEmpty_12 (1 : Int32) h)
  else
  (f_J2_isEmpty_12 (0 : Int32) h)
theorem b_J2_isEmpty_12 {rr : (Int32 ⊕ Ex) × Hp}  (C : CX p l R s m args meth c D Hs cJ2_isEmpty "java/util/ArrayList" 1 (some .boolean) [] 1 0)  : ∀ (y0 : Int32) (h : Hp) (H : Heap) (locs : List Loc) (cells slots : Nat) (ls : Array Slot), HP D Hs h H → LO Hs locs → lv_has ls 1 [] → f_J2_isEmpty_12 y0 h = some rr → W p l e R s m args below meth c H locs cells slots (ZM D Hs iI rr below args s) (F0 m 12 ls [.int y0]) := by
  obtain ⟨⟨hx, hb, hml, hown, hts⟩, -⟩ := id C
  have hl9 := C.2.1.2.2.1
  intro y0 h H locs cells slots ls hH hL hl hrun
  unfold f_J2_isEmpty_12 at hrun
  obtain ⟨c1, hrun⟩ := gd_some hrun
  exact V_zret (pc := 12) C hH hL c1 hrun dJ2_isEmpty_12

theorem b_J2_isEmpty {rr : (Int32 ⊕ Ex) × Hp}  (C : CX p l R s m args meth c D Hs cJ2_isEmpty "java/util/ArrayList" 1 (some .boolean) [] 1 0)  : ∀ (x0 : Nat) (h : Hp) (H : Heap) (locs : List Loc) (cells slots : Nat) (ls : Array Slot), HP D Hs h H → LO Hs locs → lv_has ls 1 [(0, rv x0)] → f_J2_isEmpty x0 h = some rr → W p l e R s m args below meth c H locs cells slots (ZM D Hs iI rr below args s) (F0 m 0 ls []) := by
  obtain ⟨⟨hx, hb, hml, hown, hts⟩, -⟩ := id C
  have hl9 := C.2.1.2.2.1
  intro x0 h H locs cells slots ls hH hL hl hrun
  unfold f_J2_isEmpty at hrun
  refine V_aload_n (pc := 0) hx hb dJ2_isEmpty_0 rfl (lv_at hl 0 rfl) ?_
  obtain ⟨c2, hrun⟩ := gd_some hrun
  refine V_getI (pc := 1) C hH fr_J2_48 dJ2_isEmpty_1 c2 rfl ?_
  refine lv_if_ne (tgt := 11) (pc := 4) hx hb dJ2_isEmpty_4 (by decide) (fun c_ => ?_) (fun c_ => ?_)
  · have hrun := ite_f hrun c_
    refine lv_iconst (v := (0 : Int32)) (pc := 11) hx hb dJ2_isEmpty_11 (by decide) ?_
    exact b_J2_isEmpty_12 C (0 : Int32) h H locs cells slots ls hH hL (lv_sub hl [] rfl) hrun
  · have hrun := ite_t hrun c_
    refine lv_iconst (v := (1 : Int32)) (pc := 7) hx hb dJ2_isEmpty_7 (by decide) ?_
    refine lv_goto (tgt := 12) (pc := 8) hx hb dJ2_isEmpty_8 (by decide) ?_
    exact b_J2_isEmpty_12 C (1 : Int32) h H locs cells slots ls hH hL (lv_sub hl [] rfl) hrun

theorem m_J2_isEmpty {l : Launch} {D : va_G} {Hs : Heap} {h : Hp} {rr : (Int32 ⊕ Ex) × Hp} (hl9 : l.stackTraces = false) {x0 : Nat} (hrun : f_J2_isEmpty x0 h = some rr) : CM l yJ2_isEmpty (ws_ yJ2_isEmpty cJ2_isEmpty 1 (some .boolean)) 1 0 iI [rv x0] D Hs h rr := by
  refine CM.of (lv := [(0, rv x0)]) (by decide +kernel) hl9 (by simp [lv_args, rv_cat, cat_i, cat_l, cat_f, cat_d]) (by simp [lg_sl, rv_cat, cat_i, cat_l, cat_f, cat_d]) ?_
  intro p e R s m args below meth c H ls C hH hl hin
  exact b_J2_isEmpty C x0 _ H [] _ _ ls hH (fun _ q => nomatch q) (lv_sub hl [0] rfl) hrun
end WK5

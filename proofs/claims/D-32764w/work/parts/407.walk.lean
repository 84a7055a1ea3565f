section WK7
variable {p : Program} {l : Launch} {e : Env} {R : Room} {s : State} {m : MethodId} {args : Array Value} {below : List Frame} {meth : Method} {c : Code} {D : va_G} {Hs : Heap} {F X : Nat}
/-! MassclaimModel.defendant(II)I -/
def f_X4_defendant_81  (h : Hp) : Rt Int32 :=
  some (.inl (0 : Int32), h)
def f_X4_defendant_74  (x0 : Nat) (x1 : Int32) (x2 : Int32) (y0 : Nat) (y1 : Int32) (h : Hp) : Rt Int32 :=
  gd (kC h y0 = 4) <| bd (f_X4_isGood y0 y1 (2 : Int32) h) fun v1 h2 => if v1 = 0 then
  (f_X4_defendant_81  h2)
  else
  (nw h2 9 5 fun q4 h5 => gd (kC h5 q4 = 9) <| bd (f_X9_init q4 h5) fun _ h7 => gd (kC h7 q4 = 9) <| vl (sI h7 800 q4 x1) fun h10 => gd (kC h10 q4 = 9) <| vl (sL h10 801 q4 (x2.toInt64)) fun h12 => gd (kC h12 x0 = 4) <| gd (kC h12 (kR h12 308 x0) = 18) <| bd (f_J2_add (kR h12 308 x0) q4 h12) fun v14 h15 => gd (kC h15 x0 = 4) <| gd (kC h15 (kR h15 308 x0) = 18) <| bd (f_J2_size (kR h15 308 x0) h15) fun v18 h19 => some (.inl (v18 - (1 : Int32)), h19))
def f_X4_defendant_73  (x0 : Nat) (x1 : Int32) (x2 : Int32) (y0 : Nat) (h : Hp) : Rt Int32 :=
  f_X4_defendant_74 x0 x1 x2 y0 (0 : Int32) h
def f_X4_defendant_40  (x0 : Nat) (x1 : Int32) (x2 : Int32) (y0 : Int32) (h : Hp) : Rt Int32 :=
  gd (kC h x0 = 4) <| bd (f_X4_isGood x0 y0 (1 : Int32) h) fun v21 h22 => if v21 = 0 then
  (f_X4_defendant_81  h22)
  else
  (gd (kC h22 x0 = 4) <| gd (kC h22 (kR h22 308 x0) = 18) <| bd (f_J2_size (kR h22 308 x0) h22) fun v25 h26 => if (4 : Int32) ≤ v25 then
  (f_X4_defendant_73 x0 x1 x2 x0 h26)
  else
  (gd (kC h26 x0 = 4) <| bd (f_X4_isOver x0 h26) fun v28 h29 => if v28 = 0 then
  (f_X4_defendant_74 x0 x1 x2 x0 (1 : Int32) h29)
  else
  (f_X4_defendant_73 x0 x1 x2 x0 h29)))
def f_X4_defendant_39  (x0 : Nat) (x1 : Int32) (x2 : Int32) (h : Hp) : Rt Int32 :=
  f_X4_defendant_40 x0 x1 x2 (0 : Int32) h
def f_X4_defendant  (x0 : Nat) (x1 : Int32) (x2 : Int32) (h : Hp) : Rt Int32 :=
  bd (f_X4_isWithin (x1.toInt64) (1 : Int64) (100 : Int64) h) fun v31 h32 => if v31 = 0 then
  (f_X4_defendant_39 x0 x1 x2 h32)
  else
  (bd (f_X4_isWithin (x2.toInt64) (0 : Int64) (1000000000 : Int64) h32) fun v33 h34 => if v33 = 0 then
  (f_X4_defendant_39 x0 x1 x2 h34)
  else
  (gd (kC h34 x0 = 4) <| bd (f_X4_shares x0 h34) fun v35 h36 => if (100 : Int32) < (v35 + x1) then
  (f_X4_defendant_39 x0 x1 x2 h36)
  else
  (f_X4_defendant_40 x0 x1 x2 (1 : Int32) h36)))
theorem b_X4_defendant_81 {rr : (Int32 ⊕ Ex) × Hp}  (C : CX p l R s m args meth c D Hs cX4_defendant "MassclaimModel" 5 (some .int) [] 8 331)  : ∀ (h : Hp) (H : Heap) (locs : List Loc) (cells slots : Nat) (ls : Array Slot), HP D Hs h H → LO Hs locs → lv_has ls 5 [] → f_X4_defendant_81 h = some rr → W p l e R s m args below meth c H locs cells slots (ZM D Hs iI rr below args s) (F0 m 81 ls []) := by
  obtain ⟨⟨hx, hb, hml, hown, hts⟩, -⟩ := id C
  have hl9 := C.2.1.2.2.1
  intro h H locs cells slots ls hH hL hl hrun
  unfold f_X4_defendant_81 at hrun
  refine lv_iconst (v := (0 : Int32)) (pc := 81) hx hb dX4_defendant_81 (by decide) ?_
  exact V_iret (pc := 82) C hH hL hrun dX4_defendant_82

theorem b_X4_defendant_74 {rr : (Int32 ⊕ Ex) × Hp}  (C : CX p l R s m args meth c D Hs cX4_defendant "MassclaimModel" 5 (some .int) [] 8 331)  : ∀ (x0 : Nat) (x1 : Int32) (x2 : Int32) (y0 : Nat) (y1 : Int32) (h : Hp) (H : Heap) (locs : List Loc) (cells slots : Nat) (ls : Array Slot), HP D Hs h H → LO Hs locs → lv_has ls 5 [(0, rv x0), (1, .int x1), (2, .int x2)] → f_X4_defendant_74 x0 x1 x2 y0 y1 h = some rr → W p l e R s m args below meth c H locs cells slots (ZM D Hs iI rr below args s) (F0 m 74 ls [.int y1, rv y0]) := by
  obtain ⟨⟨hx, hb, hml, hown, hts⟩, -⟩ := id C
  have hl9 := C.2.1.2.2.1
  intro x0 x1 x2 y0 y1 h H locs cells slots ls hH hL hl hrun
  unfold f_X4_defendant_74 at hrun
  refine lv_iconst (v := (2 : Int32)) (pc := 74) hx hb dX4_defendant_74 (by decide) ?_
  obtain ⟨c3, hrun⟩ := gd_some hrun
  refine V_bd (pc := 75) C hL rfl hrun (fun rr1 e1 => Z_runV (rest := []) C hH (m_X4_isGood hl9 e1) wV_X4_104 c3 rfl (by decide) rfl rfl ⟨by decide, by decide⟩ rfl (Nat.le_of_ble_eq_true rfl) hl.1 dX4_defendant_75) (fun v1 h2 H locs cells slots hH hL hrun => ?_)
  refine lv_if_ne (tgt := 83) (pc := 78) hx hb dX4_defendant_78 (by decide) (fun c_ => ?_) (fun c_ => ?_)
  · have hrun := ite_f hrun c_
    refine V_new (pc := 83) C hH nl_X4_295 dX4_defendant_83 hrun (fun q4 h5 H cells slots hH hrun => ?_)
    refine lv_dup (pc := 86) hx hb dX4_defendant_86 (rv_cat _) ?_
    obtain ⟨c8, hrun⟩ := gd_some hrun
    refine V_bd (pc := 87) C hL rfl hrun (fun rr1 e1 => Z_runIN (rest := [rv q4]) C hH (m_X9_init hl9 e1) wIN_X4_307 (hH.pos c8) rfl ⟨by decide, by decide⟩ rfl (by simp [csum, rv_cat, cat_i, cat_l, cat_f, cat_d]) hl.1 dX4_defendant_87) (fun _ h7 H locs cells slots hH hL hrun => ?_)
    refine V_astore (i := 4) (lv' := [(4, rv q4), (0, rv x0), (1, .int x1), (2, .int x2)]) (pc := 90) hx hb dX4_defendant_90 hl (by decide) rfl (fun ls hl => ?_)
    refine V_aload (pc := 92) hx hb dX4_defendant_92 (lv_at hl 0 rfl) ?_
    refine lv_iload_n (pc := 94) hx hb dX4_defendant_94 rfl (lv_at hl 2 rfl) ?_
    obtain ⟨c9, hrun⟩ := gd_some hrun
    refine V_putI (pc := 95) C hH hL fl_X4_297 dX4_defendant_95 c9 (fok_i _) rfl (fun q => Bool.noConfusion q) hrun (fun h10 H locs hH hL hrun => ?_)
    refine V_aload (pc := 98) hx hb dX4_defendant_98 (lv_at hl 0 rfl) ?_
    refine lv_iload_n (pc := 100) hx hb dX4_defendant_100 rfl (lv_at hl 3 rfl) ?_
    refine lv_i2l (pc := 101) hx hb dX4_defendant_101 rfl ?_
    obtain ⟨c11, hrun⟩ := gd_some hrun
    refine V_putL (pc := 102) C hH hL fl_X4_308 dX4_defendant_102 c11 (fok_l _) rfl (fun q => Bool.noConfusion q) hrun (fun h12 H locs hH hL hrun => ?_)
    refine V_aload_n (pc := 105) hx hb dX4_defendant_105 rfl (lv_at hl 1 rfl) ?_
    obtain ⟨c13, hrun⟩ := gd_some hrun
    refine V_getR (pc := 106) C hH fr_X4_23 dX4_defendant_106 c13 rfl ?_
    refine V_aload (pc := 109) hx hb dX4_defendant_109 (lv_at hl 0 rfl) ?_
    obtain ⟨c16, hrun⟩ := gd_some hrun
    refine V_bd (pc := 111) C hL rfl hrun (fun rr1 e1 => Z_runV (rest := []) C hH (m_J2_add hl9 e1) wV_X4_186 c16 rfl (by decide) rfl rfl ⟨by decide, by decide⟩ rfl (Nat.le_of_ble_eq_true rfl) hl.1 dX4_defendant_111) (fun v14 h15 H locs cells slots hH hL hrun => ?_)
    refine lv_pop (pc := 114) hx hb dX4_defendant_114 rfl ?_
    refine V_aload_n (pc := 115) hx hb dX4_defendant_115 rfl (lv_at hl 1 rfl) ?_
    obtain ⟨c17, hrun⟩ := gd_some hrun
    refine V_getR (pc := 116) C hH fr_X4_23 dX4_defendant_116 c17 rfl ?_
    obtain ⟨c20, hrun⟩ := gd_some hrun
    refine V_bd (pc := 119) C hL rfl hrun (fun rr1 e1 => Z_runV (rest := []) C hH (m_J2_size hl9 e1) wV_X4_94 c20 rfl (by decide) rfl rfl ⟨by decide, by decide⟩ rfl (Nat.le_of_ble_eq_true rfl) hl.1 dX4_defendant_119) (fun v18 h19 H locs cells slots hH hL hrun => ?_)
    refine lv_iconst (v := (1 : Int32)) (pc := 122) hx hb dX4_defendant_122 (by decide) ?_
    refine lv_isub (pc := 123) hx hb dX4_defendant_123 ?_
    exact V_iret (pc := 124) C hH hL hrun dX4_defendant_124
  · have hrun := ite_t hrun c_
    exact b_X4_defendant_81 C h2 H locs cells slots ls hH hL (lv_sub hl [] rfl) hrun

theorem b_X4_defendant_73 {rr : (Int32 ⊕ Ex) × Hp}  (C : CX p l R s m args meth c D Hs cX4_defendant "MassclaimModel" 5 (some .int) [] 8 331)  : ∀ (x0 : Nat) (x1 : Int32) (x2 : Int32) (y0 : Nat) (h : Hp) (H : Heap) (locs : List Loc) (cells slots : Nat) (ls : Array Slot), HP D Hs h H → LO Hs locs → lv_has ls 5 [(0, rv x0), (1, .int x1), (2, .int x2)] → f_X4_defendant_73 x0 x1 x2 y0 h = some rr → W p l e R s m args below meth c H locs cells slots (ZM D Hs iI rr below args s) (F0 m 73 ls [rv y0]) := by
  obtain ⟨⟨hx, hb, hml, hown, hts⟩, -⟩ := id C
  have hl9 := C.2.1.2.2.1
  intro x0 x1 x2 y0 h H locs cells slots ls hH hL hl hrun
  unfold f_X4_defendant_73 at hrun
  refine lv_iconst (v := (0 : Int32)) (pc := 73) hx hb dX4_defendant_73 (by decide) ?_
  exact b_X4_defendant_74 C x0 x1 x2 y0 (0 : Int32) h H locs cells slots ls hH hL (lv_sub hl [0, 1, 2] rfl) hrun

theorem b_X4_defendant_40 {rr : (Int32 ⊕ Ex) × Hp}  (C : CX p l R s m args meth c D Hs cX4_defendant "MassclaimModel" 5 (some .int) [] 8 331)  : ∀ (x0 : Nat) (x1 : Int32) (x2 : Int32) (y0 : Int32) (h : Hp) (H : Heap) (locs : List Loc) (cells slots : Nat) (ls : Array Slot), HP D Hs h H → LO Hs locs → lv_has ls 5 [(0, rv x0), (1, .int x1), (2, .int x2)] → f_X4_defendant_40 x0 x1 x2 y0 h = some rr → W p l e R s m args below meth c H locs cells slots (ZM D Hs iI rr below args s) (F0 m 40 ls [.int y0]) := by
  obtain ⟨⟨hx, hb, hml, hown, hts⟩, -⟩ := id C
  have hl9 := C.2.1.2.2.1
  intro x0 x1 x2 y0 h H locs cells slots ls hH hL hl hrun
  unfold f_X4_defendant_40 at hrun
  refine lv_istore_n (i := 3) (lv' := [(3, .int y0), (0, rv x0), (1, .int x1), (2, .int x2)]) (pc := 40) hx hb dX4_defendant_40 rfl hl (by decide) rfl (fun ls hl => ?_)
  refine V_aload_n (pc := 41) hx hb dX4_defendant_41 rfl (lv_at hl 1 rfl) ?_
  refine lv_iload_n (pc := 42) hx hb dX4_defendant_42 rfl (lv_at hl 0 rfl) ?_
  refine lv_iconst (v := (1 : Int32)) (pc := 43) hx hb dX4_defendant_43 (by decide) ?_
  obtain ⟨c23, hrun⟩ := gd_some hrun
  refine V_bd (pc := 44) C hL rfl hrun (fun rr1 e1 => Z_runV (rest := []) C hH (m_X4_isGood hl9 e1) wV_X4_104 c23 rfl (by decide) rfl rfl ⟨by decide, by decide⟩ rfl (Nat.le_of_ble_eq_true rfl) hl.1 dX4_defendant_44) (fun v21 h22 H locs cells slots hH hL hrun => ?_)
  refine lv_if_eq (tgt := 81) (pc := 47) hx hb dX4_defendant_47 (by decide) (fun c_ => ?_) (fun c_ => ?_)
  · have hrun := ite_t hrun c_
    exact b_X4_defendant_81 C h22 H locs cells slots ls hH hL (lv_sub hl [] rfl) hrun
  · have hrun := ite_f hrun c_
    refine V_aload_n (pc := 50) hx hb dX4_defendant_50 rfl (lv_at hl 1 rfl) ?_
    refine V_aload_n (pc := 51) hx hb dX4_defendant_51 rfl (lv_at hl 1 rfl) ?_
    obtain ⟨c24, hrun⟩ := gd_some hrun
    refine V_getR (pc := 52) C hH fr_X4_23 dX4_defendant_52 c24 rfl ?_
    obtain ⟨c27, hrun⟩ := gd_some hrun
    refine V_bd (pc := 55) C hL rfl hrun (fun rr1 e1 => Z_runV (rest := [rv x0]) C hH (m_J2_size hl9 e1) wV_X4_94 c27 rfl (by decide) rfl rfl ⟨by decide, by decide⟩ rfl (by simp [csum, rv_cat, cat_i, cat_l, cat_f, cat_d]) hl.1 dX4_defendant_55) (fun v25 h26 H locs cells slots hH hL hrun => ?_)
    refine lv_iconst (v := (4 : Int32)) (pc := 58) hx hb dX4_defendant_58 (by decide) ?_
    refine lv_icmp_ge (tgt := 73) (pc := 59) hx hb dX4_defendant_59 (by decide) (fun c_ => ?_) (fun c_ => ?_)
    · have hrun := ite_t hrun c_
      exact b_X4_defendant_73 C x0 x1 x2 x0 h26 H locs cells slots ls hH hL (lv_sub hl [1, 2, 3] rfl) hrun
    · have hrun := ite_f hrun c_
      refine V_aload_n (pc := 62) hx hb dX4_defendant_62 rfl (lv_at hl 1 rfl) ?_
      obtain ⟨c30, hrun⟩ := gd_some hrun
      refine V_bd (pc := 63) C hL rfl hrun (fun rr1 e1 => Z_runV (rest := [rv x0]) C hH (m_X4_isOver hl9 e1) wV_X4_232 c30 rfl (by decide) rfl rfl ⟨by decide, by decide⟩ rfl (by simp [csum, rv_cat, cat_i, cat_l, cat_f, cat_d]) hl.1 dX4_defendant_63) (fun v28 h29 H locs cells slots hH hL hrun => ?_)
      refine lv_if_ne (tgt := 73) (pc := 66) hx hb dX4_defendant_66 (by decide) (fun c_ => ?_) (fun c_ => ?_)
      · have hrun := ite_f hrun c_
        exact b_X4_defendant_73 C x0 x1 x2 x0 h29 H locs cells slots ls hH hL (lv_sub hl [1, 2, 3] rfl) hrun
      · have hrun := ite_t hrun c_
        refine lv_iconst (v := (1 : Int32)) (pc := 69) hx hb dX4_defendant_69 (by decide) ?_
        refine lv_goto (tgt := 74) (pc := 70) hx hb dX4_defendant_70 (by decide) ?_
        exact b_X4_defendant_74 C x0 x1 x2 x0 (1 : Int32) h29 H locs cells slots ls hH hL (lv_sub hl [1, 2, 3] rfl) hrun

theorem b_X4_defendant_39 {rr : (Int32 ⊕ Ex) × Hp}  (C : CX p l R s m args meth c D Hs cX4_defendant "MassclaimModel" 5 (some .int) [] 8 331)  : ∀ (x0 : Nat) (x1 : Int32) (x2 : Int32) (h : Hp) (H : Heap) (locs : List Loc) (cells slots : Nat) (ls : Array Slot), HP D Hs h H → LO Hs locs → lv_has ls 5 [(0, rv x0), (1, .int x1), (2, .int x2)] → f_X4_defendant_39 x0 x1 x2 h = some rr → W p l e R s m args below meth c H locs cells slots (ZM D Hs iI rr below args s) (F0 m 39 ls []) := by
  obtain ⟨⟨hx, hb, hml, hown, hts⟩, -⟩ := id C
  have hl9 := C.2.1.2.2.1
  intro x0 x1 x2 h H locs cells slots ls hH hL hl hrun
  unfold f_X4_defendant_39 at hrun
  refine lv_iconst (v := (0 : Int32)) (pc := 39) hx hb dX4_defendant_39 (by decide) ?_
  exact b_X4_defendant_40 C x0 x1 x2 (0 : Int32) h H locs cells slots ls hH hL (lv_sub hl [0, 1, 2] rfl) hrun

theorem b_X4_defendant {rr : (Int32 ⊕ Ex) × Hp}  (C : CX p l R s m args meth c D Hs cX4_defendant "MassclaimModel" 5 (some .int) [] 8 331)  : ∀ (x0 : Nat) (x1 : Int32) (x2 : Int32) (h : Hp) (H : Heap) (locs : List Loc) (cells slots : Nat) (ls : Array Slot), HP D Hs h H → LO Hs locs → lv_has ls 5 [(0, rv x0), (1, .int x1), (2, .int x2)] → f_X4_defendant x0 x1 x2 h = some rr → W p l e R s m args below meth c H locs cells slots (ZM D Hs iI rr below args s) (F0 m 0 ls []) := by
  obtain ⟨⟨hx, hb, hml, hown, hts⟩, -⟩ := id C
  have hl9 := C.2.1.2.2.1
  intro x0 x1 x2 h H locs cells slots ls hH hL hl hrun
  unfold f_X4_defendant at hrun
  refine lv_iload_n (pc := 0) hx hb dX4_defendant_0 rfl (lv_at hl 1 rfl) ?_
  refine lv_i2l (pc := 1) hx hb dX4_defendant_1 rfl ?_
  refine lv_lconst (v := (1 : Int64)) (pc := 2) hx hb dX4_defendant_2 (by decide) ?_
  refine lv_ldc2 (pc := 3) hx hb hown (hts _ q2205) dX4_defendant_3 ?_
  refine V_bd (pc := 6) C hL rfl hrun (fun rr1 e1 => Z_runS (rest := []) C hH (m_X4_isWithin hl9 e1) wS_X4_100 rfl ⟨by decide, by decide⟩ rfl (Nat.le_of_ble_eq_true rfl) hl.1 dX4_defendant_6) (fun v31 h32 H locs cells slots hH hL hrun => ?_)
  refine lv_if_eq (tgt := 39) (pc := 9) hx hb dX4_defendant_9 (by decide) (fun c_ => ?_) (fun c_ => ?_)
  · have hrun := ite_t hrun c_
    exact b_X4_defendant_39 C x0 x1 x2 h32 H locs cells slots ls hH hL (lv_sub hl [0, 1, 2] rfl) hrun
  · have hrun := ite_f hrun c_
    refine lv_iload_n (pc := 12) hx hb dX4_defendant_12 rfl (lv_at hl 2 rfl) ?_
    refine lv_i2l (pc := 13) hx hb dX4_defendant_13 rfl ?_
    refine lv_lconst (v := (0 : Int64)) (pc := 14) hx hb dX4_defendant_14 (by decide) ?_
    refine lv_ldc2 (pc := 15) hx hb hown (hts _ q2206) dX4_defendant_15 ?_
    refine V_bd (pc := 18) C hL rfl hrun (fun rr1 e1 => Z_runS (rest := []) C hH (m_X4_isWithin hl9 e1) wS_X4_100 rfl ⟨by decide, by decide⟩ rfl (Nat.le_of_ble_eq_true rfl) hl.1 dX4_defendant_18) (fun v33 h34 H locs cells slots hH hL hrun => ?_)
    refine lv_if_eq (tgt := 39) (pc := 21) hx hb dX4_defendant_21 (by decide) (fun c_ => ?_) (fun c_ => ?_)
    · have hrun := ite_t hrun c_
      exact b_X4_defendant_39 C x0 x1 x2 h34 H locs cells slots ls hH hL (lv_sub hl [0, 1, 2] rfl) hrun
    · have hrun := ite_f hrun c_
      refine V_aload_n (pc := 24) hx hb dX4_defendant_24 rfl (lv_at hl 0 rfl) ?_
      obtain ⟨c37, hrun⟩ := gd_some hrun
      refine V_bd (pc := 25) C hL rfl hrun (fun rr1 e1 => Z_runV (rest := []) C hH (m_X4_shares hl9 e1) wV_X4_304 c37 rfl (by decide) rfl rfl ⟨by decide, by decide⟩ rfl (Nat.le_of_ble_eq_true rfl) hl.1 dX4_defendant_25) (fun v35 h36 H locs cells slots hH hL hrun => ?_)
      refine lv_iload_n (pc := 28) hx hb dX4_defendant_28 rfl (lv_at hl 1 rfl) ?_
      refine lv_iadd (pc := 29) hx hb dX4_defendant_29 ?_
      refine lv_bipush (v := (100 : Int32)) (pc := 30) hx hb dX4_defendant_30 (by decide) ?_
      refine lv_icmp_gt (tgt := 39) (pc := 32) hx hb dX4_defendant_32 (by decide) (fun c_ => ?_) (fun c_ => ?_)
      · have hrun := ite_t hrun c_
        exact b_X4_defendant_39 C x0 x1 x2 h36 H locs cells slots ls hH hL (lv_sub hl [0, 1, 2] rfl) hrun
      · have hrun := ite_f hrun c_
        refine lv_iconst (v := (1 : Int32)) (pc := 35) hx hb dX4_defendant_35 (by decide) ?_
        refine lv_goto (tgt := 40) (pc := 36) hx hb dX4_defendant_36 (by decide) ?_
        exact b_X4_defendant_40 C x0 x1 x2 (1 : Int32) h36 H locs cells slots ls hH hL (lv_sub hl [0, 1, 2] rfl) hrun

theorem m_X4_defendant {l : Launch} {D : va_G} {Hs : Heap} {h : Hp} {rr : (Int32 ⊕ Ex) × Hp} (hl9 : l.stackTraces = false) {x0 : Nat} {x1 : Int32} {x2 : Int32} (hrun : f_X4_defendant x0 x1 x2 h = some rr) : CM l yX4_defendant (ws_ yX4_defendant cX4_defendant 5 (some .int)) 8 331 iI [rv x0, .int x1, .int x2] D Hs h rr := by
  refine CM.of (lv := [(0, rv x0), (1, .int x1), (2, .int x2)]) (plainFor_of_name (by decide)) hl9 (by simp [lv_args, rv_cat, cat_i, cat_l, cat_f, cat_d]) (by simp [lg_sl, rv_cat, cat_i, cat_l, cat_f, cat_d]) ?_
  intro p e R s m args below meth c H ls C hH hl hin
  exact b_X4_defendant C x0 x1 x2 _ H [] _ _ ls hH (fun _ q => nomatch q) (lv_sub hl [0, 1, 2] rfl) hrun

/-! java/lang/Math.min(JJ)J -/
def f_J10_min_11  (y0 : Int64) (h : Hp) : Rt Int64 :=
  some (.inl y0, h)
def f_J10_min  (x0 : Int64) (x2 : Int64) (h : Hp) : Rt Int64 :=
  if x2 < x0 then
  (f_J10_min_11 x2 h)
  else
  (f_J10_min_11 x0 h)
theorem b_J10_min_11 {rr : (Int64 ⊕ Ex) × Hp}  (C : CX p l R s m args meth c D Hs cJ10_min "java/lang/Math" 4 (some .long) [] 1 0)  : ∀ (y0 : Int64) (h : Hp) (H : Heap) (locs : List Loc) (cells slots : Nat) (ls : Array Slot), HP D Hs h H → LO Hs locs → lv_has ls 4 [] → f_J10_min_11 y0 h = some rr → W p l e R s m args below meth c H locs cells slots (ZM D Hs iL rr below args s) (F0 m 11 ls [.long y0]) := by
  obtain ⟨⟨hx, hb, hml, hown, hts⟩, -⟩ := id C
  have hl9 := C.2.1.2.2.1
  intro y0 h H locs cells slots ls hH hL hl hrun
  unfold f_J10_min_11 at hrun
  exact V_lret (pc := 11) C hH hL hrun dJ10_min_11

theorem b_J10_min {rr : (Int64 ⊕ Ex) × Hp}  (C : CX p l R s m args meth c D Hs cJ10_min "java/lang/Math" 4 (some .long) [] 1 0)  : ∀ (x0 : Int64) (x2 : Int64) (h : Hp) (H : Heap) (locs : List Loc) (cells slots : Nat) (ls : Array Slot), HP D Hs h H → LO Hs locs → lv_has ls 4 [(0, .long x0), (2, .long x2)] → f_J10_min x0 x2 h = some rr → W p l e R s m args below meth c H locs cells slots (ZM D Hs iL rr below args s) (F0 m 0 ls []) := by
  obtain ⟨⟨hx, hb, hml, hown, hts⟩, -⟩ := id C
  have hl9 := C.2.1.2.2.1
  intro x0 x2 h H locs cells slots ls hH hL hl hrun
  unfold f_J10_min at hrun
  refine lv_lload_n (pc := 0) hx hb dJ10_min_0 rfl (lv_at hl 0 rfl) ?_
  refine lv_lload_n (pc := 1) hx hb dJ10_min_1 rfl (lv_at hl 1 rfl) ?_
  refine V_lcmp_gt (tgt := 10) (pc := 2) hx hb dJ10_min_2 dJ10_min_3 (by decide) (fun c_ => ?_) (fun c_ => ?_)
  · have hrun := ite_t hrun c_
    refine lv_lload_n (pc := 10) hx hb dJ10_min_10 rfl (lv_at hl 1 rfl) ?_
    exact b_J10_min_11 C x2 h H locs cells slots ls hH hL (lv_sub hl [] rfl) hrun
  · have hrun := ite_f hrun c_
    refine lv_lload_n (pc := 6) hx hb dJ10_min_6 rfl (lv_at hl 0 rfl) ?_
    refine lv_goto (tgt := 11) (pc := 7) hx hb dJ10_min_7 (by decide) ?_
    exact b_J10_min_11 C x0 h H locs cells slots ls hH hL (lv_sub hl [] rfl) hrun

theorem m_J10_min {l : Launch} {D : va_G} {Hs : Heap} {h : Hp} {rr : (Int64 ⊕ Ex) × Hp} (hl9 : l.stackTraces = false) {x0 : Int64} {x2 : Int64} (hrun : f_J10_min x0 x2 h = some rr) : CM l yJ10_min (ws_ yJ10_min cJ10_min 4 (some .long)) 1 0 iL [.long x0, .long x2] D Hs h rr := by
  refine CM.of (lv := [(0, .long x0), (2, .long x2)]) (by decide +kernel) hl9 (by simp [lv_args, rv_cat, cat_i, cat_l, cat_f, cat_d]) (by simp [lg_sl, rv_cat, cat_i, cat_l, cat_f, cat_d]) ?_
  intro p e R s m args below meth c H ls C hH hl hin
  exact b_J10_min C x0 x2 _ H [] _ _ ls hH (fun _ q => nomatch q) (lv_sub hl [0, 1] rfl) hrun

/-! Massclaim.payIn(II)J -/
def f_X1_payIn_36  (x0 : Nat) (x2 : Int32) (x3 : Nat) (y0 : Int32) (h : Hp) : Rt Int64 :=
  bd (f_X1_requireState y0 h) fun _ h2 => gd (kC h2 x3 = 8) <| bd (f_J10_min (kL h2 703 x3) ((kI h2 702 x3).toInt64) h2) fun v4 h5 => bd (f_J10_min (x2.toInt64) v4 h5) fun v6 h7 => gd (kC h7 x3 = 8) <| vl (sL h7 703 x3 ((kL h7 703 x3) - v6)) fun h9 => gd (kC h9 x3 = 8) <| vl (sI h9 702 x3 ((kI h9 702 x3) - (v6.toInt32))) fun h11 => gd (kC h11 x3 = 8) <| vl (sL h11 704 x3 ((kL h11 704 x3) + v6)) fun h13 => gd (kC h13 x0 = 1) <| vl (sL h13 17 x0 ((kL h13 17 x0) + v6)) fun h15 => some (.inl v6, h15)
def f_X1_payIn  (x0 : Nat) (x1 : Int32) (x2 : Int32) (h : Hp) : Rt Int64 :=
  gd (kC h x0 = 1) <| gd (kC h (kR h 2 x0) = 2) <| bd (f_X2_at (kR h 2 x0) x1 h) fun v17 h18 => gd (v17 = 0 ∨ kC h18 v17 = 8) <| bd (f_X1_isIn (x2.toInt64) (1 : Int64) (1000000000 : Int64) h18) fun v21 h22 => bd (f_X1_requireArgument v21 h22) fun _ h24 => gd (kC h24 v17 = 8) <| if (kI h24 705 v17) = 0 then
  (f_X1_payIn_36 x0 x2 v17 (1 : Int32) h24)
  else
  (f_X1_payIn_36 x0 x2 v17 (0 : Int32) h24)
theorem b_X1_payIn_36 {rr : (Int64 ⊕ Ex) × Hp}  (C : CX p l R s m args meth c D Hs cX1_payIn "Massclaim" 6 (some .long) [] 8 131)  : ∀ (x0 : Nat) (x2 : Int32) (x3 : Nat) (y0 : Int32) (h : Hp) (H : Heap) (locs : List Loc) (cells slots : Nat) (ls : Array Slot), HP D Hs h H → LO Hs locs → lv_has ls 6 [(0, rv x0), (2, .int x2), (3, rv x3)] → f_X1_payIn_36 x0 x2 x3 y0 h = some rr → W p l e R s m args below meth c H locs cells slots (ZM D Hs iL rr below args s) (F0 m 36 ls [.int y0]) := by
  obtain ⟨⟨hx, hb, hml, hown, hts⟩, -⟩ := id C
  have hl9 := C.2.1.2.2.1
  intro x0 x2 x3 y0 h H locs cells slots ls hH hL hl hrun
  unfold f_X1_payIn_36 at hrun
  refine V_bd (pc := 36) C hL rfl hrun (fun rr1 e1 => Z_runS (rest := []) C hH (m_X1_requireState hl9 e1) wS_X1_182 rfl ⟨by decide, by decide⟩ rfl (Nat.le_of_ble_eq_true rfl) hl.1 dX1_payIn_36) (fun _ h2 H locs cells slots hH hL hrun => ?_)
  refine lv_iload_n (pc := 39) hx hb dX1_payIn_39 rfl (lv_at hl 1 rfl) ?_
  refine lv_i2l (pc := 40) hx hb dX1_payIn_40 rfl ?_
  refine V_aload_n (pc := 41) hx hb dX1_payIn_41 rfl (lv_at hl 2 rfl) ?_
  obtain ⟨c3, hrun⟩ := gd_some hrun
  refine V_getNL (pc := 42) C hH fn_X1_329 dX1_payIn_42 c3 rfl ?_
  refine V_aload_n (pc := 45) hx hb dX1_payIn_45 rfl (lv_at hl 2 rfl) ?_
  refine V_getNI (pc := 46) C hH fn_X1_332 dX1_payIn_46 c3 rfl ?_
  refine lv_i2l (pc := 49) hx hb dX1_payIn_49 rfl ?_
  refine V_bd (pc := 50) C hL rfl hrun (fun rr1 e1 => Z_runS (rest := [.long (x2.toInt64)]) C hH (m_J10_min hl9 e1) wS_X1_335 rfl ⟨by decide, by decide⟩ rfl (Nat.le_of_ble_eq_true rfl) hl.1 dX1_payIn_50) (fun v4 h5 H locs cells slots hH hL hrun => ?_)
  refine V_bd (pc := 53) C hL rfl hrun (fun rr1 e1 => Z_runS (rest := []) C hH (m_J10_min hl9 e1) wS_X1_335 rfl ⟨by decide, by decide⟩ rfl (Nat.le_of_ble_eq_true rfl) hl.1 dX1_payIn_53) (fun v6 h7 H locs cells slots hH hL hrun => ?_)
  refine lv_lstore (i := 4) (lv' := [(4, .long v6), (0, rv x0), (2, .int x2), (3, rv x3)]) (pc := 56) hx hb dX1_payIn_56 hl (by decide) (by simp [rv_cat, cat_i, cat_l, cat_f, cat_d]) (fun ls hl => ?_)
  refine V_aload_n (pc := 58) hx hb dX1_payIn_58 rfl (lv_at hl 3 rfl) ?_
  refine lv_dup (pc := 59) hx hb dX1_payIn_59 (rv_cat _) ?_
  obtain ⟨c8, hrun⟩ := gd_some hrun
  refine V_getNL (pc := 60) C hH fn_X1_329 dX1_payIn_60 c8 rfl ?_
  refine lv_lload (pc := 63) hx hb dX1_payIn_63 (lv_at hl 0 rfl) ?_
  refine lv_lsub (pc := 65) hx hb dX1_payIn_65 ?_
  refine V_putNL (pc := 66) C hH hL fn_X1_329 dX1_payIn_66 c8 (fok_l _) rfl hrun (fun h9 H locs hH hL hrun => ?_)
  refine V_aload_n (pc := 69) hx hb dX1_payIn_69 rfl (lv_at hl 3 rfl) ?_
  refine lv_dup (pc := 70) hx hb dX1_payIn_70 (rv_cat _) ?_
  obtain ⟨c10, hrun⟩ := gd_some hrun
  refine V_getNI (pc := 71) C hH fn_X1_332 dX1_payIn_71 c10 rfl ?_
  refine lv_lload (pc := 74) hx hb dX1_payIn_74 (lv_at hl 0 rfl) ?_
  refine lv_l2i (pc := 76) hx hb dX1_payIn_76 rfl ?_
  refine lv_isub (pc := 77) hx hb dX1_payIn_77 ?_
  refine V_putNI (pc := 78) C hH hL fn_X1_332 dX1_payIn_78 c10 (fok_i _) rfl hrun (fun h11 H locs hH hL hrun => ?_)
  refine V_aload_n (pc := 81) hx hb dX1_payIn_81 rfl (lv_at hl 3 rfl) ?_
  refine lv_dup (pc := 82) hx hb dX1_payIn_82 (rv_cat _) ?_
  obtain ⟨c12, hrun⟩ := gd_some hrun
  refine V_getNL (pc := 83) C hH fn_X1_341 dX1_payIn_83 c12 rfl ?_
  refine lv_lload (pc := 86) hx hb dX1_payIn_86 (lv_at hl 0 rfl) ?_
  refine lv_ladd (pc := 88) hx hb dX1_payIn_88 ?_
  refine V_putNL (pc := 89) C hH hL fn_X1_341 dX1_payIn_89 c12 (fok_l _) rfl hrun (fun h13 H locs hH hL hrun => ?_)
  refine V_aload_n (pc := 92) hx hb dX1_payIn_92 rfl (lv_at hl 1 rfl) ?_
  refine lv_dup (pc := 93) hx hb dX1_payIn_93 (rv_cat _) ?_
  obtain ⟨c14, hrun⟩ := gd_some hrun
  refine V_getL (pc := 94) C hH fr_X1_111 dX1_payIn_94 c14 rfl ?_
  refine lv_lload (pc := 97) hx hb dX1_payIn_97 (lv_at hl 0 rfl) ?_
  refine lv_ladd (pc := 99) hx hb dX1_payIn_99 ?_
  refine V_putL (pc := 100) C hH hL fl_X1_111 dX1_payIn_100 c14 (fok_l _) rfl (fun q => Bool.noConfusion q) hrun (fun h15 H locs hH hL hrun => ?_)
  refine lv_lload (pc := 103) hx hb dX1_payIn_103 (lv_at hl 0 rfl) ?_
  exact V_lret (pc := 105) C hH hL hrun dX1_payIn_105

theorem b_X1_payIn {rr : (Int64 ⊕ Ex) × Hp}  (C : CX p l R s m args meth c D Hs cX1_payIn "Massclaim" 6 (some .long) [] 8 131)  : ∀ (x0 : Nat) (x1 : Int32) (x2 : Int32) (h : Hp) (H : Heap) (locs : List Loc) (cells slots : Nat) (ls : Array Slot), HP D Hs h H → LO Hs locs → lv_has ls 6 [(0, rv x0), (1, .int x1), (2, .int x2)] → f_X1_payIn x0 x1 x2 h = some rr → W p l e R s m args below meth c H locs cells slots (ZM D Hs iL rr below args s) (F0 m 0 ls []) := by
  obtain ⟨⟨hx, hb, hml, hown, hts⟩, -⟩ := id C
  have hl9 := C.2.1.2.2.1
  intro x0 x1 x2 h H locs cells slots ls hH hL hl hrun
  unfold f_X1_payIn at hrun
  refine V_aload_n (pc := 0) hx hb dX1_payIn_0 rfl (lv_at hl 0 rfl) ?_
  obtain ⟨c16, hrun⟩ := gd_some hrun
  refine V_getR (pc := 1) C hH fr_X1_49 dX1_payIn_1 c16 rfl ?_
  refine lv_iload_n (pc := 4) hx hb dX1_payIn_4 rfl (lv_at hl 1 rfl) ?_
  obtain ⟨c19, hrun⟩ := gd_some hrun
  refine V_bd (pc := 5) C hL rfl hrun (fun rr1 e1 => Z_runV (rest := []) C hH (m_X2_at hl9 e1) wV_X1_136 c19 rfl (by decide) rfl rfl ⟨by decide, by decide⟩ rfl (Nat.le_of_ble_eq_true rfl) hl.1 dX1_payIn_5) (fun v17 h18 H locs cells slots hH hL hrun => ?_)
  obtain ⟨c20, hrun⟩ := gd_some hrun
  refine V_castX (pc := 8) (ci := 7) C hH rfl (by decide) q363 dX1_payIn_8 c20 ?_
  refine V_astore_n (i := 3) (lv' := [(3, rv v17), (0, rv x0), (1, .int x1), (2, .int x2)]) (pc := 11) hx hb dX1_payIn_11 rfl hl (by decide) rfl (fun ls hl => ?_)
  refine lv_iload_n (pc := 12) hx hb dX1_payIn_12 rfl (lv_at hl 3 rfl) ?_
  refine lv_i2l (pc := 13) hx hb dX1_payIn_13 rfl ?_
  refine lv_lconst (v := (1 : Int64)) (pc := 14) hx hb dX1_payIn_14 (by decide) ?_
  refine lv_ldc2 (pc := 15) hx hb hown (hts _ q1328) dX1_payIn_15 ?_
  refine V_bd (pc := 18) C hL rfl hrun (fun rr1 e1 => Z_runS (rest := []) C hH (m_X1_isIn hl9 e1) wS_X1_127 rfl ⟨by decide, by decide⟩ rfl (Nat.le_of_ble_eq_true rfl) hl.1 dX1_payIn_18) (fun v21 h22 H locs cells slots hH hL hrun => ?_)
  refine V_bd (pc := 21) C hL rfl hrun (fun rr1 e1 => Z_runS (rest := []) C hH (m_X1_requireArgument hl9 e1) wS_X1_131 rfl ⟨by decide, by decide⟩ rfl (Nat.le_of_ble_eq_true rfl) hl.1 dX1_payIn_21) (fun _ h24 H locs cells slots hH hL hrun => ?_)
  refine V_aload_n (pc := 24) hx hb dX1_payIn_24 rfl (lv_at hl 0 rfl) ?_
  obtain ⟨c25, hrun⟩ := gd_some hrun
  refine V_getNI (pc := 25) C hH fn_X1_326 dX1_payIn_25 c25 rfl ?_
  refine lv_if_ne (tgt := 35) (pc := 28) hx hb dX1_payIn_28 (by decide) (fun c_ => ?_) (fun c_ => ?_)
  · have hrun := ite_f hrun c_
    refine lv_iconst (v := (0 : Int32)) (pc := 35) hx hb dX1_payIn_35 (by decide) ?_
    exact b_X1_payIn_36 C x0 x2 v17 (0 : Int32) h24 H locs cells slots ls hH hL (lv_sub hl [1, 3, 0] rfl) hrun
  · have hrun := ite_t hrun c_
    refine lv_iconst (v := (1 : Int32)) (pc := 31) hx hb dX1_payIn_31 (by decide) ?_
    refine lv_goto (tgt := 36) (pc := 32) hx hb dX1_payIn_32 (by decide) ?_
    exact b_X1_payIn_36 C x0 x2 v17 (1 : Int32) h24 H locs cells slots ls hH hL (lv_sub hl [1, 3, 0] rfl) hrun

theorem m_X1_payIn {l : Launch} {D : va_G} {Hs : Heap} {h : Hp} {rr : (Int64 ⊕ Ex) × Hp} (hl9 : l.stackTraces = false) {x0 : Nat} {x1 : Int32} {x2 : Int32} (hrun : f_X1_payIn x0 x1 x2 h = some rr) : CM l yX1_payIn (ws_ yX1_payIn cX1_payIn 6 (some .long)) 8 131 iL [rv x0, .int x1, .int x2] D Hs h rr := by
  refine CM.of (lv := [(0, rv x0), (1, .int x1), (2, .int x2)]) (plainFor_of_name (by decide)) hl9 (by simp [lv_args, rv_cat, cat_i, cat_l, cat_f, cat_d]) (by simp [lg_sl, rv_cat, cat_i, cat_l, cat_f, cat_d]) ?_
  intro p e R s m args below meth c H ls C hH hl hin
  exact b_X1_payIn C x0 x1 x2 _ H [] _ _ ls hH (fun _ q => nomatch q) (lv_sub hl [0, 1, 2] rfl) hrun

/-! MassclaimLaw.payIn(LMassclaim;II[J)I -/
def f_X0_payIn_12  (y0 : Nat) (h : Hp) : Rt Int32 :=
  some (.inl (1 : Int32), h)
def f_X0_payIn_16  (y0 : Nat) (h : Hp) : Rt Int32 :=
  some (.inl (2 : Int32), h)
def f_X0_payIn_20  (y0 : Nat) (h : Hp) : Rt Int32 :=
  some (.inl (3 : Int32), h)
def f_X0_payIn  (x0 : Nat) (x1 : Int32) (x2 : Int32) (x3 : Nat) (h : Hp) : Rt Int32 :=
  gd (kC h x0 = 1) <| bdH (f_X1_payIn x0 x1 x2 h)
  (fun v1 h2 => gd (kC h2 x3 = 102 ∧ ixo (0 : Int32) (kN h2 x3)) <| vl (tL h2 x3 ((0 : Int32)).toNatClampNeg v1) fun h5 => some (.inl (0 : Int32), h5))
  (fun ex6 h7 => if ex6.1 = 901 then
  (f_X0_payIn_12 ex6.2 h7)
  else
  if ex6.1 = 902 then
  (f_X0_payIn_16 ex6.2 h7)
  else
  if ex6.1 = 903 then
  (f_X0_payIn_20 ex6.2 h7)
  else
  none)
theorem b_X0_payIn_12 {rr : (Int32 ⊕ Ex) × Hp}  (C : CX p l R s m args meth c D Hs cX0_payIn "MassclaimLaw" 5 (some .int) [(0, 9, 12, 25), (0, 9, 16, 13), (0, 9, 20, 19)] 9 156)  : ∀ (y0 : Nat) (h : Hp) (H : Heap) (locs : List Loc) (cells slots : Nat) (ls : Array Slot), HP D Hs h H → LO Hs locs → lv_has ls 5 [] → f_X0_payIn_12 y0 h = some rr → W p l e R s m args below meth c H locs cells slots (ZM D Hs iI rr below args s) (F0 m 12 ls [rv y0]) := by
  obtain ⟨⟨hx, hb, hml, hown, hts⟩, -⟩ := id C
  have hl9 := C.2.1.2.2.1
  intro y0 h H locs cells slots ls hH hL hl hrun
  unfold f_X0_payIn_12 at hrun
  refine V_astore (i := 4) (lv' := [(4, rv y0)]) (pc := 12) hx hb dX0_payIn_12 hl (by decide) rfl (fun ls hl => ?_)
  refine lv_iconst (v := (1 : Int32)) (pc := 14) hx hb dX0_payIn_14 (by decide) ?_
  exact V_iret (pc := 15) C hH hL hrun dX0_payIn_15

theorem b_X0_payIn_16 {rr : (Int32 ⊕ Ex) × Hp}  (C : CX p l R s m args meth c D Hs cX0_payIn "MassclaimLaw" 5 (some .int) [(0, 9, 12, 25), (0, 9, 16, 13), (0, 9, 20, 19)] 9 156)  : ∀ (y0 : Nat) (h : Hp) (H : Heap) (locs : List Loc) (cells slots : Nat) (ls : Array Slot), HP D Hs h H → LO Hs locs → lv_has ls 5 [] → f_X0_payIn_16 y0 h = some rr → W p l e R s m args below meth c H locs cells slots (ZM D Hs iI rr below args s) (F0 m 16 ls [rv y0]) := by
  obtain ⟨⟨hx, hb, hml, hown, hts⟩, -⟩ := id C
  have hl9 := C.2.1.2.2.1
  intro y0 h H locs cells slots ls hH hL hl hrun
  unfold f_X0_payIn_16 at hrun
  refine V_astore (i := 4) (lv' := [(4, rv y0)]) (pc := 16) hx hb dX0_payIn_16 hl (by decide) rfl (fun ls hl => ?_)
  refine lv_iconst (v := (2 : Int32)) (pc := 18) hx hb dX0_payIn_18 (by decide) ?_
  exact V_iret (pc := 19) C hH hL hrun dX0_payIn_19

theorem b_X0_payIn_20 {rr : (Int32 ⊕ Ex) × Hp}  (C : CX p l R s m args meth c D Hs cX0_payIn "MassclaimLaw" 5 (some .int) [(0, 9, 12, 25), (0, 9, 16, 13), (0, 9, 20, 19)] 9 156)  : ∀ (y0 : Nat) (h : Hp) (H : Heap) (locs : List Loc) (cells slots : Nat) (ls : Array Slot), HP D Hs h H → LO Hs locs → lv_has ls 5 [] → f_X0_payIn_20 y0 h = some rr → W p l e R s m args below meth c H locs cells slots (ZM D Hs iI rr below args s) (F0 m 20 ls [rv y0]) := by
  obtain ⟨⟨hx, hb, hml, hown, hts⟩, -⟩ := id C
  have hl9 := C.2.1.2.2.1
  intro y0 h H locs cells slots ls hH hL hl hrun
  unfold f_X0_payIn_20 at hrun
  refine V_astore (i := 4) (lv' := [(4, rv y0)]) (pc := 20) hx hb dX0_payIn_20 hl (by decide) rfl (fun ls hl => ?_)
  refine lv_iconst (v := (3 : Int32)) (pc := 22) hx hb dX0_payIn_22 (by decide) ?_
  exact V_iret (pc := 23) C hH hL hrun dX0_payIn_23

theorem b_X0_payIn {rr : (Int32 ⊕ Ex) × Hp}  (C : CX p l R s m args meth c D Hs cX0_payIn "MassclaimLaw" 5 (some .int) [(0, 9, 12, 25), (0, 9, 16, 13), (0, 9, 20, 19)] 9 156)  : ∀ (x0 : Nat) (x1 : Int32) (x2 : Int32) (x3 : Nat) (h : Hp) (H : Heap) (locs : List Loc) (cells slots : Nat) (ls : Array Slot), HP D Hs h H → LO Hs locs → lv_has ls 5 [(0, rv x0), (1, .int x1), (2, .int x2), (3, rv x3)] → f_X0_payIn x0 x1 x2 x3 h = some rr → W p l e R s m args below meth c H locs cells slots (ZM D Hs iI rr below args s) (F0 m 0 ls []) := by
  obtain ⟨⟨hx, hb, hml, hown, hts⟩, -⟩ := id C
  have hl9 := C.2.1.2.2.1
  intro x0 x1 x2 x3 h H locs cells slots ls hH hL hl hrun
  unfold f_X0_payIn at hrun
  refine V_aload_n (pc := 0) hx hb dX0_payIn_0 rfl (lv_at hl 3 rfl) ?_
  refine lv_iconst (v := (0 : Int32)) (pc := 1) hx hb dX0_payIn_1 (by decide) ?_
  refine V_aload_n (pc := 2) hx hb dX0_payIn_2 rfl (lv_at hl 0 rfl) ?_
  refine lv_iload_n (pc := 3) hx hb dX0_payIn_3 rfl (lv_at hl 1 rfl) ?_
  refine lv_iload_n (pc := 4) hx hb dX0_payIn_4 rfl (lv_at hl 2 rfl) ?_
  obtain ⟨c3, hrun⟩ := gd_some hrun
  refine V_bdH (pc := 5) hL hrun (fun rr1 e1 => Z_runV (rest := [.int (0 : Int32), rv x3]) C hH (m_X1_payIn hl9 e1) wV_X0_74 c3 rfl (by decide) rfl rfl ⟨by decide, by decide⟩ rfl (by simp [csum, rv_cat, cat_i, cat_l, cat_f, cat_d]) hl.1 dX0_payIn_5) (fun v1 h2 H locs cells slots hH hL hrun => ?_) (fun x_ q_ ce_ h7 H locs cells slots hH hL hrun hc_ hv_ hcl_ => ?_)
  · obtain ⟨c4, hrun⟩ := gd_some hrun
    refine V_last (pc := 8) C hH hL dX0_payIn_8 c4 hrun (fun h5 H locs hH hL hrun => ?_)
    refine lv_goto (tgt := 24) (pc := 9) hx hb dX0_payIn_9 (by decide) ?_
    refine lv_iconst (v := (0 : Int32)) (pc := 24) hx hb dX0_payIn_24 (by decide) ?_
    exact V_iret (pc := 25) C hH hL hrun dX0_payIn_25
  · by_cases n901 : x_ = 901
    · subst n901
      have hrun := ite_t hrun rfl
      refine vx_catch (E := "java/lang/IndexOutOfBoundsException") (name := "java/lang/IndexOutOfBoundsException") hown (tableOf []) ⟨0, 9, 12, 25⟩ (tableOf [(0, 9, 16, 13), (0, 9, 20, 19)]) (by rw [C.2.1.2.2.2.2]; rfl) (fun z hz => nomatch hz) (by decide) (by decide) (hts _ q829) (va_Nw.use rfl (C.2.1.2.2.2.1.2.1 _ q537 rfl)) hc_ hv_ hcl_ ?_
      exact b_X0_payIn_12 C (q_ + 1) h7 H locs cells slots ls hH hL (lv_sub hl [] rfl) hrun
    have hrun := ite_f hrun n901
    by_cases n902 : x_ = 902
    · subst n902
      have hrun := ite_t hrun rfl
      refine vx_catch (E := "java/lang/IllegalArgumentException") (name := "java/lang/IllegalArgumentException") hown (tableOf [(0, 9, 12, 25)]) ⟨0, 9, 16, 13⟩ (tableOf [(0, 9, 20, 19)]) (by rw [C.2.1.2.2.2.2]; rfl) (fun z hz => by simp only [tableOf, List.map, List.mem_cons, List.not_mem_nil, or_false] at hz; rcases hz with rfl <;> first | exact Or.inr ⟨by decide, "java/lang/IndexOutOfBoundsException", hts _ q829, nc_at C (by decide)⟩) (by decide) (by decide) (hts _ q449) (va_Nw.use rfl (C.2.1.2.2.2.1.2.1 _ q463 rfl)) hc_ hv_ hcl_ ?_
      exact b_X0_payIn_16 C (q_ + 1) h7 H locs cells slots ls hH hL (lv_sub hl [] rfl) hrun
    have hrun := ite_f hrun n902
    by_cases n903 : x_ = 903
    · subst n903
      have hrun := ite_t hrun rfl
      refine vx_catch (E := "java/lang/IllegalStateException") (name := "java/lang/IllegalStateException") hown (tableOf [(0, 9, 12, 25), (0, 9, 16, 13)]) ⟨0, 9, 20, 19⟩ (tableOf []) (by rw [C.2.1.2.2.2.2]; rfl) (fun z hz => by simp only [tableOf, List.map, List.mem_cons, List.not_mem_nil, or_false] at hz; rcases hz with rfl | rfl <;> first | exact Or.inr ⟨by decide, "java/lang/IndexOutOfBoundsException", hts _ q829, nc_at C (by decide)⟩ | exact Or.inr ⟨by decide, "java/lang/IllegalArgumentException", hts _ q449, nc_at C (by decide)⟩) (by decide) (by decide) (hts _ q585) (va_Nw.use rfl (C.2.1.2.2.2.1.2.1 _ q702 rfl)) hc_ hv_ hcl_ ?_
      exact b_X0_payIn_20 C (q_ + 1) h7 H locs cells slots ls hH hL (lv_sub hl [] rfl) hrun
    have hrun := ite_f hrun n903
    cases hrun

theorem m_X0_payIn {l : Launch} {D : va_G} {Hs : Heap} {h : Hp} {rr : (Int32 ⊕ Ex) × Hp} (hl9 : l.stackTraces = false) {x0 : Nat} {x1 : Int32} {x2 : Int32} {x3 : Nat} (hrun : f_X0_payIn x0 x1 x2 x3 h = some rr) : CM l yX0_payIn (wsW_ yX0_payIn cX0_payIn 5 (some .int) [(0, 9, 12, 25), (0, 9, 16, 13), (0, 9, 20, 19)]) 9 156 iI [rv x0, .int x1, .int x2, rv x3] D Hs h rr := by
  refine CM.ofH (lv := [(0, rv x0), (1, .int x1), (2, .int x2), (3, rv x3)]) (plainFor_of_name (by decide)) hl9 (by simp [lv_args, rv_cat, cat_i, cat_l, cat_f, cat_d]) (by simp [lg_sl, rv_cat, cat_i, cat_l, cat_f, cat_d]) ?_
  intro p e R s m args below meth c H ls C hH hl hin
  exact b_X0_payIn C x0 x1 x2 x3 _ H [] _ _ ls hH (fun _ q => nomatch q) (lv_sub hl [0, 1, 2, 3] rfl) hrun

/-! MassclaimModel.isDefendant(I)Z -/
def f_X4_isDefendant  (x0 : Nat) (x1 : Int32) (h : Hp) : Rt Int32 :=
  gd (kC h x0 = 4) <| gd (kC h (kR h 308 x0) = 18) <| bd (f_J2_size (kR h 308 x0) h) fun v2 h3 => bd (f_X4_isWithin (x1.toInt64) (0 : Int64) ((v2 - (1 : Int32)).toInt64) h3) fun v5 h6 => gd (b01 v5) <| some (.inl v5, h6)
theorem b_X4_isDefendant {rr : (Int32 ⊕ Ex) × Hp}  (C : CX p l R s m args meth c D Hs cX4_isDefendant "MassclaimModel" 2 (some .boolean) [] 2 25)  : ∀ (x0 : Nat) (x1 : Int32) (h : Hp) (H : Heap) (locs : List Loc) (cells slots : Nat) (ls : Array Slot), HP D Hs h H → LO Hs locs → lv_has ls 2 [(0, rv x0), (1, .int x1)] → f_X4_isDefendant x0 x1 h = some rr → W p l e R s m args below meth c H locs cells slots (ZM D Hs iI rr below args s) (F0 m 0 ls []) := by
  obtain ⟨⟨hx, hb, hml, hown, hts⟩, -⟩ := id C
  have hl9 := C.2.1.2.2.1
  intro x0 x1 h H locs cells slots ls hH hL hl hrun
  unfold f_X4_isDefendant at hrun
  refine lv_iload_n (pc := 0) hx hb dX4_isDefendant_0 rfl (lv_at hl 1 rfl) ?_
  refine lv_i2l (pc := 1) hx hb dX4_isDefendant_1 rfl ?_
  refine lv_lconst (v := (0 : Int64)) (pc := 2) hx hb dX4_isDefendant_2 (by decide) ?_
  refine V_aload_n (pc := 3) hx hb dX4_isDefendant_3 rfl (lv_at hl 0 rfl) ?_
  obtain ⟨c1, hrun⟩ := gd_some hrun
  refine V_getR (pc := 4) C hH fr_X4_23 dX4_isDefendant_4 c1 rfl ?_
  obtain ⟨c4, hrun⟩ := gd_some hrun
  refine V_bd (pc := 7) C hL rfl hrun (fun rr1 e1 => Z_runV (rest := [.long (0 : Int64), .long (x1.toInt64)]) C hH (m_J2_size hl9 e1) wV_X4_94 c4 rfl (by decide) rfl rfl ⟨by decide, by decide⟩ rfl (Nat.le_of_ble_eq_true rfl) hl.1 dX4_isDefendant_7) (fun v2 h3 H locs cells slots hH hL hrun => ?_)
  refine lv_iconst (v := (1 : Int32)) (pc := 10) hx hb dX4_isDefendant_10 (by decide) ?_
  refine lv_isub (pc := 11) hx hb dX4_isDefendant_11 ?_
  refine lv_i2l (pc := 12) hx hb dX4_isDefendant_12 rfl ?_
  refine V_bd (pc := 13) C hL rfl hrun (fun rr1 e1 => Z_runS (rest := []) C hH (m_X4_isWithin hl9 e1) wS_X4_100 rfl ⟨by decide, by decide⟩ rfl (Nat.le_of_ble_eq_true rfl) hl.1 dX4_isDefendant_13) (fun v5 h6 H locs cells slots hH hL hrun => ?_)
  obtain ⟨c7, hrun⟩ := gd_some hrun
  exact V_zret (pc := 16) C hH hL c7 hrun dX4_isDefendant_16

theorem m_X4_isDefendant {l : Launch} {D : va_G} {Hs : Heap} {h : Hp} {rr : (Int32 ⊕ Ex) × Hp} (hl9 : l.stackTraces = false) {x0 : Nat} {x1 : Int32} (hrun : f_X4_isDefendant x0 x1 h = some rr) : CM l yX4_isDefendant (ws_ yX4_isDefendant cX4_isDefendant 2 (some .boolean)) 2 25 iI [rv x0, .int x1] D Hs h rr := by
  refine CM.of (lv := [(0, rv x0), (1, .int x1)]) (plainFor_of_name (by decide)) hl9 (by simp [lv_args, rv_cat, cat_i, cat_l, cat_f, cat_d]) (by simp [lg_sl, rv_cat, cat_i, cat_l, cat_f, cat_d]) ?_
  intro p e R s m args below meth c H ls C hH hl hin
  exact b_X4_isDefendant C x0 x1 _ H [] _ _ ls hH (fun _ q => nomatch q) (lv_sub hl [0, 1] rfl) hrun

/-! MassclaimModel.payIn(II)J -/
def f_X4_payIn_60  (h : Hp) : Rt Int64 :=
  some (.inl (0 : Int64), h)
def f_X4_payIn_53  (x0 : Nat) (x1 : Int32) (x2 : Int32) (y0 : Nat) (y1 : Int32) (h : Hp) : Rt Int64 :=
  gd (kC h y0 = 4) <| bd (f_X4_isGood y0 y1 (3 : Int32) h) fun v1 h2 => if v1 = 0 then
  (f_X4_payIn_60  h2)
  else
  (gd (kC h2 x0 = 4) <| gd (kC h2 (kR h2 308 x0) = 18) <| bd (f_J2_get (kR h2 308 x0) x1 h2) fun v5 h6 => gd (v5 = 0 ∨ kC h6 v5 = 9) <| gd (kC h6 v5 = 9) <| bd (f_J10_min (kL h6 802 v5) (kL h6 801 v5) h6) fun v10 h11 => bd (f_J10_min (x2.toInt64) v10 h11) fun v12 h13 => gd (kC h13 v5 = 9) <| vl (sL h13 802 v5 ((kL h13 802 v5) - v12)) fun h15 => gd (kC h15 v5 = 9) <| vl (sL h15 801 v5 ((kL h15 801 v5) - v12)) fun h17 => gd (kC h17 v5 = 9) <| vl (sL h17 803 v5 ((kL h17 803 v5) + v12)) fun h19 => gd (kC h19 x0 = 4) <| vl (sL h19 322 x0 ((kL h19 322 x0) + v12)) fun h21 => gd (kC h21 x0 = 4) <| vl (sL h21 323 x0 ((kL h21 323 x0) + v12)) fun h23 => some (.inl v12, h23))
def f_X4_payIn  (x0 : Nat) (x1 : Int32) (x2 : Int32) (h : Hp) : Rt Int64 :=
  gd (kC h x0 = 4) <| bd (f_X4_isDefendant x0 x1 h) fun v24 h25 => gd (kC h25 x0 = 4) <| bd (f_X4_isGood x0 v24 (1 : Int32) h25) fun v27 h28 => if v27 = 0 then
  (f_X4_payIn_60  h28)
  else
  (bd (f_X4_isWithin (x2.toInt64) (1 : Int64) (1000000000 : Int64) h28) fun v30 h31 => gd (kC h31 x0 = 4) <| bd (f_X4_isGood x0 v30 (2 : Int32) h31) fun v32 h33 => if v32 = 0 then
  (f_X4_payIn_60  h33)
  else
  (gd (kC h33 x0 = 4) <| gd (kC h33 (kR h33 308 x0) = 18) <| bd (f_J2_get (kR h33 308 x0) x1 h33) fun v36 h37 => gd (v36 = 0 ∨ kC h37 v36 = 9) <| gd (kC h37 v36 = 9) <| if (kI h37 804 v36) = 0 then
  (f_X4_payIn_53 x0 x1 x2 x0 (1 : Int32) h37)
  else
  (f_X4_payIn_53 x0 x1 x2 x0 (0 : Int32) h37)))
theorem b_X4_payIn_60 {rr : (Int64 ⊕ Ex) × Hp}  (C : CX p l R s m args meth c D Hs cX4_payIn "MassclaimModel" 6 (some .long) [] 4 64)  : ∀ (h : Hp) (H : Heap) (locs : List Loc) (cells slots : Nat) (ls : Array Slot), HP D Hs h H → LO Hs locs → lv_has ls 6 [] → f_X4_payIn_60 h = some rr → W p l e R s m args below meth c H locs cells slots (ZM D Hs iL rr below args s) (F0 m 60 ls []) := by
  obtain ⟨⟨hx, hb, hml, hown, hts⟩, -⟩ := id C
  have hl9 := C.2.1.2.2.1
  intro h H locs cells slots ls hH hL hl hrun
  unfold f_X4_payIn_60 at hrun
  refine lv_lconst (v := (0 : Int64)) (pc := 60) hx hb dX4_payIn_60 (by decide) ?_
  exact V_lret (pc := 61) C hH hL hrun dX4_payIn_61

theorem b_X4_payIn_53 {rr : (Int64 ⊕ Ex) × Hp}  (C : CX p l R s m args meth c D Hs cX4_payIn "MassclaimModel" 6 (some .long) [] 4 64)  : ∀ (x0 : Nat) (x1 : Int32) (x2 : Int32) (y0 : Nat) (y1 : Int32) (h : Hp) (H : Heap) (locs : List Loc) (cells slots : Nat) (ls : Array Slot), HP D Hs h H → LO Hs locs → lv_has ls 6 [(0, rv x0), (1, .int x1), (2, .int x2)] → f_X4_payIn_53 x0 x1 x2 y0 y1 h = some rr → W p l e R s m args below meth c H locs cells slots (ZM D Hs iL rr below args s) (F0 m 53 ls [.int y1, rv y0]) := by
  obtain ⟨⟨hx, hb, hml, hown, hts⟩, -⟩ := id C
  have hl9 := C.2.1.2.2.1
  intro x0 x1 x2 y0 y1 h H locs cells slots ls hH hL hl hrun
  unfold f_X4_payIn_53 at hrun
  refine lv_iconst (v := (3 : Int32)) (pc := 53) hx hb dX4_payIn_53 (by decide) ?_
  obtain ⟨c3, hrun⟩ := gd_some hrun
  refine V_bd (pc := 54) C hL rfl hrun (fun rr1 e1 => Z_runV (rest := []) C hH (m_X4_isGood hl9 e1) wV_X4_104 c3 rfl (by decide) rfl rfl ⟨by decide, by decide⟩ rfl (Nat.le_of_ble_eq_true rfl) hl.1 dX4_payIn_54) (fun v1 h2 H locs cells slots hH hL hrun => ?_)
  refine lv_if_ne (tgt := 62) (pc := 57) hx hb dX4_payIn_57 (by decide) (fun c_ => ?_) (fun c_ => ?_)
  · have hrun := ite_f hrun c_
    refine V_aload_n (pc := 62) hx hb dX4_payIn_62 rfl (lv_at hl 0 rfl) ?_
    obtain ⟨c4, hrun⟩ := gd_some hrun
    refine V_getR (pc := 63) C hH fr_X4_23 dX4_payIn_63 c4 rfl ?_
    refine lv_iload_n (pc := 66) hx hb dX4_payIn_66 rfl (lv_at hl 1 rfl) ?_
    obtain ⟨c7, hrun⟩ := gd_some hrun
    refine V_bd (pc := 67) C hL rfl hrun (fun rr1 e1 => Z_runV (rest := []) C hH (m_J2_get hl9 e1) wV_X4_108 c7 rfl (by decide) rfl rfl ⟨by decide, by decide⟩ rfl (Nat.le_of_ble_eq_true rfl) hl.1 dX4_payIn_67) (fun v5 h6 H locs cells slots hH hL hrun => ?_)
    obtain ⟨c8, hrun⟩ := gd_some hrun
    refine V_castX (pc := 70) (ci := 8) C hH rfl (by decide) q2211 dX4_payIn_70 c8 ?_
    refine V_astore_n (i := 3) (lv' := [(3, rv v5), (0, rv x0), (1, .int x1), (2, .int x2)]) (pc := 73) hx hb dX4_payIn_73 rfl hl (by decide) rfl (fun ls hl => ?_)
    refine lv_iload_n (pc := 74) hx hb dX4_payIn_74 rfl (lv_at hl 3 rfl) ?_
    refine lv_i2l (pc := 75) hx hb dX4_payIn_75 rfl ?_
    refine V_aload_n (pc := 76) hx hb dX4_payIn_76 rfl (lv_at hl 0 rfl) ?_
    obtain ⟨c9, hrun⟩ := gd_some hrun
    refine V_getL (pc := 77) C hH fr_X4_317 dX4_payIn_77 c9 rfl ?_
    refine V_aload_n (pc := 80) hx hb dX4_payIn_80 rfl (lv_at hl 0 rfl) ?_
    refine V_getL (pc := 81) C hH fr_X4_308 dX4_payIn_81 c9 rfl ?_
    refine V_bd (pc := 84) C hL rfl hrun (fun rr1 e1 => Z_runS (rest := [.long (x2.toInt64)]) C hH (m_J10_min hl9 e1) wS_X4_320 rfl ⟨by decide, by decide⟩ rfl (Nat.le_of_ble_eq_true rfl) hl.1 dX4_payIn_84) (fun v10 h11 H locs cells slots hH hL hrun => ?_)
    refine V_bd (pc := 87) C hL rfl hrun (fun rr1 e1 => Z_runS (rest := []) C hH (m_J10_min hl9 e1) wS_X4_320 rfl ⟨by decide, by decide⟩ rfl (Nat.le_of_ble_eq_true rfl) hl.1 dX4_payIn_87) (fun v12 h13 H locs cells slots hH hL hrun => ?_)
    refine lv_lstore (i := 4) (lv' := [(4, .long v12), (3, rv v5), (0, rv x0), (1, .int x1), (2, .int x2)]) (pc := 90) hx hb dX4_payIn_90 hl (by decide) (by simp [rv_cat, cat_i, cat_l, cat_f, cat_d]) (fun ls hl => ?_)
    refine V_aload_n (pc := 92) hx hb dX4_payIn_92 rfl (lv_at hl 1 rfl) ?_
    refine lv_dup (pc := 93) hx hb dX4_payIn_93 (rv_cat _) ?_
    obtain ⟨c14, hrun⟩ := gd_some hrun
    refine V_getL (pc := 94) C hH fr_X4_317 dX4_payIn_94 c14 rfl ?_
    refine lv_lload (pc := 97) hx hb dX4_payIn_97 (lv_at hl 0 rfl) ?_
    refine lv_lsub (pc := 99) hx hb dX4_payIn_99 ?_
    refine V_putL (pc := 100) C hH hL fl_X4_317 dX4_payIn_100 c14 (fok_l _) rfl (fun q => Bool.noConfusion q) hrun (fun h15 H locs hH hL hrun => ?_)
    refine V_aload_n (pc := 103) hx hb dX4_payIn_103 rfl (lv_at hl 1 rfl) ?_
    refine lv_dup (pc := 104) hx hb dX4_payIn_104 (rv_cat _) ?_
    obtain ⟨c16, hrun⟩ := gd_some hrun
    refine V_getL (pc := 105) C hH fr_X4_308 dX4_payIn_105 c16 rfl ?_
    refine lv_lload (pc := 108) hx hb dX4_payIn_108 (lv_at hl 0 rfl) ?_
    refine lv_lsub (pc := 110) hx hb dX4_payIn_110 ?_
    refine V_putL (pc := 111) C hH hL fl_X4_308 dX4_payIn_111 c16 (fok_l _) rfl (fun q => Bool.noConfusion q) hrun (fun h17 H locs hH hL hrun => ?_)
    refine V_aload_n (pc := 114) hx hb dX4_payIn_114 rfl (lv_at hl 1 rfl) ?_
    refine lv_dup (pc := 115) hx hb dX4_payIn_115 (rv_cat _) ?_
    obtain ⟨c18, hrun⟩ := gd_some hrun
    refine V_getL (pc := 116) C hH fr_X4_326 dX4_payIn_116 c18 rfl ?_
    refine lv_lload (pc := 119) hx hb dX4_payIn_119 (lv_at hl 0 rfl) ?_
    refine lv_ladd (pc := 121) hx hb dX4_payIn_121 ?_
    refine V_putL (pc := 122) C hH hL fl_X4_326 dX4_payIn_122 c18 (fok_l _) rfl (fun q => Bool.noConfusion q) hrun (fun h19 H locs hH hL hrun => ?_)
    refine V_aload_n (pc := 125) hx hb dX4_payIn_125 rfl (lv_at hl 2 rfl) ?_
    refine lv_dup (pc := 126) hx hb dX4_payIn_126 (rv_cat _) ?_
    obtain ⟨c20, hrun⟩ := gd_some hrun
    refine V_getL (pc := 127) C hH fr_X4_76 dX4_payIn_127 c20 rfl ?_
    refine lv_lload (pc := 130) hx hb dX4_payIn_130 (lv_at hl 0 rfl) ?_
    refine lv_ladd (pc := 132) hx hb dX4_payIn_132 ?_
    refine V_putL (pc := 133) C hH hL fl_X4_76 dX4_payIn_133 c20 (fok_l _) rfl (fun q => Bool.noConfusion q) hrun (fun h21 H locs hH hL hrun => ?_)
    refine V_aload_n (pc := 136) hx hb dX4_payIn_136 rfl (lv_at hl 2 rfl) ?_
    refine lv_dup (pc := 137) hx hb dX4_payIn_137 (rv_cat _) ?_
    obtain ⟨c22, hrun⟩ := gd_some hrun
    refine V_getL (pc := 138) C hH fr_X4_79 dX4_payIn_138 c22 rfl ?_
    refine lv_lload (pc := 141) hx hb dX4_payIn_141 (lv_at hl 0 rfl) ?_
    refine lv_ladd (pc := 143) hx hb dX4_payIn_143 ?_
    refine V_putL (pc := 144) C hH hL fl_X4_79 dX4_payIn_144 c22 (fok_l _) rfl (fun q => Bool.noConfusion q) hrun (fun h23 H locs hH hL hrun => ?_)
    refine lv_lload (pc := 147) hx hb dX4_payIn_147 (lv_at hl 0 rfl) ?_
    exact V_lret (pc := 149) C hH hL hrun dX4_payIn_149
  · have hrun := ite_t hrun c_
    exact b_X4_payIn_60 C h2 H locs cells slots ls hH hL (lv_sub hl [] rfl) hrun

theorem b_X4_payIn {rr : (Int64 ⊕ Ex) × Hp}  (C : CX p l R s m args meth c D Hs cX4_payIn "MassclaimModel" 6 (some .long) [] 4 64)  : ∀ (x0 : Nat) (x1 : Int32) (x2 : Int32) (h : Hp) (H : Heap) (locs : List Loc) (cells slots : Nat) (ls : Array Slot), HP D Hs h H → LO Hs locs → lv_has ls 6 [(0, rv x0), (1, .int x1), (2, .int x2)] → f_X4_payIn x0 x1 x2 h = some rr → W p l e R s m args below meth c H locs cells slots (ZM D Hs iL rr below args s) (F0 m 0 ls []) := by
  obtain ⟨⟨hx, hb, hml, hown, hts⟩, -⟩ := id C
  have hl9 := C.2.1.2.2.1
  intro x0 x1 x2 h H locs cells slots ls hH hL hl hrun
  unfold f_X4_payIn at hrun
  refine V_aload_n (pc := 0) hx hb dX4_payIn_0 rfl (lv_at hl 0 rfl) ?_
  refine V_aload_n (pc := 1) hx hb dX4_payIn_1 rfl (lv_at hl 0 rfl) ?_
  refine lv_iload_n (pc := 2) hx hb dX4_payIn_2 rfl (lv_at hl 1 rfl) ?_
  obtain ⟨c26, hrun⟩ := gd_some hrun
  refine V_bd (pc := 3) C hL rfl hrun (fun rr1 e1 => Z_runV (rest := [rv x0]) C hH (m_X4_isDefendant hl9 e1) wV_X4_311 c26 rfl (by decide) rfl rfl ⟨by decide, by decide⟩ rfl (by simp [csum, rv_cat, cat_i, cat_l, cat_f, cat_d]) hl.1 dX4_payIn_3) (fun v24 h25 H locs cells slots hH hL hrun => ?_)
  refine lv_iconst (v := (1 : Int32)) (pc := 6) hx hb dX4_payIn_6 (by decide) ?_
  obtain ⟨c29, hrun⟩ := gd_some hrun
  refine V_bd (pc := 7) C hL rfl hrun (fun rr1 e1 => Z_runV (rest := []) C hH (m_X4_isGood hl9 e1) wV_X4_104 c29 rfl (by decide) rfl rfl ⟨by decide, by decide⟩ rfl (Nat.le_of_ble_eq_true rfl) hl.1 dX4_payIn_7) (fun v27 h28 H locs cells slots hH hL hrun => ?_)
  refine lv_if_eq (tgt := 60) (pc := 10) hx hb dX4_payIn_10 (by decide) (fun c_ => ?_) (fun c_ => ?_)
  · have hrun := ite_t hrun c_
    exact b_X4_payIn_60 C h28 H locs cells slots ls hH hL (lv_sub hl [] rfl) hrun
  · have hrun := ite_f hrun c_
    refine V_aload_n (pc := 13) hx hb dX4_payIn_13 rfl (lv_at hl 0 rfl) ?_
    refine lv_iload_n (pc := 14) hx hb dX4_payIn_14 rfl (lv_at hl 2 rfl) ?_
    refine lv_i2l (pc := 15) hx hb dX4_payIn_15 rfl ?_
    refine lv_lconst (v := (1 : Int64)) (pc := 16) hx hb dX4_payIn_16 (by decide) ?_
    refine lv_ldc2 (pc := 17) hx hb hown (hts _ q2206) dX4_payIn_17 ?_
    refine V_bd (pc := 20) C hL rfl hrun (fun rr1 e1 => Z_runS (rest := [rv x0]) C hH (m_X4_isWithin hl9 e1) wS_X4_100 rfl ⟨by decide, by decide⟩ rfl (by simp [csum, rv_cat, cat_i, cat_l, cat_f, cat_d]) hl.1 dX4_payIn_20) (fun v30 h31 H locs cells slots hH hL hrun => ?_)
    refine lv_iconst (v := (2 : Int32)) (pc := 23) hx hb dX4_payIn_23 (by decide) ?_
    obtain ⟨c34, hrun⟩ := gd_some hrun
    refine V_bd (pc := 24) C hL rfl hrun (fun rr1 e1 => Z_runV (rest := []) C hH (m_X4_isGood hl9 e1) wV_X4_104 c34 rfl (by decide) rfl rfl ⟨by decide, by decide⟩ rfl (Nat.le_of_ble_eq_true rfl) hl.1 dX4_payIn_24) (fun v32 h33 H locs cells slots hH hL hrun => ?_)
    refine lv_if_eq (tgt := 60) (pc := 27) hx hb dX4_payIn_27 (by decide) (fun c_ => ?_) (fun c_ => ?_)
    · have hrun := ite_t hrun c_
      exact b_X4_payIn_60 C h33 H locs cells slots ls hH hL (lv_sub hl [] rfl) hrun
    · have hrun := ite_f hrun c_
      refine V_aload_n (pc := 30) hx hb dX4_payIn_30 rfl (lv_at hl 0 rfl) ?_
      refine V_aload_n (pc := 31) hx hb dX4_payIn_31 rfl (lv_at hl 0 rfl) ?_
      obtain ⟨c35, hrun⟩ := gd_some hrun
      refine V_getR (pc := 32) C hH fr_X4_23 dX4_payIn_32 c35 rfl ?_
      refine lv_iload_n (pc := 35) hx hb dX4_payIn_35 rfl (lv_at hl 1 rfl) ?_
      obtain ⟨c38, hrun⟩ := gd_some hrun
      refine V_bd (pc := 36) C hL rfl hrun (fun rr1 e1 => Z_runV (rest := [rv x0]) C hH (m_J2_get hl9 e1) wV_X4_108 c38 rfl (by decide) rfl rfl ⟨by decide, by decide⟩ rfl (by simp [csum, rv_cat, cat_i, cat_l, cat_f, cat_d]) hl.1 dX4_payIn_36) (fun v36 h37 H locs cells slots hH hL hrun => ?_)
      obtain ⟨c39, hrun⟩ := gd_some hrun
      refine V_castX (pc := 39) (ci := 8) C hH rfl (by decide) q2211 dX4_payIn_39 c39 ?_
      obtain ⟨c40, hrun⟩ := gd_some hrun
      refine V_getI (pc := 42) C hH fr_X4_314 dX4_payIn_42 c40 rfl ?_
      refine lv_if_ne (tgt := 52) (pc := 45) hx hb dX4_payIn_45 (by decide) (fun c_ => ?_) (fun c_ => ?_)
      · have hrun := ite_f hrun c_
        refine lv_iconst (v := (0 : Int32)) (pc := 52) hx hb dX4_payIn_52 (by decide) ?_
        exact b_X4_payIn_53 C x0 x1 x2 x0 (0 : Int32) h37 H locs cells slots ls hH hL (lv_sub hl [0, 1, 2] rfl) hrun
      · have hrun := ite_t hrun c_
        refine lv_iconst (v := (1 : Int32)) (pc := 48) hx hb dX4_payIn_48 (by decide) ?_
        refine lv_goto (tgt := 53) (pc := 49) hx hb dX4_payIn_49 (by decide) ?_
        exact b_X4_payIn_53 C x0 x1 x2 x0 (1 : Int32) h37 H locs cells slots ls hH hL (lv_sub hl [0, 1, 2] rfl) hrun

theorem m_X4_payIn {l : Launch} {D : va_G} {Hs : Heap} {h : Hp} {rr : (Int64 ⊕ Ex) × Hp} (hl9 : l.stackTraces = false) {x0 : Nat} {x1 : Int32} {x2 : Int32} (hrun : f_X4_payIn x0 x1 x2 h = some rr) : CM l yX4_payIn (ws_ yX4_payIn cX4_payIn 6 (some .long)) 4 64 iL [rv x0, .int x1, .int x2] D Hs h rr := by
  refine CM.of (lv := [(0, rv x0), (1, .int x1), (2, .int x2)]) (plainFor_of_name (by decide)) hl9 (by simp [lv_args, rv_cat, cat_i, cat_l, cat_f, cat_d]) (by simp [lg_sl, rv_cat, cat_i, cat_l, cat_f, cat_d]) ?_
  intro p e R s m args below meth c H ls C hH hl hin
  exact b_X4_payIn C x0 x1 x2 _ H [] _ _ ls hH (fun _ q => nomatch q) (lv_sub hl [0, 1, 2] rfl) hrun

/-! Massclaim.part(JJJ)J -/
def f_X1_part  (x0 : Int64) (x2 : Int64) (x4 : Int64) (h : Hp) : Rt Int64 :=
  gd (¬ x4 = 0) <| some (.inl ((x0 * x2) / x4), h)
theorem b_X1_part {rr : (Int64 ⊕ Ex) × Hp}  (C : CX p l R s m args meth c D Hs cX1_part "Massclaim" 6 (some .long) [] 1 0)  : ∀ (x0 : Int64) (x2 : Int64) (x4 : Int64) (h : Hp) (H : Heap) (locs : List Loc) (cells slots : Nat) (ls : Array Slot), HP D Hs h H → LO Hs locs → lv_has ls 6 [(0, .long x0), (2, .long x2), (4, .long x4)] → f_X1_part x0 x2 x4 h = some rr → W p l e R s m args below meth c H locs cells slots (ZM D Hs iL rr below args s) (F0 m 0 ls []) := by
  obtain ⟨⟨hx, hb, hml, hown, hts⟩, -⟩ := id C
  have hl9 := C.2.1.2.2.1
  intro x0 x2 x4 h H locs cells slots ls hH hL hl hrun
  unfold f_X1_part at hrun
  refine lv_lload_n (pc := 0) hx hb dX1_part_0 rfl (lv_at hl 0 rfl) ?_
  refine lv_lload_n (pc := 1) hx hb dX1_part_1 rfl (lv_at hl 1 rfl) ?_
  refine lv_lmul (pc := 2) hx hb dX1_part_2 ?_
  refine lv_lload (pc := 3) hx hb dX1_part_3 (lv_at hl 2 rfl) ?_
  obtain ⟨c1, hrun⟩ := gd_some hrun
  refine lv_ldiv (pc := 5) hx hb dX1_part_5 c1 ?_
  exact V_lret (pc := 6) C hH hL hrun dX1_part_6

theorem m_X1_part {l : Launch} {D : va_G} {Hs : Heap} {h : Hp} {rr : (Int64 ⊕ Ex) × Hp} (hl9 : l.stackTraces = false) {x0 : Int64} {x2 : Int64} {x4 : Int64} (hrun : f_X1_part x0 x2 x4 h = some rr) : CM l yX1_part (ws_ yX1_part cX1_part 6 (some .long)) 1 0 iL [.long x0, .long x2, .long x4] D Hs h rr := by
  refine CM.of (lv := [(0, .long x0), (2, .long x2), (4, .long x4)]) (plainFor_of_name (by decide)) hl9 (by simp [lv_args, rv_cat, cat_i, cat_l, cat_f, cat_d]) (by simp [lg_sl, rv_cat, cat_i, cat_l, cat_f, cat_d]) ?_
  intro p e R s m args below meth c H ls C hH hl hin
  exact b_X1_part C x0 x2 x4 _ H [] _ _ ls hH (fun _ q => nomatch q) (lv_sub hl [0, 1, 2] rfl) hrun

/-! Massclaim.bears(J)Z -/
def f_X1_bears_100  : Nat → Int64 → Nat → Int32 → Int64 → Int32 → Hp → Rt Int32
  | 0, _, _, _, _, _, _ => none
  | n + 1, x1, x3, x4, x5, x7, h => gd (kC h x3 = 18) <| bd (f_J2_size x3 h) fun v1 h2 => if v1 ≤ x7 then
  (bd (f_X1_first x3 h2) fun v4 h5 => gd (v4 = 0 ∨ kC h5 v4 = 8) <| gd (kC h5 v4 = 8) <| vl (sL h5 703 v4 ((kL h5 703 v4) + x5)) fun h8 => some (.inl (1 : Int32), h8))
  else
  (gd (kC h2 x3 = 18) <| bd (f_J2_get x3 x7 h2) fun v9 h10 => gd (v9 = 0 ∨ kC h10 v9 = 8) <| gd (kC h10 v9 = 8) <| bd (f_X1_part x1 ((kI h10 701 v9).toInt64) (x4.toInt64) h10) fun v14 h15 => gd (kC h15 x3 = 18) <| bd (f_J2_get x3 x7 h15) fun v16 h17 => gd (v16 = 0 ∨ kC h17 v16 = 8) <| gd (kC h17 v16 = 8) <| vl (sL h17 703 v16 ((kL h17 703 v16) + v14)) fun h21 => vl (x5 - v14) fun v22 => vl (x7 + (1 : Int32)) fun v23 => f_X1_bears_100 n x1 x3 x4 v22 v23 h21)
def f_X1_bears_80 (k20 : Int64 → Nat → Int32 → Nat → Hp → Rt Int32) (x1 : Int64) (x3 : Nat) (x4 : Int32) (x5 : Nat) (h : Hp) : Rt Int32 :=
  k20 x1 x3 x4 x5 h
def f_X1_bears_20  : Nat → Int64 → Nat → Int32 → Nat → Hp → Rt Int32
  | 0, _, _, _, _, _ => none
  | n + 1, x1, x3, x4, x5, h => gd (kC h x5 = 19) <| bd (f_J16_hasNext x5 h) fun v24 h25 => if v24 = 0 then
  (gd (kC h25 x3 = 18) <| bd (f_J2_isEmpty x3 h25) fun v27 h28 => if v27 = 0 then
  (f_X1_bears_100 FU x1 x3 x4 x1 (0 : Int32) h28)
  else
  (some (.inl (0 : Int32), h28)))
  else
  (gd (kC h25 x5 = 19) <| bd (f_J16_next x5 h25) fun v30 h31 => gd (v30 = 0 ∨ kC h31 v30 = 8) <| gd (kC h31 v30 = 8) <| if (kI h31 705 v30) = 0 then
  (if (kL h31 703 v30) ≤ (0 : Int64) then
  (f_X1_bears_80 (f_X1_bears_20 n) x1 x3 x4 x5 h31)
  else
  (gd (kC h31 x3 = 18) <| bd (f_J2_add x3 v30 h31) fun v35 h36 => gd (kC h36 v30 = 8) <| vl (x4 + (kI h36 701 v30)) fun v39 => f_X1_bears_80 (f_X1_bears_20 n) x1 x3 v39 x5 h36))
  else
  (f_X1_bears_80 (f_X1_bears_20 n) x1 x3 x4 x5 h31))
def f_X1_bears  (x0 : Nat) (x1 : Int64) (h : Hp) : Rt Int32 :=
  nw h 18 3 fun q40 h41 => gd (kC h41 q40 = 18) <| bd (f_J2_init q40 h41) fun _ h43 => gd (kC h43 x0 = 1) <| gd (kC h43 (kR h43 2 x0) = 2) <| bd (f_X2_iterator (kR h43 2 x0) h43) fun v46 h47 => f_X1_bears_20 FU x1 q40 (0 : Int32) v46 h47
theorem b_X1_bears_100 {rr : (Int32 ⊕ Ex) × Hp}  (C : CX p l R s m args meth c D Hs cX1_bears "Massclaim" 10 (some .boolean) [] 8 331)  : ∀ (n : Nat) (x1 : Int64) (x3 : Nat) (x4 : Int32) (x5 : Int64) (x7 : Int32) (h : Hp) (H : Heap) (locs : List Loc) (cells slots : Nat) (ls : Array Slot), HP D Hs h H → LO Hs locs → lv_has ls 10 [(1, .long x1), (3, rv x3), (4, .int x4), (5, .long x5), (7, .int x7)] → f_X1_bears_100 n x1 x3 x4 x5 x7 h = some rr → W p l e R s m args below meth c H locs cells slots (ZM D Hs iI rr below args s) (F0 m 100 ls []) := by
  obtain ⟨⟨hx, hb, hml, hown, hts⟩, -⟩ := id C
  have hl9 := C.2.1.2.2.1
  intro n
  induction n with
  | zero =>
    intro x1 x3 x4 x5 x7 h H locs cells slots ls hH hL hl hrun
    cases (show (none : Option _) = some rr from hrun)
  | succ n ih =>
    intro x1 x3 x4 x5 x7 h H locs cells slots ls hH hL hl hrun
    rw [f_X1_bears_100] at hrun
    refine lv_iload (pc := 100) hx hb dX1_bears_100 (lv_at hl 4 rfl) ?_
    refine V_aload_n (pc := 102) hx hb dX1_bears_102 rfl (lv_at hl 1 rfl) ?_
    obtain ⟨c3, hrun⟩ := gd_some hrun
    refine V_bd5 (pc := 103) C hL rfl hrun (fun rr1 e1 => Z_runF (rest := [.int x7]) C hH (m_J2_size hl9 e1) rfl wF_X1_13_J2 c3 (by decide) rfl ⟨by decide, by decide⟩ rfl (Nat.le_of_ble_eq_true rfl) hl.1 dX1_bears_103) (fun v1 h2 H locs cells slots hH hL hrun => ?_)
    refine lv_icmp_ge (tgt := 169) (pc := 108) hx hb dX1_bears_108 (by decide) (fun c_ => ?_) (fun c_ => ?_)
    · have hrun := ite_t hrun c_
      refine V_aload_n (pc := 169) hx hb dX1_bears_169 rfl (lv_at hl 1 rfl) ?_
      refine V_bd (pc := 170) C hL rfl hrun (fun rr1 e1 => Z_runS (rest := []) C hH (m_X1_first hl9 e1) wS_X1_351 rfl ⟨by decide, by decide⟩ rfl (Nat.le_of_ble_eq_true rfl) hl.1 dX1_bears_170) (fun v4 h5 H locs cells slots hH hL hrun => ?_)
      obtain ⟨c6, hrun⟩ := gd_some hrun
      refine V_castX (pc := 173) (ci := 7) C hH rfl (by decide) q363 dX1_bears_173 c6 ?_
      refine lv_dup (pc := 176) hx hb dX1_bears_176 (rv_cat _) ?_
      obtain ⟨c7, hrun⟩ := gd_some hrun
      refine V_getNL (pc := 177) C hH fn_X1_329 dX1_bears_177 c7 rfl ?_
      refine lv_lload (pc := 180) hx hb dX1_bears_180 (lv_at hl 3 rfl) ?_
      refine lv_ladd (pc := 182) hx hb dX1_bears_182 ?_
      refine V_putNL (pc := 183) C hH hL fn_X1_329 dX1_bears_183 c7 (fok_l _) rfl hrun (fun h8 H locs hH hL hrun => ?_)
      refine lv_iconst (v := (1 : Int32)) (pc := 186) hx hb dX1_bears_186 (by decide) ?_
      exact V_zret (pc := 187) C hH hL (Or.inr rfl) hrun dX1_bears_187
    · have hrun := ite_f hrun c_
      refine lv_lload_n (pc := 111) hx hb dX1_bears_111 rfl (lv_at hl 0 rfl) ?_
      refine V_aload_n (pc := 112) hx hb dX1_bears_112 rfl (lv_at hl 1 rfl) ?_
      refine lv_iload (pc := 113) hx hb dX1_bears_113 (lv_at hl 4 rfl) ?_
      obtain ⟨c11, hrun⟩ := gd_some hrun
      refine V_bd5 (pc := 115) C hL rfl hrun (fun rr1 e1 => Z_runF (rest := [.long x1]) C hH (m_J2_get hl9 e1) rfl wF_X1_19_J2 c11 (by decide) rfl ⟨by decide, by decide⟩ rfl (Nat.le_of_ble_eq_true rfl) hl.1 dX1_bears_115) (fun v9 h10 H locs cells slots hH hL hrun => ?_)
      obtain ⟨c12, hrun⟩ := gd_some hrun
      refine V_castX (pc := 120) (ci := 7) C hH rfl (by decide) q363 dX1_bears_120 c12 ?_
      obtain ⟨c13, hrun⟩ := gd_some hrun
      refine V_getNI (pc := 123) C hH fn_X1_313 dX1_bears_123 c13 rfl ?_
      refine lv_i2l (pc := 126) hx hb dX1_bears_126 rfl ?_
      refine lv_iload (pc := 127) hx hb dX1_bears_127 (lv_at hl 2 rfl) ?_
      refine lv_i2l (pc := 129) hx hb dX1_bears_129 rfl ?_
      refine V_bd (pc := 130) C hL rfl hrun (fun rr1 e1 => Z_runS (rest := []) C hH (m_X1_part hl9 e1) wS_X1_347 rfl ⟨by decide, by decide⟩ rfl (Nat.le_of_ble_eq_true rfl) hl.1 dX1_bears_130) (fun v14 h15 H locs cells slots hH hL hrun => ?_)
      refine lv_lstore (i := 8) (lv' := [(8, .long v14), (1, .long x1), (3, rv x3), (4, .int x4), (5, .long x5), (7, .int x7)]) (pc := 133) hx hb dX1_bears_133 hl (by decide) rfl (fun ls hl => ?_)
      refine V_aload_n (pc := 135) hx hb dX1_bears_135 rfl (lv_at hl 2 rfl) ?_
      refine lv_iload (pc := 136) hx hb dX1_bears_136 (lv_at hl 5 rfl) ?_
      obtain ⟨c18, hrun⟩ := gd_some hrun
      refine V_bd5 (pc := 138) C hL rfl hrun (fun rr1 e1 => Z_runF (rest := []) C hH (m_J2_get hl9 e1) rfl wF_X1_19_J2 c18 (by decide) rfl ⟨by decide, by decide⟩ rfl (Nat.le_of_ble_eq_true rfl) hl.1 dX1_bears_138) (fun v16 h17 H locs cells slots hH hL hrun => ?_)
      obtain ⟨c19, hrun⟩ := gd_some hrun
      refine V_castX (pc := 143) (ci := 7) C hH rfl (by decide) q363 dX1_bears_143 c19 ?_
      refine lv_dup (pc := 146) hx hb dX1_bears_146 (rv_cat _) ?_
      obtain ⟨c20, hrun⟩ := gd_some hrun
      refine V_getNL (pc := 147) C hH fn_X1_329 dX1_bears_147 c20 rfl ?_
      refine lv_lload (pc := 150) hx hb dX1_bears_150 (lv_at hl 0 rfl) ?_
      refine lv_ladd (pc := 152) hx hb dX1_bears_152 ?_
      refine V_putNL (pc := 153) C hH hL fn_X1_329 dX1_bears_153 c20 (fok_l _) rfl hrun (fun h21 H locs hH hL hrun => ?_)
      refine lv_lload (pc := 156) hx hb dX1_bears_156 (lv_at hl 4 rfl) ?_
      refine lv_lload (pc := 158) hx hb dX1_bears_158 (lv_at hl 0 rfl) ?_
      refine lv_lsub (pc := 160) hx hb dX1_bears_160 ?_
      refine lv_topl (fun v22 ev22 => ?_)
      have hrun := vl_at hrun v22 ev22
      refine lv_lstore (i := 5) (lv' := [(5, .long v22), (8, .long v14), (1, .long x1), (3, rv x3), (4, .int x4), (7, .int x7)]) (pc := 161) hx hb dX1_bears_161 hl (by decide) rfl (fun ls hl => ?_)
      obtain ⟨v23, ev23⟩ : ∃ y : Int32, y = x7 + (1 : Int32) := ⟨_, rfl⟩
      have hrun := vl_at hrun v23 ev23
      refine lv_iinc (v := v23) (lv' := [(7, .int v23), (5, .long v22), (8, .long v14), (1, .long x1), (3, rv x3), (4, .int x4)]) (pc := 163) hx hb dX1_bears_163 hl (k := 5) rfl (by rw [ev23]; rfl) (by decide) (by first | rfl | simp [rv_cat, cat_i, cat_l, cat_f, cat_d]) (fun ls hl => ?_)
      refine lv_goto (tgt := 100) (pc := 166) hx hb dX1_bears_166 (by decide) ?_
      exact ih x1 x3 x4 v22 v23 h21 H locs cells slots ls hH hL (lv_sub hl [3, 4, 5, 1, 0] rfl) hrun

theorem b_X1_bears_80 {rr : (Int32 ⊕ Ex) × Hp} {k20 : Int64 → Nat → Int32 → Nat → Hp → Rt Int32} (C : CX p l R s m args meth c D Hs cX1_bears "Massclaim" 10 (some .boolean) [] 8 331) (K20 : ∀ (x1 : Int64) (x3 : Nat) (x4 : Int32) (x5 : Nat) (h : Hp) (H : Heap) (locs : List Loc) (cells slots : Nat) (ls : Array Slot), HP D Hs h H → LO Hs locs → lv_has ls 10 [(1, .long x1), (3, rv x3), (4, .int x4), (5, rv x5)] → k20 x1 x3 x4 x5 h = some rr → W p l e R s m args below meth c H locs cells slots (ZM D Hs iI rr below args s) (F0 m 20 ls [])) : ∀ (x1 : Int64) (x3 : Nat) (x4 : Int32) (x5 : Nat) (h : Hp) (H : Heap) (locs : List Loc) (cells slots : Nat) (ls : Array Slot), HP D Hs h H → LO Hs locs → lv_has ls 10 [(1, .long x1), (3, rv x3), (4, .int x4), (5, rv x5)] → f_X1_bears_80 k20 x1 x3 x4 x5 h = some rr → W p l e R s m args below meth c H locs cells slots (ZM D Hs iI rr below args s) (F0 m 80 ls []) := by
  obtain ⟨⟨hx, hb, hml, hown, hts⟩, -⟩ := id C
  have hl9 := C.2.1.2.2.1
  intro x1 x3 x4 x5 h H locs cells slots ls hH hL hl hrun
  unfold f_X1_bears_80 at hrun
  refine lv_goto (tgt := 20) (pc := 80) hx hb dX1_bears_80 (by decide) ?_
  exact K20 x1 x3 x4 x5 h H locs cells slots ls hH hL (lv_sub hl [0, 1, 2, 3] rfl) hrun

theorem b_X1_bears_20 {rr : (Int32 ⊕ Ex) × Hp}  (C : CX p l R s m args meth c D Hs cX1_bears "Massclaim" 10 (some .boolean) [] 8 331)  : ∀ (n : Nat) (x1 : Int64) (x3 : Nat) (x4 : Int32) (x5 : Nat) (h : Hp) (H : Heap) (locs : List Loc) (cells slots : Nat) (ls : Array Slot), HP D Hs h H → LO Hs locs → lv_has ls 10 [(1, .long x1), (3, rv x3), (4, .int x4), (5, rv x5)] → f_X1_bears_20 n x1 x3 x4 x5 h = some rr → W p l e R s m args below meth c H locs cells slots (ZM D Hs iI rr below args s) (F0 m 20 ls []) := by
  obtain ⟨⟨hx, hb, hml, hown, hts⟩, -⟩ := id C
  have hl9 := C.2.1.2.2.1
  intro n
  induction n with
  | zero =>
    intro x1 x3 x4 x5 h H locs cells slots ls hH hL hl hrun
    cases (show (none : Option _) = some rr from hrun)
  | succ n ih =>
    intro x1 x3 x4 x5 h H locs cells slots ls hH hL hl hrun
    rw [f_X1_bears_20] at hrun
    refine V_aload (pc := 20) hx hb dX1_bears_20 (lv_at hl 3 rfl) ?_
    obtain ⟨c26, hrun⟩ := gd_some hrun
    refine V_bd5 (pc := 22) C hL rfl hrun (fun rr1 e1 => Z_runF (rest := []) C hH (m_J16_hasNext hl9 e1) rfl wF_X1_212_J16 c26 (by decide) rfl ⟨by decide, by decide⟩ rfl (Nat.le_of_ble_eq_true rfl) hl.1 dX1_bears_22) (fun v24 h25 H locs cells slots hH hL hrun => ?_)
    refine lv_if_eq (tgt := 83) (pc := 27) hx hb dX1_bears_27 (by decide) (fun c_ => ?_) (fun c_ => ?_)
    · have hrun := ite_t hrun c_
      refine V_aload_n (pc := 83) hx hb dX1_bears_83 rfl (lv_at hl 1 rfl) ?_
      obtain ⟨c29, hrun⟩ := gd_some hrun
      refine V_bd5 (pc := 84) C hL rfl hrun (fun rr1 e1 => Z_runF (rest := []) C hH (m_J2_isEmpty hl9 e1) rfl wF_X1_296_J2 c29 (by decide) rfl ⟨by decide, by decide⟩ rfl (Nat.le_of_ble_eq_true rfl) hl.1 dX1_bears_84) (fun v27 h28 H locs cells slots hH hL hrun => ?_)
      refine lv_if_eq (tgt := 94) (pc := 89) hx hb dX1_bears_89 (by decide) (fun c_ => ?_) (fun c_ => ?_)
      · have hrun := ite_t hrun c_
        refine lv_lload_n (pc := 94) hx hb dX1_bears_94 rfl (lv_at hl 0 rfl) ?_
        refine lv_lstore (i := 5) (lv' := [(5, .long x1), (1, .long x1), (3, rv x3), (4, .int x4)]) (pc := 95) hx hb dX1_bears_95 hl (by decide) rfl (fun ls hl => ?_)
        refine lv_iconst (v := (0 : Int32)) (pc := 97) hx hb dX1_bears_97 (by decide) ?_
        refine lv_istore (i := 7) (lv' := [(7, .int (0 : Int32)), (5, .long x1), (1, .long x1), (3, rv x3), (4, .int x4)]) (pc := 98) hx hb dX1_bears_98 hl (by decide) rfl (fun ls hl => ?_)
        exact b_X1_bears_100 C FU x1 x3 x4 x1 (0 : Int32) h28 H locs cells slots ls hH hL (lv_sub hl [2, 3, 4, 1, 0] rfl) hrun
      · have hrun := ite_f hrun c_
        refine lv_iconst (v := (0 : Int32)) (pc := 92) hx hb dX1_bears_92 (by decide) ?_
        exact V_zret (pc := 93) C hH hL (Or.inl rfl) hrun dX1_bears_93
    · have hrun := ite_f hrun c_
      refine V_aload (pc := 30) hx hb dX1_bears_30 (lv_at hl 3 rfl) ?_
      obtain ⟨c32, hrun⟩ := gd_some hrun
      refine V_bd5 (pc := 32) C hL rfl hrun (fun rr1 e1 => Z_runF (rest := []) C hH (m_J16_next hl9 e1) rfl wF_X1_217_J16 c32 (by decide) rfl ⟨by decide, by decide⟩ rfl (Nat.le_of_ble_eq_true rfl) hl.1 dX1_bears_32) (fun v30 h31 H locs cells slots hH hL hrun => ?_)
      obtain ⟨c33, hrun⟩ := gd_some hrun
      refine V_castX (pc := 37) (ci := 7) C hH rfl (by decide) q363 dX1_bears_37 c33 ?_
      refine V_astore (i := 6) (lv' := [(6, rv v30), (1, .long x1), (3, rv x3), (4, .int x4), (5, rv x5)]) (pc := 40) hx hb dX1_bears_40 hl (by decide) (by simp [rv_cat, cat_i, cat_l, cat_f, cat_d]) (fun ls hl => ?_)
      refine V_aload (pc := 42) hx hb dX1_bears_42 (lv_at hl 0 rfl) ?_
      obtain ⟨c34, hrun⟩ := gd_some hrun
      refine V_getNI (pc := 44) C hH fn_X1_326 dX1_bears_44 c34 rfl ?_
      refine lv_if_ne (tgt := 80) (pc := 47) hx hb dX1_bears_47 (by decide) (fun c_ => ?_) (fun c_ => ?_)
      · have hrun := ite_f hrun c_
        exact b_X1_bears_80 C ih x1 x3 x4 x5 h31 H locs cells slots ls hH hL (lv_sub hl [1, 2, 3, 4] rfl) hrun
      · have hrun := ite_t hrun c_
        refine V_aload (pc := 50) hx hb dX1_bears_50 (lv_at hl 0 rfl) ?_
        refine V_getNL (pc := 52) C hH fn_X1_329 dX1_bears_52 c34 rfl ?_
        refine lv_lconst (v := (0 : Int64)) (pc := 55) hx hb dX1_bears_55 (by decide) ?_
        refine V_lcmp_le (tgt := 80) (pc := 56) hx hb dX1_bears_56 dX1_bears_57 (by decide) (fun c_ => ?_) (fun c_ => ?_)
        · have hrun := ite_t hrun c_
          exact b_X1_bears_80 C ih x1 x3 x4 x5 h31 H locs cells slots ls hH hL (lv_sub hl [1, 2, 3, 4] rfl) hrun
        · have hrun := ite_f hrun c_
          refine V_aload_n (pc := 60) hx hb dX1_bears_60 rfl (lv_at hl 2 rfl) ?_
          refine V_aload (pc := 61) hx hb dX1_bears_61 (lv_at hl 0 rfl) ?_
          obtain ⟨c37, hrun⟩ := gd_some hrun
          refine V_bd5 (pc := 63) C hL rfl hrun (fun rr1 e1 => Z_runF (rest := []) C hH (m_J2_add hl9 e1) rfl wF_X1_344_J2 c37 (by decide) rfl ⟨by decide, by decide⟩ rfl (Nat.le_of_ble_eq_true rfl) hl.1 dX1_bears_63) (fun v35 h36 H locs cells slots hH hL hrun => ?_)
          refine lv_istore (i := 7) (lv' := [(7, .int v35), (6, rv v30), (1, .long x1), (3, rv x3), (4, .int x4), (5, rv x5)]) (pc := 68) hx hb dX1_bears_68 hl (by decide) (by simp [rv_cat, cat_i, cat_l, cat_f, cat_d]) (fun ls hl => ?_)
          refine lv_iload (pc := 70) hx hb dX1_bears_70 (lv_at hl 4 rfl) ?_
          refine V_aload (pc := 72) hx hb dX1_bears_72 (lv_at hl 1 rfl) ?_
          obtain ⟨c38, hrun⟩ := gd_some hrun
          refine V_getNI (pc := 74) C hH fn_X1_313 dX1_bears_74 c38 rfl ?_
          refine lv_iadd (pc := 77) hx hb dX1_bears_77 ?_
          refine lv_topi (fun v39 ev39 => ?_)
          have hrun := vl_at hrun v39 ev39
          refine lv_istore (i := 4) (lv' := [(4, .int v39), (7, .int v35), (6, rv v30), (1, .long x1), (3, rv x3), (5, rv x5)]) (pc := 78) hx hb dX1_bears_78 hl (by decide) (by simp [rv_cat, cat_i, cat_l, cat_f, cat_d]) (fun ls hl => ?_)
          exact b_X1_bears_80 C ih x1 x3 v39 x5 h36 H locs cells slots ls hH hL (lv_sub hl [3, 4, 0, 5] rfl) hrun

theorem b_X1_bears {rr : (Int32 ⊕ Ex) × Hp}  (C : CX p l R s m args meth c D Hs cX1_bears "Massclaim" 10 (some .boolean) [] 8 331)  : ∀ (x0 : Nat) (x1 : Int64) (h : Hp) (H : Heap) (locs : List Loc) (cells slots : Nat) (ls : Array Slot), HP D Hs h H → LO Hs locs → lv_has ls 10 [(0, rv x0), (1, .long x1)] → f_X1_bears x0 x1 h = some rr → W p l e R s m args below meth c H locs cells slots (ZM D Hs iI rr below args s) (F0 m 0 ls []) := by
  obtain ⟨⟨hx, hb, hml, hown, hts⟩, -⟩ := id C
  have hl9 := C.2.1.2.2.1
  intro x0 x1 h H locs cells slots ls hH hL hl hrun
  unfold f_X1_bears at hrun
  refine V_new (pc := 0) C hH nl_X1_284 dX1_bears_0 hrun (fun q40 h41 H cells slots hH hrun => ?_)
  refine lv_dup (pc := 3) hx hb dX1_bears_3 (rv_cat _) ?_
  obtain ⟨c44, hrun⟩ := gd_some hrun
  refine V_bd (pc := 4) C hL rfl hrun (fun rr1 e1 => Z_runI (rest := [rv q40]) C hH (m_J2_init hl9 e1) wI_X1_286 (hH.pos c44) rfl ⟨by decide, by decide⟩ rfl (by simp [csum, rv_cat, cat_i, cat_l, cat_f, cat_d]) hl.1 dX1_bears_4) (fun _ h43 H locs cells slots hH hL hrun => ?_)
  refine V_astore_n (i := 3) (lv' := [(3, rv q40), (0, rv x0), (1, .long x1)]) (pc := 7) hx hb dX1_bears_7 rfl hl (by decide) rfl (fun ls hl => ?_)
  refine lv_iconst (v := (0 : Int32)) (pc := 8) hx hb dX1_bears_8 (by decide) ?_
  refine lv_istore (i := 4) (lv' := [(4, .int (0 : Int32)), (3, rv q40), (0, rv x0), (1, .long x1)]) (pc := 9) hx hb dX1_bears_9 hl (by decide) (by simp [rv_cat, cat_i, cat_l, cat_f, cat_d]) (fun ls hl => ?_)
  refine V_aload_n (pc := 11) hx hb dX1_bears_11 rfl (lv_at hl 2 rfl) ?_
  obtain ⟨c45, hrun⟩ := gd_some hrun
  refine V_getR (pc := 12) C hH fr_X1_49 dX1_bears_12 c45 rfl ?_
  obtain ⟨c48, hrun⟩ := gd_some hrun
  refine V_bd (pc := 15) C hL rfl hrun (fun rr1 e1 => Z_runV (rest := []) C hH (m_X2_iterator hl9 e1) wV_X1_208 c48 rfl (by decide) rfl rfl ⟨by decide, by decide⟩ rfl (Nat.le_of_ble_eq_true rfl) hl.1 dX1_bears_15) (fun v46 h47 H locs cells slots hH hL hrun => ?_)
  refine V_astore (i := 5) (lv' := [(5, rv v46), (4, .int (0 : Int32)), (3, rv q40), (0, rv x0), (1, .long x1)]) (pc := 18) hx hb dX1_bears_18 hl (by decide) rfl (fun ls hl => ?_)
  exact b_X1_bears_20 C FU x1 q40 (0 : Int32) v46 h47 H locs cells slots ls hH hL (lv_sub hl [4, 2, 1, 0] rfl) hrun

theorem m_X1_bears {l : Launch} {D : va_G} {Hs : Heap} {h : Hp} {rr : (Int32 ⊕ Ex) × Hp} (hl9 : l.stackTraces = false) {x0 : Nat} {x1 : Int64} (hrun : f_X1_bears x0 x1 h = some rr) : CM l yX1_bears (ws_ yX1_bears cX1_bears 10 (some .boolean)) 8 331 iI [rv x0, .long x1] D Hs h rr := by
  refine CM.of (lv := [(0, rv x0), (1, .long x1)]) (plainFor_of_name (by decide)) hl9 (by simp [lv_args, rv_cat, cat_i, cat_l, cat_f, cat_d]) (by simp [lg_sl, rv_cat, cat_i, cat_l, cat_f, cat_d]) ?_
  intro p e R s m args below meth c H ls C hH hl hin
  exact b_X1_bears C x0 x1 _ H [] _ _ ls hH (fun _ q => nomatch q) (lv_sub hl [0, 1] rfl) hrun

/-! Massclaim.fail(I)J -/
def f_X1_fail_61  (x3 : Int64) (y0 : Int32) (h : Hp) : Rt Int64 :=
  some (.inl x3, h)
def f_X1_fail_60  (x3 : Int64) (h : Hp) : Rt Int64 :=
  f_X1_fail_61 x3 (0 : Int32) h
def f_X1_fail_24  (x0 : Nat) (x2 : Nat) (y0 : Int32) (h : Hp) : Rt Int64 :=
  bd (f_X1_requireState y0 h) fun _ h2 => gd (kC h2 x2 = 8) <| vl (kL h2 703 x2) fun v4 => vl (sI h2 705 x2 (1 : Int32)) fun h5 => gd (kC h5 x2 = 8) <| vl (sL h5 703 x2 (0 : Int64)) fun h7 => if v4 ≤ (0 : Int64) then
  (f_X1_fail_60 v4 h7)
  else
  (gd (kC h7 x0 = 1) <| bd (f_X1_bears x0 v4 h7) fun v8 h9 => if v8 = 0 then
  (f_X1_fail_60 v4 h9)
  else
  (f_X1_fail_61 v4 (1 : Int32) h9))
def f_X1_fail  (x0 : Nat) (x1 : Int32) (h : Hp) : Rt Int64 :=
  gd (kC h x0 = 1) <| gd (kC h (kR h 2 x0) = 2) <| bd (f_X2_at (kR h 2 x0) x1 h) fun v12 h13 => gd (v12 = 0 ∨ kC h13 v12 = 8) <| gd (kC h13 v12 = 8) <| if (kI h13 705 v12) = 0 then
  (f_X1_fail_24 x0 v12 (1 : Int32) h13)
  else
  (f_X1_fail_24 x0 v12 (0 : Int32) h13)
theorem b_X1_fail_61 {rr : (Int64 ⊕ Ex) × Hp}  (C : CX p l R s m args meth c D Hs cX1_fail "Massclaim" 6 (some .long) [] 9 360)  : ∀ (x3 : Int64) (y0 : Int32) (h : Hp) (H : Heap) (locs : List Loc) (cells slots : Nat) (ls : Array Slot), HP D Hs h H → LO Hs locs → lv_has ls 6 [(3, .long x3)] → f_X1_fail_61 x3 y0 h = some rr → W p l e R s m args below meth c H locs cells slots (ZM D Hs iL rr below args s) (F0 m 61 ls [.int y0]) := by
  obtain ⟨⟨hx, hb, hml, hown, hts⟩, -⟩ := id C
  have hl9 := C.2.1.2.2.1
  intro x3 y0 h H locs cells slots ls hH hL hl hrun
  unfold f_X1_fail_61 at hrun
  refine lv_istore (i := 5) (lv' := [(5, .int y0), (3, .long x3)]) (pc := 61) hx hb dX1_fail_61 hl (by decide) rfl (fun ls hl => ?_)
  refine lv_lload_n (pc := 63) hx hb dX1_fail_63 rfl (lv_at hl 1 rfl) ?_
  exact V_lret (pc := 64) C hH hL hrun dX1_fail_64

theorem b_X1_fail_60 {rr : (Int64 ⊕ Ex) × Hp}  (C : CX p l R s m args meth c D Hs cX1_fail "Massclaim" 6 (some .long) [] 9 360)  : ∀ (x3 : Int64) (h : Hp) (H : Heap) (locs : List Loc) (cells slots : Nat) (ls : Array Slot), HP D Hs h H → LO Hs locs → lv_has ls 6 [(3, .long x3)] → f_X1_fail_60 x3 h = some rr → W p l e R s m args below meth c H locs cells slots (ZM D Hs iL rr below args s) (F0 m 60 ls []) := by
  obtain ⟨⟨hx, hb, hml, hown, hts⟩, -⟩ := id C
  have hl9 := C.2.1.2.2.1
  intro x3 h H locs cells slots ls hH hL hl hrun
  unfold f_X1_fail_60 at hrun
  refine lv_iconst (v := (0 : Int32)) (pc := 60) hx hb dX1_fail_60 (by decide) ?_
  exact b_X1_fail_61 C x3 (0 : Int32) h H locs cells slots ls hH hL (lv_sub hl [0] rfl) hrun

theorem b_X1_fail_24 {rr : (Int64 ⊕ Ex) × Hp}  (C : CX p l R s m args meth c D Hs cX1_fail "Massclaim" 6 (some .long) [] 9 360)  : ∀ (x0 : Nat) (x2 : Nat) (y0 : Int32) (h : Hp) (H : Heap) (locs : List Loc) (cells slots : Nat) (ls : Array Slot), HP D Hs h H → LO Hs locs → lv_has ls 6 [(0, rv x0), (2, rv x2)] → f_X1_fail_24 x0 x2 y0 h = some rr → W p l e R s m args below meth c H locs cells slots (ZM D Hs iL rr below args s) (F0 m 24 ls [.int y0]) := by
  obtain ⟨⟨hx, hb, hml, hown, hts⟩, -⟩ := id C
  have hl9 := C.2.1.2.2.1
  intro x0 x2 y0 h H locs cells slots ls hH hL hl hrun
  unfold f_X1_fail_24 at hrun
  refine V_bd (pc := 24) C hL rfl hrun (fun rr1 e1 => Z_runS (rest := []) C hH (m_X1_requireState hl9 e1) wS_X1_182 rfl ⟨by decide, by decide⟩ rfl (Nat.le_of_ble_eq_true rfl) hl.1 dX1_fail_24) (fun _ h2 H locs cells slots hH hL hrun => ?_)
  refine V_aload_n (pc := 27) hx hb dX1_fail_27 rfl (lv_at hl 1 rfl) ?_
  obtain ⟨c3, hrun⟩ := gd_some hrun
  refine V_getNL (pc := 28) C hH fn_X1_329 dX1_fail_28 c3 rfl ?_
  refine lv_topl (fun v4 ev4 => ?_)
  have hrun := vl_at hrun v4 ev4
  refine lv_lstore_n (i := 3) (lv' := [(3, .long v4), (0, rv x0), (2, rv x2)]) (pc := 31) hx hb dX1_fail_31 rfl hl (by decide) (by simp [rv_cat, cat_i, cat_l, cat_f, cat_d]) (fun ls hl => ?_)
  refine V_aload_n (pc := 32) hx hb dX1_fail_32 rfl (lv_at hl 2 rfl) ?_
  refine lv_iconst (v := (1 : Int32)) (pc := 33) hx hb dX1_fail_33 (by decide) ?_
  refine V_putNI (pc := 34) C hH hL fn_X1_326 dX1_fail_34 c3 (fok_z (Or.inr rfl)) rfl hrun (fun h5 H locs hH hL hrun => ?_)
  refine V_aload_n (pc := 37) hx hb dX1_fail_37 rfl (lv_at hl 2 rfl) ?_
  refine lv_lconst (v := (0 : Int64)) (pc := 38) hx hb dX1_fail_38 (by decide) ?_
  obtain ⟨c6, hrun⟩ := gd_some hrun
  refine V_putNL (pc := 39) C hH hL fn_X1_329 dX1_fail_39 c6 (fok_l _) rfl hrun (fun h7 H locs hH hL hrun => ?_)
  refine lv_lload_n (pc := 42) hx hb dX1_fail_42 rfl (lv_at hl 0 rfl) ?_
  refine lv_lconst (v := (0 : Int64)) (pc := 43) hx hb dX1_fail_43 (by decide) ?_
  refine V_lcmp_le (tgt := 60) (pc := 44) hx hb dX1_fail_44 dX1_fail_45 (by decide) (fun c_ => ?_) (fun c_ => ?_)
  · have hrun := ite_t hrun c_
    exact b_X1_fail_60 C v4 h7 H locs cells slots ls hH hL (lv_sub hl [0] rfl) hrun
  · have hrun := ite_f hrun c_
    refine V_aload_n (pc := 48) hx hb dX1_fail_48 rfl (lv_at hl 1 rfl) ?_
    refine lv_lload_n (pc := 49) hx hb dX1_fail_49 rfl (lv_at hl 0 rfl) ?_
    obtain ⟨c10, hrun⟩ := gd_some hrun
    refine V_bd (pc := 50) C hL rfl hrun (fun rr1 e1 => Z_runV (rest := []) C hH (m_X1_bears hl9 e1) wV_X1_355 c10 rfl (by decide) rfl rfl ⟨by decide, by decide⟩ rfl (Nat.le_of_ble_eq_true rfl) hl.1 dX1_fail_50) (fun v8 h9 H locs cells slots hH hL hrun => ?_)
    refine lv_if_eq (tgt := 60) (pc := 53) hx hb dX1_fail_53 (by decide) (fun c_ => ?_) (fun c_ => ?_)
    · have hrun := ite_t hrun c_
      exact b_X1_fail_60 C v4 h9 H locs cells slots ls hH hL (lv_sub hl [0] rfl) hrun
    · have hrun := ite_f hrun c_
      refine lv_iconst (v := (1 : Int32)) (pc := 56) hx hb dX1_fail_56 (by decide) ?_
      refine lv_goto (tgt := 61) (pc := 57) hx hb dX1_fail_57 (by decide) ?_
      exact b_X1_fail_61 C v4 (1 : Int32) h9 H locs cells slots ls hH hL (lv_sub hl [0] rfl) hrun

theorem b_X1_fail {rr : (Int64 ⊕ Ex) × Hp}  (C : CX p l R s m args meth c D Hs cX1_fail "Massclaim" 6 (some .long) [] 9 360)  : ∀ (x0 : Nat) (x1 : Int32) (h : Hp) (H : Heap) (locs : List Loc) (cells slots : Nat) (ls : Array Slot), HP D Hs h H → LO Hs locs → lv_has ls 6 [(0, rv x0), (1, .int x1)] → f_X1_fail x0 x1 h = some rr → W p l e R s m args below meth c H locs cells slots (ZM D Hs iL rr below args s) (F0 m 0 ls []) := by
  obtain ⟨⟨hx, hb, hml, hown, hts⟩, -⟩ := id C
  have hl9 := C.2.1.2.2.1
  intro x0 x1 h H locs cells slots ls hH hL hl hrun
  unfold f_X1_fail at hrun
  refine V_aload_n (pc := 0) hx hb dX1_fail_0 rfl (lv_at hl 0 rfl) ?_
  obtain ⟨c11, hrun⟩ := gd_some hrun
  refine V_getR (pc := 1) C hH fr_X1_49 dX1_fail_1 c11 rfl ?_
  refine lv_iload_n (pc := 4) hx hb dX1_fail_4 rfl (lv_at hl 1 rfl) ?_
  obtain ⟨c14, hrun⟩ := gd_some hrun
  refine V_bd (pc := 5) C hL rfl hrun (fun rr1 e1 => Z_runV (rest := []) C hH (m_X2_at hl9 e1) wV_X1_136 c14 rfl (by decide) rfl rfl ⟨by decide, by decide⟩ rfl (Nat.le_of_ble_eq_true rfl) hl.1 dX1_fail_5) (fun v12 h13 H locs cells slots hH hL hrun => ?_)
  obtain ⟨c15, hrun⟩ := gd_some hrun
  refine V_castX (pc := 8) (ci := 7) C hH rfl (by decide) q363 dX1_fail_8 c15 ?_
  refine V_astore_n (i := 2) (lv' := [(2, rv v12), (0, rv x0), (1, .int x1)]) (pc := 11) hx hb dX1_fail_11 rfl hl (by decide) rfl (fun ls hl => ?_)
  refine V_aload_n (pc := 12) hx hb dX1_fail_12 rfl (lv_at hl 0 rfl) ?_
  obtain ⟨c16, hrun⟩ := gd_some hrun
  refine V_getNI (pc := 13) C hH fn_X1_326 dX1_fail_13 c16 rfl ?_
  refine lv_if_ne (tgt := 23) (pc := 16) hx hb dX1_fail_16 (by decide) (fun c_ => ?_) (fun c_ => ?_)
  · have hrun := ite_f hrun c_
    refine lv_iconst (v := (0 : Int32)) (pc := 23) hx hb dX1_fail_23 (by decide) ?_
    exact b_X1_fail_24 C x0 v12 (0 : Int32) h13 H locs cells slots ls hH hL (lv_sub hl [1, 0] rfl) hrun
  · have hrun := ite_t hrun c_
    refine lv_iconst (v := (1 : Int32)) (pc := 19) hx hb dX1_fail_19 (by decide) ?_
    refine lv_goto (tgt := 24) (pc := 20) hx hb dX1_fail_20 (by decide) ?_
    exact b_X1_fail_24 C x0 v12 (1 : Int32) h13 H locs cells slots ls hH hL (lv_sub hl [1, 0] rfl) hrun

theorem m_X1_fail {l : Launch} {D : va_G} {Hs : Heap} {h : Hp} {rr : (Int64 ⊕ Ex) × Hp} (hl9 : l.stackTraces = false) {x0 : Nat} {x1 : Int32} (hrun : f_X1_fail x0 x1 h = some rr) : CM l yX1_fail (ws_ yX1_fail cX1_fail 6 (some .long)) 9 360 iL [rv x0, .int x1] D Hs h rr := by
  refine CM.of (lv := [(0, rv x0), (1, .int x1)]) (plainFor_of_name (by decide)) hl9 (by simp [lv_args, rv_cat, cat_i, cat_l, cat_f, cat_d]) (by simp [lg_sl, rv_cat, cat_i, cat_l, cat_f, cat_d]) ?_
  intro p e R s m args below meth c H ls C hH hl hin
  exact b_X1_fail C x0 x1 _ H [] _ _ ls hH (fun _ q => nomatch q) (lv_sub hl [0, 1] rfl) hrun

/-! MassclaimLaw.fail(LMassclaim;I[J)I -/
def f_X0_fail_11  (y0 : Nat) (h : Hp) : Rt Int32 :=
  some (.inl (1 : Int32), h)
def f_X0_fail_14  (y0 : Nat) (h : Hp) : Rt Int32 :=
  some (.inl (2 : Int32), h)
def f_X0_fail  (x0 : Nat) (x1 : Int32) (x2 : Nat) (h : Hp) : Rt Int32 :=
  gd (kC h x0 = 1) <| bdH (f_X1_fail x0 x1 h)
  (fun v1 h2 => gd (kC h2 x2 = 102 ∧ ixo (0 : Int32) (kN h2 x2)) <| vl (tL h2 x2 ((0 : Int32)).toNatClampNeg v1) fun h5 => some (.inl (0 : Int32), h5))
  (fun ex6 h7 => if ex6.1 = 901 then
  (f_X0_fail_11 ex6.2 h7)
  else
  if ex6.1 = 903 then
  (f_X0_fail_14 ex6.2 h7)
  else
  none)
theorem b_X0_fail_11 {rr : (Int32 ⊕ Ex) × Hp}  (C : CX p l R s m args meth c D Hs cX0_fail "MassclaimLaw" 4 (some .int) [(0, 8, 11, 25), (0, 8, 14, 19)] 10 385)  : ∀ (y0 : Nat) (h : Hp) (H : Heap) (locs : List Loc) (cells slots : Nat) (ls : Array Slot), HP D Hs h H → LO Hs locs → lv_has ls 4 [] → f_X0_fail_11 y0 h = some rr → W p l e R s m args below meth c H locs cells slots (ZM D Hs iI rr below args s) (F0 m 11 ls [rv y0]) := by
  obtain ⟨⟨hx, hb, hml, hown, hts⟩, -⟩ := id C
  have hl9 := C.2.1.2.2.1
  intro y0 h H locs cells slots ls hH hL hl hrun
  unfold f_X0_fail_11 at hrun
  refine V_astore_n (i := 3) (lv' := [(3, rv y0)]) (pc := 11) hx hb dX0_fail_11 rfl hl (by decide) rfl (fun ls hl => ?_)
  refine lv_iconst (v := (1 : Int32)) (pc := 12) hx hb dX0_fail_12 (by decide) ?_
  exact V_iret (pc := 13) C hH hL hrun dX0_fail_13

theorem b_X0_fail_14 {rr : (Int32 ⊕ Ex) × Hp}  (C : CX p l R s m args meth c D Hs cX0_fail "MassclaimLaw" 4 (some .int) [(0, 8, 11, 25), (0, 8, 14, 19)] 10 385)  : ∀ (y0 : Nat) (h : Hp) (H : Heap) (locs : List Loc) (cells slots : Nat) (ls : Array Slot), HP D Hs h H → LO Hs locs → lv_has ls 4 [] → f_X0_fail_14 y0 h = some rr → W p l e R s m args below meth c H locs cells slots (ZM D Hs iI rr below args s) (F0 m 14 ls [rv y0]) := by
  obtain ⟨⟨hx, hb, hml, hown, hts⟩, -⟩ := id C
  have hl9 := C.2.1.2.2.1
  intro y0 h H locs cells slots ls hH hL hl hrun
  unfold f_X0_fail_14 at hrun
  refine V_astore_n (i := 3) (lv' := [(3, rv y0)]) (pc := 14) hx hb dX0_fail_14 rfl hl (by decide) rfl (fun ls hl => ?_)
  refine lv_iconst (v := (2 : Int32)) (pc := 15) hx hb dX0_fail_15 (by decide) ?_
  exact V_iret (pc := 16) C hH hL hrun dX0_fail_16

theorem b_X0_fail {rr : (Int32 ⊕ Ex) × Hp}  (C : CX p l R s m args meth c D Hs cX0_fail "MassclaimLaw" 4 (some .int) [(0, 8, 11, 25), (0, 8, 14, 19)] 10 385)  : ∀ (x0 : Nat) (x1 : Int32) (x2 : Nat) (h : Hp) (H : Heap) (locs : List Loc) (cells slots : Nat) (ls : Array Slot), HP D Hs h H → LO Hs locs → lv_has ls 4 [(0, rv x0), (1, .int x1), (2, rv x2)] → f_X0_fail x0 x1 x2 h = some rr → W p l e R s m args below meth c H locs cells slots (ZM D Hs iI rr below args s) (F0 m 0 ls []) := by
  obtain ⟨⟨hx, hb, hml, hown, hts⟩, -⟩ := id C
  have hl9 := C.2.1.2.2.1
  intro x0 x1 x2 h H locs cells slots ls hH hL hl hrun
  unfold f_X0_fail at hrun
  refine V_aload_n (pc := 0) hx hb dX0_fail_0 rfl (lv_at hl 2 rfl) ?_
  refine lv_iconst (v := (0 : Int32)) (pc := 1) hx hb dX0_fail_1 (by decide) ?_
  refine V_aload_n (pc := 2) hx hb dX0_fail_2 rfl (lv_at hl 0 rfl) ?_
  refine lv_iload_n (pc := 3) hx hb dX0_fail_3 rfl (lv_at hl 1 rfl) ?_
  obtain ⟨c3, hrun⟩ := gd_some hrun
  refine V_bdH (pc := 4) hL hrun (fun rr1 e1 => Z_runV (rest := [.int (0 : Int32), rv x2]) C hH (m_X1_fail hl9 e1) wV_X0_77 c3 rfl (by decide) rfl rfl ⟨by decide, by decide⟩ rfl (by simp [csum, rv_cat, cat_i, cat_l, cat_f, cat_d]) hl.1 dX0_fail_4) (fun v1 h2 H locs cells slots hH hL hrun => ?_) (fun x_ q_ ce_ h7 H locs cells slots hH hL hrun hc_ hv_ hcl_ => ?_)
  · obtain ⟨c4, hrun⟩ := gd_some hrun
    refine V_last (pc := 7) C hH hL dX0_fail_7 c4 hrun (fun h5 H locs hH hL hrun => ?_)
    refine lv_goto (tgt := 17) (pc := 8) hx hb dX0_fail_8 (by decide) ?_
    refine lv_iconst (v := (0 : Int32)) (pc := 17) hx hb dX0_fail_17 (by decide) ?_
    exact V_iret (pc := 18) C hH hL hrun dX0_fail_18
  · by_cases n901 : x_ = 901
    · subst n901
      have hrun := ite_t hrun rfl
      refine vx_catch (E := "java/lang/IndexOutOfBoundsException") (name := "java/lang/IndexOutOfBoundsException") hown (tableOf []) ⟨0, 8, 11, 25⟩ (tableOf [(0, 8, 14, 19)]) (by rw [C.2.1.2.2.2.2]; rfl) (fun z hz => nomatch hz) (by decide) (by decide) (hts _ q829) (va_Nw.use rfl (C.2.1.2.2.2.1.2.1 _ q537 rfl)) hc_ hv_ hcl_ ?_
      exact b_X0_fail_11 C (q_ + 1) h7 H locs cells slots ls hH hL (lv_sub hl [] rfl) hrun
    have hrun := ite_f hrun n901
    by_cases n903 : x_ = 903
    · subst n903
      have hrun := ite_t hrun rfl
      refine vx_catch (E := "java/lang/IllegalStateException") (name := "java/lang/IllegalStateException") hown (tableOf [(0, 8, 11, 25)]) ⟨0, 8, 14, 19⟩ (tableOf []) (by rw [C.2.1.2.2.2.2]; rfl) (fun z hz => by simp only [tableOf, List.map, List.mem_cons, List.not_mem_nil, or_false] at hz; rcases hz with rfl <;> first | exact Or.inr ⟨by decide, "java/lang/IndexOutOfBoundsException", hts _ q829, nc_at C (by decide)⟩) (by decide) (by decide) (hts _ q585) (va_Nw.use rfl (C.2.1.2.2.2.1.2.1 _ q702 rfl)) hc_ hv_ hcl_ ?_
      exact b_X0_fail_14 C (q_ + 1) h7 H locs cells slots ls hH hL (lv_sub hl [] rfl) hrun
    have hrun := ite_f hrun n903
    cases hrun

theorem m_X0_fail {l : Launch} {D : va_G} {Hs : Heap} {h : Hp} {rr : (Int32 ⊕ Ex) × Hp} (hl9 : l.stackTraces = false) {x0 : Nat} {x1 : Int32} {x2 : Nat} (hrun : f_X0_fail x0 x1 x2 h = some rr) : CM l yX0_fail (wsW_ yX0_fail cX0_fail 4 (some .int) [(0, 8, 11, 25), (0, 8, 14, 19)]) 10 385 iI [rv x0, .int x1, rv x2] D Hs h rr := by
  refine CM.ofH (lv := [(0, rv x0), (1, .int x1), (2, rv x2)]) (plainFor_of_name (by decide)) hl9 (by simp [lv_args, rv_cat, cat_i, cat_l, cat_f, cat_d]) (by simp [lg_sl, rv_cat, cat_i, cat_l, cat_f, cat_d]) ?_
  intro p e R s m args below meth c H ls C hH hl hin
  exact b_X0_fail C x0 x1 x2 _ H [] _ _ ls hH (fun _ q => nomatch q) (lv_sub hl [0, 1, 2] rfl) hrun

/-! MassclaimModel.spread(J)Z -/
def f_X4_spread_160 (k84 : Nat → Int64 → Int32 → Nat → Int64 → Int32 → Hp → Rt Int32) (x0 : Nat) (x1 : Int64) (x3 : Int32) (x4 : Nat) (x5 : Int64) (x7 : Int32) (h : Hp) : Rt Int32 :=
  vl (x7 + (1 : Int32)) fun v1 => k84 x0 x1 x3 x4 x5 v1 h
def f_X4_spread_84  : Nat → Nat → Int64 → Int32 → Nat → Int64 → Int32 → Hp → Rt Int32
  | 0, _, _, _, _, _, _, _ => none
  | n + 1, x0, x1, x3, x4, x5, x7, h => gd (kC h x0 = 4) <| gd (kC h (kR h 308 x0) = 18) <| bd (f_J2_size (kR h 308 x0) h) fun v3 h4 => if v3 ≤ x7 then
  (gd (kC h4 x4 = 9) <| vl (sL h4 802 x4 ((kL h4 802 x4) + x5)) fun h7 => some (.inl (1 : Int32), h7))
  else
  (gd (kC h4 x0 = 4) <| gd (kC h4 (kR h4 308 x0) = 18) <| bd (f_J2_get (kR h4 308 x0) x7 h4) fun v9 h10 => gd (v9 = 0 ∨ kC h10 v9 = 9) <| gd (kC h10 v9 = 9) <| if (kI h10 804 v9) = 0 then
  (if (kL h10 802 v9) ≤ (0 : Int64) then
  (f_X4_spread_160 (f_X4_spread_84 n) x0 x1 x3 x4 x5 x7 h10)
  else
  (gd (¬ (x3.toInt64) = 0) <| vl ((x1 * ((kI h10 800 v9).toInt64)) / (x3.toInt64)) fun v15 => vl (sL h10 802 v9 ((kL h10 802 v9) + v15)) fun h16 => vl (x5 - v15) fun v17 => f_X4_spread_160 (f_X4_spread_84 n) x0 x1 x3 x4 v17 x7 h16))
  else
  (f_X4_spread_160 (f_X4_spread_84 n) x0 x1 x3 x4 x5 x7 h10))
def f_X4_spread_65 (k16 : Nat → Int64 → Int32 → Nat → Int32 → Hp → Rt Int32) (x0 : Nat) (x1 : Int64) (x3 : Int32) (x4 : Nat) (x5 : Int32) (h : Hp) : Rt Int32 :=
  vl (x5 + (-1 : Int32)) fun v18 => k16 x0 x1 x3 x4 v18 h
def f_X4_spread_16  : Nat → Nat → Int64 → Int32 → Nat → Int32 → Hp → Rt Int32
  | 0, _, _, _, _, _, _ => none
  | n + 1, x0, x1, x3, x4, x5, h => if x5 < 0 then
  (if x4 = 0 then
  (some (.inl (0 : Int32), h))
  else
  (f_X4_spread_84 FU x0 x1 x3 x4 x1 (0 : Int32) h))
  else
  (gd (kC h x0 = 4) <| gd (kC h (kR h 308 x0) = 18) <| bd (f_J2_get (kR h 308 x0) x5 h) fun v20 h21 => gd (v20 = 0 ∨ kC h21 v20 = 9) <| gd (kC h21 v20 = 9) <| if (kI h21 804 v20) = 0 then
  (if (kL h21 802 v20) ≤ (0 : Int64) then
  (f_X4_spread_65 (f_X4_spread_16 n) x0 x1 x3 x4 x5 h21)
  else
  (vl (x3 + (kI h21 800 v20)) fun v25 => f_X4_spread_65 (f_X4_spread_16 n) x0 x1 v25 v20 x5 h21))
  else
  (f_X4_spread_65 (f_X4_spread_16 n) x0 x1 x3 x4 x5 h21))
def f_X4_spread  (x0 : Nat) (x1 : Int64) (h : Hp) : Rt Int32 :=
  gd (kC h x0 = 4) <| gd (kC h (kR h 308 x0) = 18) <| bd (f_J2_size (kR h 308 x0) h) fun v27 h28 => vl (v27 - (1 : Int32)) fun v30 => f_X4_spread_16 FU x0 x1 (0 : Int32) 0 v30 h28
theorem b_X4_spread_160 {rr : (Int32 ⊕ Ex) × Hp} {k84 : Nat → Int64 → Int32 → Nat → Int64 → Int32 → Hp → Rt Int32} (C : CX p l R s m args meth c D Hs cX4_spread "MassclaimModel" 11 (some .boolean) [] 4 64) (K84 : ∀ (x0 : Nat) (x1 : Int64) (x3 : Int32) (x4 : Nat) (x5 : Int64) (x7 : Int32) (h : Hp) (H : Heap) (locs : List Loc) (cells slots : Nat) (ls : Array Slot), HP D Hs h H → LO Hs locs → lv_has ls 11 [(0, rv x0), (1, .long x1), (3, .int x3), (4, rv x4), (5, .long x5), (7, .int x7)] → k84 x0 x1 x3 x4 x5 x7 h = some rr → W p l e R s m args below meth c H locs cells slots (ZM D Hs iI rr below args s) (F0 m 84 ls [])) : ∀ (x0 : Nat) (x1 : Int64) (x3 : Int32) (x4 : Nat) (x5 : Int64) (x7 : Int32) (h : Hp) (H : Heap) (locs : List Loc) (cells slots : Nat) (ls : Array Slot), HP D Hs h H → LO Hs locs → lv_has ls 11 [(0, rv x0), (1, .long x1), (3, .int x3), (4, rv x4), (5, .long x5), (7, .int x7)] → f_X4_spread_160 k84 x0 x1 x3 x4 x5 x7 h = some rr → W p l e R s m args below meth c H locs cells slots (ZM D Hs iI rr below args s) (F0 m 160 ls []) := by
  obtain ⟨⟨hx, hb, hml, hown, hts⟩, -⟩ := id C
  have hl9 := C.2.1.2.2.1
  intro x0 x1 x3 x4 x5 x7 h H locs cells slots ls hH hL hl hrun
  unfold f_X4_spread_160 at hrun
  obtain ⟨v1, ev1⟩ : ∃ y : Int32, y = x7 + (1 : Int32) := ⟨_, rfl⟩
  have hrun := vl_at hrun v1 ev1
  refine lv_iinc (v := v1) (lv' := [(7, .int v1), (0, rv x0), (1, .long x1), (3, .int x3), (4, rv x4), (5, .long x5)]) (pc := 160) hx hb dX4_spread_160 hl (k := 5) rfl (by rw [ev1]; rfl) (by decide) (by first | rfl | simp [rv_cat, cat_i, cat_l, cat_f, cat_d]) (fun ls hl => ?_)
  refine lv_goto (tgt := 84) (pc := 163) hx hb dX4_spread_163 (by decide) ?_
  exact K84 x0 x1 x3 x4 x5 v1 h H locs cells slots ls hH hL (lv_sub hl [1, 2, 3, 4, 5, 0] rfl) hrun

theorem b_X4_spread_84 {rr : (Int32 ⊕ Ex) × Hp}  (C : CX p l R s m args meth c D Hs cX4_spread "MassclaimModel" 11 (some .boolean) [] 4 64)  : ∀ (n : Nat) (x0 : Nat) (x1 : Int64) (x3 : Int32) (x4 : Nat) (x5 : Int64) (x7 : Int32) (h : Hp) (H : Heap) (locs : List Loc) (cells slots : Nat) (ls : Array Slot), HP D Hs h H → LO Hs locs → lv_has ls 11 [(0, rv x0), (1, .long x1), (3, .int x3), (4, rv x4), (5, .long x5), (7, .int x7)] → f_X4_spread_84 n x0 x1 x3 x4 x5 x7 h = some rr → W p l e R s m args below meth c H locs cells slots (ZM D Hs iI rr below args s) (F0 m 84 ls []) := by
  obtain ⟨⟨hx, hb, hml, hown, hts⟩, -⟩ := id C
  have hl9 := C.2.1.2.2.1
  intro n
  induction n with
  | zero =>
    intro x0 x1 x3 x4 x5 x7 h H locs cells slots ls hH hL hl hrun
    cases (show (none : Option _) = some rr from hrun)
  | succ n ih =>
    intro x0 x1 x3 x4 x5 x7 h H locs cells slots ls hH hL hl hrun
    rw [f_X4_spread_84] at hrun
    refine lv_iload (pc := 84) hx hb dX4_spread_84 (lv_at hl 5 rfl) ?_
    refine V_aload_n (pc := 86) hx hb dX4_spread_86 rfl (lv_at hl 0 rfl) ?_
    obtain ⟨c2, hrun⟩ := gd_some hrun
    refine V_getR (pc := 87) C hH fr_X4_23 dX4_spread_87 c2 rfl ?_
    obtain ⟨c5, hrun⟩ := gd_some hrun
    refine V_bd (pc := 90) C hL rfl hrun (fun rr1 e1 => Z_runV (rest := [.int x7]) C hH (m_J2_size hl9 e1) wV_X4_94 c5 rfl (by decide) rfl rfl ⟨by decide, by decide⟩ rfl (Nat.le_of_ble_eq_true rfl) hl.1 dX4_spread_90) (fun v3 h4 H locs cells slots hH hL hrun => ?_)
    refine lv_icmp_ge (tgt := 166) (pc := 93) hx hb dX4_spread_93 (by decide) (fun c_ => ?_) (fun c_ => ?_)
    · have hrun := ite_t hrun c_
      refine V_aload (pc := 166) hx hb dX4_spread_166 (lv_at hl 3 rfl) ?_
      refine lv_dup (pc := 168) hx hb dX4_spread_168 (rv_cat _) ?_
      obtain ⟨c6, hrun⟩ := gd_some hrun
      refine V_getL (pc := 169) C hH fr_X4_317 dX4_spread_169 c6 rfl ?_
      refine lv_lload (pc := 172) hx hb dX4_spread_172 (lv_at hl 4 rfl) ?_
      refine lv_ladd (pc := 174) hx hb dX4_spread_174 ?_
      refine V_putL (pc := 175) C hH hL fl_X4_317 dX4_spread_175 c6 (fok_l _) rfl (fun q => Bool.noConfusion q) hrun (fun h7 H locs hH hL hrun => ?_)
      refine lv_iconst (v := (1 : Int32)) (pc := 178) hx hb dX4_spread_178 (by decide) ?_
      exact V_zret (pc := 179) C hH hL (Or.inr rfl) hrun dX4_spread_179
    · have hrun := ite_f hrun c_
      refine V_aload_n (pc := 96) hx hb dX4_spread_96 rfl (lv_at hl 0 rfl) ?_
      obtain ⟨c8, hrun⟩ := gd_some hrun
      refine V_getR (pc := 97) C hH fr_X4_23 dX4_spread_97 c8 rfl ?_
      refine lv_iload (pc := 100) hx hb dX4_spread_100 (lv_at hl 5 rfl) ?_
      obtain ⟨c11, hrun⟩ := gd_some hrun
      refine V_bd (pc := 102) C hL rfl hrun (fun rr1 e1 => Z_runV (rest := []) C hH (m_J2_get hl9 e1) wV_X4_108 c11 rfl (by decide) rfl rfl ⟨by decide, by decide⟩ rfl (Nat.le_of_ble_eq_true rfl) hl.1 dX4_spread_102) (fun v9 h10 H locs cells slots hH hL hrun => ?_)
      obtain ⟨c12, hrun⟩ := gd_some hrun
      refine V_castX (pc := 105) (ci := 8) C hH rfl (by decide) q2211 dX4_spread_105 c12 ?_
      refine V_astore (i := 8) (lv' := [(8, rv v9), (0, rv x0), (1, .long x1), (3, .int x3), (4, rv x4), (5, .long x5), (7, .int x7)]) (pc := 108) hx hb dX4_spread_108 hl (by decide) rfl (fun ls hl => ?_)
      refine V_aload (pc := 110) hx hb dX4_spread_110 (lv_at hl 0 rfl) ?_
      obtain ⟨c13, hrun⟩ := gd_some hrun
      refine V_getI (pc := 112) C hH fr_X4_314 dX4_spread_112 c13 rfl ?_
      refine lv_if_ne (tgt := 160) (pc := 115) hx hb dX4_spread_115 (by decide) (fun c_ => ?_) (fun c_ => ?_)
      · have hrun := ite_f hrun c_
        exact b_X4_spread_160 C ih x0 x1 x3 x4 x5 x7 h10 H locs cells slots ls hH hL (lv_sub hl [1, 2, 3, 4, 5, 6] rfl) hrun
      · have hrun := ite_t hrun c_
        refine V_aload (pc := 118) hx hb dX4_spread_118 (lv_at hl 0 rfl) ?_
        refine V_getL (pc := 120) C hH fr_X4_317 dX4_spread_120 c13 rfl ?_
        refine lv_lconst (v := (0 : Int64)) (pc := 123) hx hb dX4_spread_123 (by decide) ?_
        refine V_lcmp_le (tgt := 160) (pc := 124) hx hb dX4_spread_124 dX4_spread_125 (by decide) (fun c_ => ?_) (fun c_ => ?_)
        · have hrun := ite_t hrun c_
          exact b_X4_spread_160 C ih x0 x1 x3 x4 x5 x7 h10 H locs cells slots ls hH hL (lv_sub hl [1, 2, 3, 4, 5, 6] rfl) hrun
        · have hrun := ite_f hrun c_
          refine lv_lload_n (pc := 128) hx hb dX4_spread_128 rfl (lv_at hl 2 rfl) ?_
          refine V_aload (pc := 129) hx hb dX4_spread_129 (lv_at hl 0 rfl) ?_
          refine V_getI (pc := 131) C hH fr_X4_297 dX4_spread_131 c13 rfl ?_
          refine lv_i2l (pc := 134) hx hb dX4_spread_134 rfl ?_
          refine lv_lmul (pc := 135) hx hb dX4_spread_135 ?_
          refine lv_iload_n (pc := 136) hx hb dX4_spread_136 rfl (lv_at hl 3 rfl) ?_
          refine lv_i2l (pc := 137) hx hb dX4_spread_137 rfl ?_
          obtain ⟨c14, hrun⟩ := gd_some hrun
          refine lv_ldiv (pc := 138) hx hb dX4_spread_138 c14 ?_
          refine lv_topl (fun v15 ev15 => ?_)
          have hrun := vl_at hrun v15 ev15
          refine lv_lstore (i := 9) (lv' := [(9, .long v15), (8, rv v9), (0, rv x0), (1, .long x1), (3, .int x3), (4, rv x4), (5, .long x5), (7, .int x7)]) (pc := 139) hx hb dX4_spread_139 hl (by decide) (by simp [rv_cat, cat_i, cat_l, cat_f, cat_d]) (fun ls hl => ?_)
          refine V_aload (pc := 141) hx hb dX4_spread_141 (lv_at hl 1 rfl) ?_
          refine lv_dup (pc := 143) hx hb dX4_spread_143 (rv_cat _) ?_
          refine V_getL (pc := 144) C hH fr_X4_317 dX4_spread_144 c13 rfl ?_
          refine lv_lload (pc := 147) hx hb dX4_spread_147 (lv_at hl 0 rfl) ?_
          refine lv_ladd (pc := 149) hx hb dX4_spread_149 ?_
          refine V_putL (pc := 150) C hH hL fl_X4_317 dX4_spread_150 c13 (fok_l _) rfl (fun q => Bool.noConfusion q) hrun (fun h16 H locs hH hL hrun => ?_)
          refine lv_lload (pc := 153) hx hb dX4_spread_153 (lv_at hl 6 rfl) ?_
          refine lv_lload (pc := 155) hx hb dX4_spread_155 (lv_at hl 0 rfl) ?_
          refine lv_lsub (pc := 157) hx hb dX4_spread_157 ?_
          refine lv_topl (fun v17 ev17 => ?_)
          have hrun := vl_at hrun v17 ev17
          refine lv_lstore (i := 5) (lv' := [(5, .long v17), (9, .long v15), (8, rv v9), (0, rv x0), (1, .long x1), (3, .int x3), (4, rv x4), (7, .int x7)]) (pc := 158) hx hb dX4_spread_158 hl (by decide) (by simp [rv_cat, cat_i, cat_l, cat_f, cat_d]) (fun ls hl => ?_)
          exact b_X4_spread_160 C ih x0 x1 x3 x4 v17 x7 h16 H locs cells slots ls hH hL (lv_sub hl [3, 4, 5, 6, 0, 7] rfl) hrun

theorem b_X4_spread_65 {rr : (Int32 ⊕ Ex) × Hp} {k16 : Nat → Int64 → Int32 → Nat → Int32 → Hp → Rt Int32} (C : CX p l R s m args meth c D Hs cX4_spread "MassclaimModel" 11 (some .boolean) [] 4 64) (K16 : ∀ (x0 : Nat) (x1 : Int64) (x3 : Int32) (x4 : Nat) (x5 : Int32) (h : Hp) (H : Heap) (locs : List Loc) (cells slots : Nat) (ls : Array Slot), HP D Hs h H → LO Hs locs → lv_has ls 11 [(0, rv x0), (1, .long x1), (3, .int x3), (4, rv x4), (5, .int x5)] → k16 x0 x1 x3 x4 x5 h = some rr → W p l e R s m args below meth c H locs cells slots (ZM D Hs iI rr below args s) (F0 m 16 ls [])) : ∀ (x0 : Nat) (x1 : Int64) (x3 : Int32) (x4 : Nat) (x5 : Int32) (h : Hp) (H : Heap) (locs : List Loc) (cells slots : Nat) (ls : Array Slot), HP D Hs h H → LO Hs locs → lv_has ls 11 [(0, rv x0), (1, .long x1), (3, .int x3), (4, rv x4), (5, .int x5)] → f_X4_spread_65 k16 x0 x1 x3 x4 x5 h = some rr → W p l e R s m args below meth c H locs cells slots (ZM D Hs iI rr below args s) (F0 m 65 ls []) := by
  obtain ⟨⟨hx, hb, hml, hown, hts⟩, -⟩ := id C
  have hl9 := C.2.1.2.2.1
  intro x0 x1 x3 x4 x5 h H locs cells slots ls hH hL hl hrun
  unfold f_X4_spread_65 at hrun
  obtain ⟨v18, ev18⟩ : ∃ y : Int32, y = x5 + (-1 : Int32) := ⟨_, rfl⟩
  have hrun := vl_at hrun v18 ev18
  refine lv_iinc (v := v18) (lv' := [(5, .int v18), (0, rv x0), (1, .long x1), (3, .int x3), (4, rv x4)]) (pc := 65) hx hb dX4_spread_65 hl (k := 4) rfl (by rw [ev18]; rfl) (by decide) (by first | rfl | simp [rv_cat, cat_i, cat_l, cat_f, cat_d]) (fun ls hl => ?_)
  refine lv_goto (tgt := 16) (pc := 68) hx hb dX4_spread_68 (by decide) ?_
  exact K16 x0 x1 x3 x4 v18 h H locs cells slots ls hH hL (lv_sub hl [1, 2, 3, 4, 0] rfl) hrun

theorem b_X4_spread_16 {rr : (Int32 ⊕ Ex) × Hp}  (C : CX p l R s m args meth c D Hs cX4_spread "MassclaimModel" 11 (some .boolean) [] 4 64)  : ∀ (n : Nat) (x0 : Nat) (x1 : Int64) (x3 : Int32) (x4 : Nat) (x5 : Int32) (h : Hp) (H : Heap) (locs : List Loc) (cells slots : Nat) (ls : Array Slot), HP D Hs h H → LO Hs locs → lv_has ls 11 [(0, rv x0), (1, .long x1), (3, .int x3), (4, rv x4), (5, .int x5)] → f_X4_spread_16 n x0 x1 x3 x4 x5 h = some rr → W p l e R s m args below meth c H locs cells slots (ZM D Hs iI rr below args s) (F0 m 16 ls []) := by
  obtain ⟨⟨hx, hb, hml, hown, hts⟩, -⟩ := id C
  have hl9 := C.2.1.2.2.1
  intro n
  induction n with
  | zero =>
    intro x0 x1 x3 x4 x5 h H locs cells slots ls hH hL hl hrun
    cases (show (none : Option _) = some rr from hrun)
  | succ n ih =>
    intro x0 x1 x3 x4 x5 h H locs cells slots ls hH hL hl hrun
    rw [f_X4_spread_16] at hrun
    refine lv_iload (pc := 16) hx hb dX4_spread_16 (lv_at hl 4 rfl) ?_
    refine lv_if_lt (tgt := 71) (pc := 18) hx hb dX4_spread_18 (by decide) (fun c_ => ?_) (fun c_ => ?_)
    · have hrun := ite_t hrun c_
      refine V_aload (pc := 71) hx hb dX4_spread_71 (lv_at hl 3 rfl) ?_
      refine V_ifnonnull (tgt := 78) (pc := 73) hx hb dX4_spread_73 (by decide) hrun (fun c_ hrun => ?_) (fun c_ hrun => ?_)
      · refine lv_lload_n (pc := 78) hx hb dX4_spread_78 rfl (lv_at hl 1 rfl) ?_
        refine lv_lstore (i := 5) (lv' := [(5, .long x1), (0, rv x0), (1, .long x1), (3, .int x3), (4, rv x4)]) (pc := 79) hx hb dX4_spread_79 hl (by decide) (by simp [rv_cat, cat_i, cat_l, cat_f, cat_d]) (fun ls hl => ?_)
        refine lv_iconst (v := (0 : Int32)) (pc := 81) hx hb dX4_spread_81 (by decide) ?_
        refine lv_istore (i := 7) (lv' := [(7, .int (0 : Int32)), (5, .long x1), (0, rv x0), (1, .long x1), (3, .int x3), (4, rv x4)]) (pc := 82) hx hb dX4_spread_82 hl (by decide) rfl (fun ls hl => ?_)
        exact b_X4_spread_84 C FU x0 x1 x3 x4 x1 (0 : Int32) h H locs cells slots ls hH hL (lv_sub hl [2, 3, 4, 5, 1, 0] rfl) hrun
      · refine lv_iconst (v := (0 : Int32)) (pc := 76) hx hb dX4_spread_76 (by decide) ?_
        exact V_zret (pc := 77) C hH hL (Or.inl rfl) hrun dX4_spread_77
    · have hrun := ite_f hrun c_
      refine V_aload_n (pc := 21) hx hb dX4_spread_21 rfl (lv_at hl 0 rfl) ?_
      obtain ⟨c19, hrun⟩ := gd_some hrun
      refine V_getR (pc := 22) C hH fr_X4_23 dX4_spread_22 c19 rfl ?_
      refine lv_iload (pc := 25) hx hb dX4_spread_25 (lv_at hl 4 rfl) ?_
      obtain ⟨c22, hrun⟩ := gd_some hrun
      refine V_bd (pc := 27) C hL rfl hrun (fun rr1 e1 => Z_runV (rest := []) C hH (m_J2_get hl9 e1) wV_X4_108 c22 rfl (by decide) rfl rfl ⟨by decide, by decide⟩ rfl (Nat.le_of_ble_eq_true rfl) hl.1 dX4_spread_27) (fun v20 h21 H locs cells slots hH hL hrun => ?_)
      obtain ⟨c23, hrun⟩ := gd_some hrun
      refine V_castX (pc := 30) (ci := 8) C hH rfl (by decide) q2211 dX4_spread_30 c23 ?_
      refine V_astore (i := 6) (lv' := [(6, rv v20), (0, rv x0), (1, .long x1), (3, .int x3), (4, rv x4), (5, .int x5)]) (pc := 33) hx hb dX4_spread_33 hl (by decide) rfl (fun ls hl => ?_)
      refine V_aload (pc := 35) hx hb dX4_spread_35 (lv_at hl 0 rfl) ?_
      obtain ⟨c24, hrun⟩ := gd_some hrun
      refine V_getI (pc := 37) C hH fr_X4_314 dX4_spread_37 c24 rfl ?_
      refine lv_if_ne (tgt := 65) (pc := 40) hx hb dX4_spread_40 (by decide) (fun c_ => ?_) (fun c_ => ?_)
      · have hrun := ite_f hrun c_
        exact b_X4_spread_65 C ih x0 x1 x3 x4 x5 h21 H locs cells slots ls hH hL (lv_sub hl [1, 2, 3, 4, 5] rfl) hrun
      · have hrun := ite_t hrun c_
        refine V_aload (pc := 43) hx hb dX4_spread_43 (lv_at hl 0 rfl) ?_
        refine V_getL (pc := 45) C hH fr_X4_317 dX4_spread_45 c24 rfl ?_
        refine lv_lconst (v := (0 : Int64)) (pc := 48) hx hb dX4_spread_48 (by decide) ?_
        refine V_lcmp_le (tgt := 65) (pc := 49) hx hb dX4_spread_49 dX4_spread_50 (by decide) (fun c_ => ?_) (fun c_ => ?_)
        · have hrun := ite_t hrun c_
          exact b_X4_spread_65 C ih x0 x1 x3 x4 x5 h21 H locs cells slots ls hH hL (lv_sub hl [1, 2, 3, 4, 5] rfl) hrun
        · have hrun := ite_f hrun c_
          refine lv_iload_n (pc := 53) hx hb dX4_spread_53 rfl (lv_at hl 3 rfl) ?_
          refine V_aload (pc := 54) hx hb dX4_spread_54 (lv_at hl 0 rfl) ?_
          refine V_getI (pc := 56) C hH fr_X4_297 dX4_spread_56 c24 rfl ?_
          refine lv_iadd (pc := 59) hx hb dX4_spread_59 ?_
          refine lv_topi (fun v25 ev25 => ?_)
          have hrun := vl_at hrun v25 ev25
          refine lv_istore_n (i := 3) (lv' := [(3, .int v25), (6, rv v20), (0, rv x0), (1, .long x1), (4, rv x4), (5, .int x5)]) (pc := 60) hx hb dX4_spread_60 rfl hl (by decide) rfl (fun ls hl => ?_)
          refine V_aload (pc := 61) hx hb dX4_spread_61 (lv_at hl 1 rfl) ?_
          refine V_astore (i := 4) (lv' := [(4, rv v20), (3, .int v25), (6, rv v20), (0, rv x0), (1, .long x1), (5, .int x5)]) (pc := 63) hx hb dX4_spread_63 hl (by decide) rfl (fun ls hl => ?_)
          exact b_X4_spread_65 C ih x0 x1 v25 v20 x5 h21 H locs cells slots ls hH hL (lv_sub hl [3, 4, 1, 0, 5] rfl) hrun

theorem b_X4_spread {rr : (Int32 ⊕ Ex) × Hp}  (C : CX p l R s m args meth c D Hs cX4_spread "MassclaimModel" 11 (some .boolean) [] 4 64)  : ∀ (x0 : Nat) (x1 : Int64) (h : Hp) (H : Heap) (locs : List Loc) (cells slots : Nat) (ls : Array Slot), HP D Hs h H → LO Hs locs → lv_has ls 11 [(0, rv x0), (1, .long x1)] → f_X4_spread x0 x1 h = some rr → W p l e R s m args below meth c H locs cells slots (ZM D Hs iI rr below args s) (F0 m 0 ls []) := by
  obtain ⟨⟨hx, hb, hml, hown, hts⟩, -⟩ := id C
  have hl9 := C.2.1.2.2.1
  intro x0 x1 h H locs cells slots ls hH hL hl hrun
  unfold f_X4_spread at hrun
  refine lv_iconst (v := (0 : Int32)) (pc := 0) hx hb dX4_spread_0 (by decide) ?_
  refine lv_istore_n (i := 3) (lv' := [(3, .int (0 : Int32)), (0, rv x0), (1, .long x1)]) (pc := 1) hx hb dX4_spread_1 rfl hl (by decide) rfl (fun ls hl => ?_)
  refine V_null (pc := 2) hx hb dX4_spread_2 ?_
  refine V_astore (i := 4) (lv' := [(4, rv 0), (3, .int (0 : Int32)), (0, rv x0), (1, .long x1)]) (pc := 3) hx hb dX4_spread_3 hl (by decide) rfl (fun ls hl => ?_)
  refine V_aload_n (pc := 5) hx hb dX4_spread_5 rfl (lv_at hl 2 rfl) ?_
  obtain ⟨c26, hrun⟩ := gd_some hrun
  refine V_getR (pc := 6) C hH fr_X4_23 dX4_spread_6 c26 rfl ?_
  obtain ⟨c29, hrun⟩ := gd_some hrun
  refine V_bd (pc := 9) C hL rfl hrun (fun rr1 e1 => Z_runV (rest := []) C hH (m_J2_size hl9 e1) wV_X4_94 c29 rfl (by decide) rfl rfl ⟨by decide, by decide⟩ rfl (Nat.le_of_ble_eq_true rfl) hl.1 dX4_spread_9) (fun v27 h28 H locs cells slots hH hL hrun => ?_)
  refine lv_iconst (v := (1 : Int32)) (pc := 12) hx hb dX4_spread_12 (by decide) ?_
  refine lv_isub (pc := 13) hx hb dX4_spread_13 ?_
  refine lv_topi (fun v30 ev30 => ?_)
  have hrun := vl_at hrun v30 ev30
  refine lv_istore (i := 5) (lv' := [(5, .int v30), (4, rv 0), (3, .int (0 : Int32)), (0, rv x0), (1, .long x1)]) (pc := 14) hx hb dX4_spread_14 hl (by decide) (by simp [rv_cat, cat_i, cat_l, cat_f, cat_d]) (fun ls hl => ?_)
  exact b_X4_spread_16 C FU x0 x1 (0 : Int32) 0 v30 h28 H locs cells slots ls hH hL (lv_sub hl [3, 4, 2, 1, 0] rfl) hrun

theorem m_X4_spread {l : Launch} {D : va_G} {Hs : Heap} {h : Hp} {rr : (Int32 ⊕ Ex) × Hp} (hl9 : l.stackTraces = false) {x0 : Nat} {x1 : Int64} (hrun : f_X4_spread x0 x1 h = some rr) : CM l yX4_spread (ws_ yX4_spread cX4_spread 11 (some .boolean)) 4 64 iI [rv x0, .long x1] D Hs h rr := by
  refine CM.of (lv := [(0, rv x0), (1, .long x1)]) (plainFor_of_name (by decide)) hl9 (by simp [lv_args, rv_cat, cat_i, cat_l, cat_f, cat_d]) (by simp [lg_sl, rv_cat, cat_i, cat_l, cat_f, cat_d]) ?_
  intro p e R s m args below meth c H ls C hH hl hin
  exact b_X4_spread C x0 x1 _ H [] _ _ ls hH (fun _ q => nomatch q) (lv_sub hl [0, 1] rfl) hrun

/-! MassclaimModel.fail(I)J -/
def f_X4_fail_43  (h : Hp) : Rt Int64 :=
  some (.inl (0 : Int64), h)
def f_X4_fail_84  (x3 : Int64) (h : Hp) : Rt Int64 :=
  some (.inl x3, h)
def f_X4_fail_36  (x0 : Nat) (x1 : Int32) (y0 : Nat) (y1 : Int32) (h : Hp) : Rt Int64 :=
  gd (kC h y0 = 4) <| bd (f_X4_isGood y0 y1 (2 : Int32) h) fun v1 h2 => if v1 = 0 then
  (f_X4_fail_43  h2)
  else
  (gd (kC h2 x0 = 4) <| gd (kC h2 (kR h2 308 x0) = 18) <| bd (f_J2_get (kR h2 308 x0) x1 h2) fun v5 h6 => gd (v5 = 0 ∨ kC h6 v5 = 9) <| gd (kC h6 v5 = 9) <| vl (kL h6 802 v5) fun v10 => vl (sI h6 804 v5 (1 : Int32)) fun h11 => gd (kC h11 v5 = 9) <| vl (sL h11 802 v5 (0 : Int64)) fun h13 => if v10 ≤ (0 : Int64) then
  (f_X4_fail_84 v10 h13)
  else
  (gd (kC h13 x0 = 4) <| bd (f_X4_spread x0 v10 h13) fun v14 h15 => f_X4_fail_84 v10 h15))
def f_X4_fail  (x0 : Nat) (x1 : Int32) (h : Hp) : Rt Int64 :=
  gd (kC h x0 = 4) <| bd (f_X4_isDefendant x0 x1 h) fun v17 h18 => gd (kC h18 x0 = 4) <| bd (f_X4_isGood x0 v17 (1 : Int32) h18) fun v20 h21 => if v20 = 0 then
  (f_X4_fail_43  h21)
  else
  (gd (kC h21 x0 = 4) <| gd (kC h21 (kR h21 308 x0) = 18) <| bd (f_J2_get (kR h21 308 x0) x1 h21) fun v24 h25 => gd (v24 = 0 ∨ kC h25 v24 = 9) <| gd (kC h25 v24 = 9) <| if (kI h25 804 v24) = 0 then
  (f_X4_fail_36 x0 x1 x0 (1 : Int32) h25)
  else
  (f_X4_fail_36 x0 x1 x0 (0 : Int32) h25))
theorem b_X4_fail_43 {rr : (Int64 ⊕ Ex) × Hp}  (C : CX p l R s m args meth c D Hs cX4_fail "MassclaimModel" 5 (some .long) [] 5 94)  : ∀ (h : Hp) (H : Heap) (locs : List Loc) (cells slots : Nat) (ls : Array Slot), HP D Hs h H → LO Hs locs → lv_has ls 5 [] → f_X4_fail_43 h = some rr → W p l e R s m args below meth c H locs cells slots (ZM D Hs iL rr below args s) (F0 m 43 ls []) := by
  obtain ⟨⟨hx, hb, hml, hown, hts⟩, -⟩ := id C
  have hl9 := C.2.1.2.2.1
  intro h H locs cells slots ls hH hL hl hrun
  unfold f_X4_fail_43 at hrun
  refine lv_lconst (v := (0 : Int64)) (pc := 43) hx hb dX4_fail_43 (by decide) ?_
  exact V_lret (pc := 44) C hH hL hrun dX4_fail_44

theorem b_X4_fail_84 {rr : (Int64 ⊕ Ex) × Hp}  (C : CX p l R s m args meth c D Hs cX4_fail "MassclaimModel" 5 (some .long) [] 5 94)  : ∀ (x3 : Int64) (h : Hp) (H : Heap) (locs : List Loc) (cells slots : Nat) (ls : Array Slot), HP D Hs h H → LO Hs locs → lv_has ls 5 [(3, .long x3)] → f_X4_fail_84 x3 h = some rr → W p l e R s m args below meth c H locs cells slots (ZM D Hs iL rr below args s) (F0 m 84 ls []) := by
  obtain ⟨⟨hx, hb, hml, hown, hts⟩, -⟩ := id C
  have hl9 := C.2.1.2.2.1
  intro x3 h H locs cells slots ls hH hL hl hrun
  unfold f_X4_fail_84 at hrun
  refine lv_lload_n (pc := 84) hx hb dX4_fail_84 rfl (lv_at hl 0 rfl) ?_
  exact V_lret (pc := 85) C hH hL hrun dX4_fail_85

theorem b_X4_fail_36 {rr : (Int64 ⊕ Ex) × Hp}  (C : CX p l R s m args meth c D Hs cX4_fail "MassclaimModel" 5 (some .long) [] 5 94)  : ∀ (x0 : Nat) (x1 : Int32) (y0 : Nat) (y1 : Int32) (h : Hp) (H : Heap) (locs : List Loc) (cells slots : Nat) (ls : Array Slot), HP D Hs h H → LO Hs locs → lv_has ls 5 [(0, rv x0), (1, .int x1)] → f_X4_fail_36 x0 x1 y0 y1 h = some rr → W p l e R s m args below meth c H locs cells slots (ZM D Hs iL rr below args s) (F0 m 36 ls [.int y1, rv y0]) := by
  obtain ⟨⟨hx, hb, hml, hown, hts⟩, -⟩ := id C
  have hl9 := C.2.1.2.2.1
  intro x0 x1 y0 y1 h H locs cells slots ls hH hL hl hrun
  unfold f_X4_fail_36 at hrun
  refine lv_iconst (v := (2 : Int32)) (pc := 36) hx hb dX4_fail_36 (by decide) ?_
  obtain ⟨c3, hrun⟩ := gd_some hrun
  refine V_bd (pc := 37) C hL rfl hrun (fun rr1 e1 => Z_runV (rest := []) C hH (m_X4_isGood hl9 e1) wV_X4_104 c3 rfl (by decide) rfl rfl ⟨by decide, by decide⟩ rfl (Nat.le_of_ble_eq_true rfl) hl.1 dX4_fail_37) (fun v1 h2 H locs cells slots hH hL hrun => ?_)
  refine lv_if_ne (tgt := 45) (pc := 40) hx hb dX4_fail_40 (by decide) (fun c_ => ?_) (fun c_ => ?_)
  · have hrun := ite_f hrun c_
    refine V_aload_n (pc := 45) hx hb dX4_fail_45 rfl (lv_at hl 0 rfl) ?_
    obtain ⟨c4, hrun⟩ := gd_some hrun
    refine V_getR (pc := 46) C hH fr_X4_23 dX4_fail_46 c4 rfl ?_
    refine lv_iload_n (pc := 49) hx hb dX4_fail_49 rfl (lv_at hl 1 rfl) ?_
    obtain ⟨c7, hrun⟩ := gd_some hrun
    refine V_bd (pc := 50) C hL rfl hrun (fun rr1 e1 => Z_runV (rest := []) C hH (m_J2_get hl9 e1) wV_X4_108 c7 rfl (by decide) rfl rfl ⟨by decide, by decide⟩ rfl (Nat.le_of_ble_eq_true rfl) hl.1 dX4_fail_50) (fun v5 h6 H locs cells slots hH hL hrun => ?_)
    obtain ⟨c8, hrun⟩ := gd_some hrun
    refine V_castX (pc := 53) (ci := 8) C hH rfl (by decide) q2211 dX4_fail_53 c8 ?_
    refine V_astore_n (i := 2) (lv' := [(2, rv v5), (0, rv x0), (1, .int x1)]) (pc := 56) hx hb dX4_fail_56 rfl hl (by decide) rfl (fun ls hl => ?_)
    refine V_aload_n (pc := 57) hx hb dX4_fail_57 rfl (lv_at hl 0 rfl) ?_
    obtain ⟨c9, hrun⟩ := gd_some hrun
    refine V_getL (pc := 58) C hH fr_X4_317 dX4_fail_58 c9 rfl ?_
    refine lv_topl (fun v10 ev10 => ?_)
    have hrun := vl_at hrun v10 ev10
    refine lv_lstore_n (i := 3) (lv' := [(3, .long v10), (2, rv v5), (0, rv x0), (1, .int x1)]) (pc := 61) hx hb dX4_fail_61 rfl hl (by decide) (by simp [rv_cat, cat_i, cat_l, cat_f, cat_d]) (fun ls hl => ?_)
    refine V_aload_n (pc := 62) hx hb dX4_fail_62 rfl (lv_at hl 1 rfl) ?_
    refine lv_iconst (v := (1 : Int32)) (pc := 63) hx hb dX4_fail_63 (by decide) ?_
    refine V_putI (pc := 64) C hH hL fl_X4_314 dX4_fail_64 c9 (fok_z (Or.inr rfl)) rfl (fun q => Bool.noConfusion q) hrun (fun h11 H locs hH hL hrun => ?_)
    refine V_aload_n (pc := 67) hx hb dX4_fail_67 rfl (lv_at hl 1 rfl) ?_
    refine lv_lconst (v := (0 : Int64)) (pc := 68) hx hb dX4_fail_68 (by decide) ?_
    obtain ⟨c12, hrun⟩ := gd_some hrun
    refine V_putL (pc := 69) C hH hL fl_X4_317 dX4_fail_69 c12 (fok_l _) rfl (fun q => Bool.noConfusion q) hrun (fun h13 H locs hH hL hrun => ?_)
    refine lv_lload_n (pc := 72) hx hb dX4_fail_72 rfl (lv_at hl 0 rfl) ?_
    refine lv_lconst (v := (0 : Int64)) (pc := 73) hx hb dX4_fail_73 (by decide) ?_
    refine V_lcmp_le (tgt := 84) (pc := 74) hx hb dX4_fail_74 dX4_fail_75 (by decide) (fun c_ => ?_) (fun c_ => ?_)
    · have hrun := ite_t hrun c_
      exact b_X4_fail_84 C v10 h13 H locs cells slots ls hH hL (lv_sub hl [0] rfl) hrun
    · have hrun := ite_f hrun c_
      refine V_aload_n (pc := 78) hx hb dX4_fail_78 rfl (lv_at hl 2 rfl) ?_
      refine lv_lload_n (pc := 79) hx hb dX4_fail_79 rfl (lv_at hl 0 rfl) ?_
      obtain ⟨c16, hrun⟩ := gd_some hrun
      refine V_bd (pc := 80) C hL rfl hrun (fun rr1 e1 => Z_runV (rest := []) C hH (m_X4_spread hl9 e1) wV_X4_329 c16 rfl (by decide) rfl rfl ⟨by decide, by decide⟩ rfl (Nat.le_of_ble_eq_true rfl) hl.1 dX4_fail_80) (fun v14 h15 H locs cells slots hH hL hrun => ?_)
      refine lv_pop (pc := 83) hx hb dX4_fail_83 rfl ?_
      exact b_X4_fail_84 C v10 h15 H locs cells slots ls hH hL (lv_sub hl [0] rfl) hrun
  · have hrun := ite_t hrun c_
    exact b_X4_fail_43 C h2 H locs cells slots ls hH hL (lv_sub hl [] rfl) hrun

theorem b_X4_fail {rr : (Int64 ⊕ Ex) × Hp}  (C : CX p l R s m args meth c D Hs cX4_fail "MassclaimModel" 5 (some .long) [] 5 94)  : ∀ (x0 : Nat) (x1 : Int32) (h : Hp) (H : Heap) (locs : List Loc) (cells slots : Nat) (ls : Array Slot), HP D Hs h H → LO Hs locs → lv_has ls 5 [(0, rv x0), (1, .int x1)] → f_X4_fail x0 x1 h = some rr → W p l e R s m args below meth c H locs cells slots (ZM D Hs iL rr below args s) (F0 m 0 ls []) := by
  obtain ⟨⟨hx, hb, hml, hown, hts⟩, -⟩ := id C
  have hl9 := C.2.1.2.2.1
  intro x0 x1 h H locs cells slots ls hH hL hl hrun
  unfold f_X4_fail at hrun
  refine V_aload_n (pc := 0) hx hb dX4_fail_0 rfl (lv_at hl 0 rfl) ?_
  refine V_aload_n (pc := 1) hx hb dX4_fail_1 rfl (lv_at hl 0 rfl) ?_
  refine lv_iload_n (pc := 2) hx hb dX4_fail_2 rfl (lv_at hl 1 rfl) ?_
  obtain ⟨c19, hrun⟩ := gd_some hrun
  refine V_bd (pc := 3) C hL rfl hrun (fun rr1 e1 => Z_runV (rest := [rv x0]) C hH (m_X4_isDefendant hl9 e1) wV_X4_311 c19 rfl (by decide) rfl rfl ⟨by decide, by decide⟩ rfl (by simp [csum, rv_cat, cat_i, cat_l, cat_f, cat_d]) hl.1 dX4_fail_3) (fun v17 h18 H locs cells slots hH hL hrun => ?_)
  refine lv_iconst (v := (1 : Int32)) (pc := 6) hx hb dX4_fail_6 (by decide) ?_
  obtain ⟨c22, hrun⟩ := gd_some hrun
  refine V_bd (pc := 7) C hL rfl hrun (fun rr1 e1 => Z_runV (rest := []) C hH (m_X4_isGood hl9 e1) wV_X4_104 c22 rfl (by decide) rfl rfl ⟨by decide, by decide⟩ rfl (Nat.le_of_ble_eq_true rfl) hl.1 dX4_fail_7) (fun v20 h21 H locs cells slots hH hL hrun => ?_)
  refine lv_if_eq (tgt := 43) (pc := 10) hx hb dX4_fail_10 (by decide) (fun c_ => ?_) (fun c_ => ?_)
  · have hrun := ite_t hrun c_
    exact b_X4_fail_43 C h21 H locs cells slots ls hH hL (lv_sub hl [] rfl) hrun
  · have hrun := ite_f hrun c_
    refine V_aload_n (pc := 13) hx hb dX4_fail_13 rfl (lv_at hl 0 rfl) ?_
    refine V_aload_n (pc := 14) hx hb dX4_fail_14 rfl (lv_at hl 0 rfl) ?_
    obtain ⟨c23, hrun⟩ := gd_some hrun
    refine V_getR (pc := 15) C hH fr_X4_23 dX4_fail_15 c23 rfl ?_
    refine lv_iload_n (pc := 18) hx hb dX4_fail_18 rfl (lv_at hl 1 rfl) ?_
    obtain ⟨c26, hrun⟩ := gd_some hrun
    refine V_bd (pc := 19) C hL rfl hrun (fun rr1 e1 => Z_runV (rest := [rv x0]) C hH (m_J2_get hl9 e1) wV_X4_108 c26 rfl (by decide) rfl rfl ⟨by decide, by decide⟩ rfl (by simp [csum, rv_cat, cat_i, cat_l, cat_f, cat_d]) hl.1 dX4_fail_19) (fun v24 h25 H locs cells slots hH hL hrun => ?_)
    obtain ⟨c27, hrun⟩ := gd_some hrun
    refine V_castX (pc := 22) (ci := 8) C hH rfl (by decide) q2211 dX4_fail_22 c27 ?_
    obtain ⟨c28, hrun⟩ := gd_some hrun
    refine V_getI (pc := 25) C hH fr_X4_314 dX4_fail_25 c28 rfl ?_
    refine lv_if_ne (tgt := 35) (pc := 28) hx hb dX4_fail_28 (by decide) (fun c_ => ?_) (fun c_ => ?_)
    · have hrun := ite_f hrun c_
      refine lv_iconst (v := (0 : Int32)) (pc := 35) hx hb dX4_fail_35 (by decide) ?_
      exact b_X4_fail_36 C x0 x1 x0 (0 : Int32) h25 H locs cells slots ls hH hL (lv_sub hl [0, 1] rfl) hrun
    · have hrun := ite_t hrun c_
      refine lv_iconst (v := (1 : Int32)) (pc := 31) hx hb dX4_fail_31 (by decide) ?_
      refine lv_goto (tgt := 36) (pc := 32) hx hb dX4_fail_32 (by decide) ?_
      exact b_X4_fail_36 C x0 x1 x0 (1 : Int32) h25 H locs cells slots ls hH hL (lv_sub hl [0, 1] rfl) hrun

theorem m_X4_fail {l : Launch} {D : va_G} {Hs : Heap} {h : Hp} {rr : (Int64 ⊕ Ex) × Hp} (hl9 : l.stackTraces = false) {x0 : Nat} {x1 : Int32} (hrun : f_X4_fail x0 x1 h = some rr) : CM l yX4_fail (ws_ yX4_fail cX4_fail 5 (some .long)) 5 94 iL [rv x0, .int x1] D Hs h rr := by
  refine CM.of (lv := [(0, rv x0), (1, .int x1)]) (plainFor_of_name (by decide)) hl9 (by simp [lv_args, rv_cat, cat_i, cat_l, cat_f, cat_d]) (by simp [lg_sl, rv_cat, cat_i, cat_l, cat_f, cat_d]) ?_
  intro p e R s m args below meth c H ls C hH hl hin
  exact b_X4_fail C x0 x1 _ H [] _ _ ls hH (fun _ q => nomatch q) (lv_sub hl [0, 1] rfl) hrun

/-! Massclaim.defendantAt(II)J -/
def f_X1_defendantAt_72  (y0 : Int64) (h : Hp) : Rt Int64 :=
  some (.inl y0, h)
def f_X1_defendantAt  (x0 : Nat) (x1 : Int32) (x2 : Int32) (h : Hp) : Rt Int64 :=
  gd (kC h x0 = 1) <| gd (kC h (kR h 2 x0) = 2) <| bd (f_X2_at (kR h 2 x0) x1 h) fun v2 h3 => gd (v2 = 0 ∨ kC h3 v2 = 8) <| bd (f_X1_isIn (x2.toInt64) (0 : Int64) (3 : Int64) h3) fun v6 h7 => bd (f_X1_requireArgument v6 h7) fun _ h9 => if x2 = 0 then
  (gd (kC h9 v2 = 8) <| f_X1_defendantAt_72 (kL h9 703 v2) h9)
  else
  (if x2 = (1 : Int32) then
  (gd (kC h9 v2 = 8) <| f_X1_defendantAt_72 (kL h9 704 v2) h9)
  else
  (if x2 = (2 : Int32) then
  (gd (kC h9 v2 = 8) <| f_X1_defendantAt_72 ((kI h9 702 v2).toInt64) h9)
  else
  (gd (kC h9 v2 = 8) <| if (kI h9 705 v2) = 0 then
  (f_X1_defendantAt_72 (0 : Int64) h9)
  else
  (f_X1_defendantAt_72 (1 : Int64) h9))))
theorem b_X1_defendantAt_72 {rr : (Int64 ⊕ Ex) × Hp}  (C : CX p l R s m args meth c D Hs cX1_defendantAt "Massclaim" 4 (some .long) [] 8 131)  : ∀ (y0 : Int64) (h : Hp) (H : Heap) (locs : List Loc) (cells slots : Nat) (ls : Array Slot), HP D Hs h H → LO Hs locs → lv_has ls 4 [] → f_X1_defendantAt_72 y0 h = some rr → W p l e R s m args below meth c H locs cells slots (ZM D Hs iL rr below args s) (F0 m 72 ls [.long y0]) := by
  obtain ⟨⟨hx, hb, hml, hown, hts⟩, -⟩ := id C
  have hl9 := C.2.1.2.2.1
  intro y0 h H locs cells slots ls hH hL hl hrun
  unfold f_X1_defendantAt_72 at hrun
  exact V_lret (pc := 72) C hH hL hrun dX1_defendantAt_72

theorem b_X1_defendantAt {rr : (Int64 ⊕ Ex) × Hp}  (C : CX p l R s m args meth c D Hs cX1_defendantAt "Massclaim" 4 (some .long) [] 8 131)  : ∀ (x0 : Nat) (x1 : Int32) (x2 : Int32) (h : Hp) (H : Heap) (locs : List Loc) (cells slots : Nat) (ls : Array Slot), HP D Hs h H → LO Hs locs → lv_has ls 4 [(0, rv x0), (1, .int x1), (2, .int x2)] → f_X1_defendantAt x0 x1 x2 h = some rr → W p l e R s m args below meth c H locs cells slots (ZM D Hs iL rr below args s) (F0 m 0 ls []) := by
  obtain ⟨⟨hx, hb, hml, hown, hts⟩, -⟩ := id C
  have hl9 := C.2.1.2.2.1
  intro x0 x1 x2 h H locs cells slots ls hH hL hl hrun
  unfold f_X1_defendantAt at hrun
  refine V_aload_n (pc := 0) hx hb dX1_defendantAt_0 rfl (lv_at hl 0 rfl) ?_
  obtain ⟨c1, hrun⟩ := gd_some hrun
  refine V_getR (pc := 1) C hH fr_X1_49 dX1_defendantAt_1 c1 rfl ?_
  refine lv_iload_n (pc := 4) hx hb dX1_defendantAt_4 rfl (lv_at hl 1 rfl) ?_
  obtain ⟨c4, hrun⟩ := gd_some hrun
  refine V_bd (pc := 5) C hL rfl hrun (fun rr1 e1 => Z_runV (rest := []) C hH (m_X2_at hl9 e1) wV_X1_136 c4 rfl (by decide) rfl rfl ⟨by decide, by decide⟩ rfl (Nat.le_of_ble_eq_true rfl) hl.1 dX1_defendantAt_5) (fun v2 h3 H locs cells slots hH hL hrun => ?_)
  obtain ⟨c5, hrun⟩ := gd_some hrun
  refine V_castX (pc := 8) (ci := 7) C hH rfl (by decide) q363 dX1_defendantAt_8 c5 ?_
  refine V_astore_n (i := 3) (lv' := [(3, rv v2), (0, rv x0), (1, .int x1), (2, .int x2)]) (pc := 11) hx hb dX1_defendantAt_11 rfl hl (by decide) rfl (fun ls hl => ?_)
  refine lv_iload_n (pc := 12) hx hb dX1_defendantAt_12 rfl (lv_at hl 3 rfl) ?_
  refine lv_i2l (pc := 13) hx hb dX1_defendantAt_13 rfl ?_
  refine lv_lconst (v := (0 : Int64)) (pc := 14) hx hb dX1_defendantAt_14 (by decide) ?_
  refine lv_ldc2 (pc := 15) hx hb hown (hts _ q592) dX1_defendantAt_15 ?_
  refine V_bd (pc := 18) C hL rfl hrun (fun rr1 e1 => Z_runS (rest := []) C hH (m_X1_isIn hl9 e1) wS_X1_127 rfl ⟨by decide, by decide⟩ rfl (Nat.le_of_ble_eq_true rfl) hl.1 dX1_defendantAt_18) (fun v6 h7 H locs cells slots hH hL hrun => ?_)
  refine V_bd (pc := 21) C hL rfl hrun (fun rr1 e1 => Z_runS (rest := []) C hH (m_X1_requireArgument hl9 e1) wS_X1_131 rfl ⟨by decide, by decide⟩ rfl (Nat.le_of_ble_eq_true rfl) hl.1 dX1_defendantAt_21) (fun _ h9 H locs cells slots hH hL hrun => ?_)
  refine lv_iload_n (pc := 24) hx hb dX1_defendantAt_24 rfl (lv_at hl 3 rfl) ?_
  refine lv_if_ne (tgt := 35) (pc := 25) hx hb dX1_defendantAt_25 (by decide) (fun c_ => ?_) (fun c_ => ?_)
  · have hrun := ite_f hrun c_
    refine lv_iload_n (pc := 35) hx hb dX1_defendantAt_35 rfl (lv_at hl 3 rfl) ?_
    refine lv_iconst (v := (1 : Int32)) (pc := 36) hx hb dX1_defendantAt_36 (by decide) ?_
    refine lv_icmp_ne (tgt := 47) (pc := 37) hx hb dX1_defendantAt_37 (by decide) (fun c_ => ?_) (fun c_ => ?_)
    · have hrun := ite_f hrun c_
      refine lv_iload_n (pc := 47) hx hb dX1_defendantAt_47 rfl (lv_at hl 3 rfl) ?_
      refine lv_iconst (v := (2 : Int32)) (pc := 48) hx hb dX1_defendantAt_48 (by decide) ?_
      refine lv_icmp_ne (tgt := 60) (pc := 49) hx hb dX1_defendantAt_49 (by decide) (fun c_ => ?_) (fun c_ => ?_)
      · have hrun := ite_f hrun c_
        refine V_aload_n (pc := 60) hx hb dX1_defendantAt_60 rfl (lv_at hl 0 rfl) ?_
        obtain ⟨c10, hrun⟩ := gd_some hrun
        refine V_getNI (pc := 61) C hH fn_X1_326 dX1_defendantAt_61 c10 rfl ?_
        refine lv_if_eq (tgt := 71) (pc := 64) hx hb dX1_defendantAt_64 (by decide) (fun c_ => ?_) (fun c_ => ?_)
        · have hrun := ite_t hrun c_
          refine lv_lconst (v := (0 : Int64)) (pc := 71) hx hb dX1_defendantAt_71 (by decide) ?_
          exact b_X1_defendantAt_72 C (0 : Int64) h9 H locs cells slots ls hH hL (lv_sub hl [] rfl) hrun
        · have hrun := ite_f hrun c_
          refine lv_lconst (v := (1 : Int64)) (pc := 67) hx hb dX1_defendantAt_67 (by decide) ?_
          refine lv_goto (tgt := 72) (pc := 68) hx hb dX1_defendantAt_68 (by decide) ?_
          exact b_X1_defendantAt_72 C (1 : Int64) h9 H locs cells slots ls hH hL (lv_sub hl [] rfl) hrun
      · have hrun := ite_t hrun c_
        refine V_aload_n (pc := 52) hx hb dX1_defendantAt_52 rfl (lv_at hl 0 rfl) ?_
        obtain ⟨c11, hrun⟩ := gd_some hrun
        refine V_getNI (pc := 53) C hH fn_X1_332 dX1_defendantAt_53 c11 rfl ?_
        refine lv_i2l (pc := 56) hx hb dX1_defendantAt_56 rfl ?_
        refine lv_goto (tgt := 72) (pc := 57) hx hb dX1_defendantAt_57 (by decide) ?_
        exact b_X1_defendantAt_72 C ((kI h9 702 v2).toInt64) h9 H locs cells slots ls hH hL (lv_sub hl [] rfl) hrun
    · have hrun := ite_t hrun c_
      refine V_aload_n (pc := 40) hx hb dX1_defendantAt_40 rfl (lv_at hl 0 rfl) ?_
      obtain ⟨c12, hrun⟩ := gd_some hrun
      refine V_getNL (pc := 41) C hH fn_X1_341 dX1_defendantAt_41 c12 rfl ?_
      refine lv_goto (tgt := 72) (pc := 44) hx hb dX1_defendantAt_44 (by decide) ?_
      exact b_X1_defendantAt_72 C (kL h9 704 v2) h9 H locs cells slots ls hH hL (lv_sub hl [] rfl) hrun
  · have hrun := ite_t hrun c_
    refine V_aload_n (pc := 28) hx hb dX1_defendantAt_28 rfl (lv_at hl 0 rfl) ?_
    obtain ⟨c13, hrun⟩ := gd_some hrun
    refine V_getNL (pc := 29) C hH fn_X1_329 dX1_defendantAt_29 c13 rfl ?_
    refine lv_goto (tgt := 72) (pc := 32) hx hb dX1_defendantAt_32 (by decide) ?_
    exact b_X1_defendantAt_72 C (kL h9 703 v2) h9 H locs cells slots ls hH hL (lv_sub hl [] rfl) hrun

theorem m_X1_defendantAt {l : Launch} {D : va_G} {Hs : Heap} {h : Hp} {rr : (Int64 ⊕ Ex) × Hp} (hl9 : l.stackTraces = false) {x0 : Nat} {x1 : Int32} {x2 : Int32} (hrun : f_X1_defendantAt x0 x1 x2 h = some rr) : CM l yX1_defendantAt (ws_ yX1_defendantAt cX1_defendantAt 4 (some .long)) 8 131 iL [rv x0, .int x1, .int x2] D Hs h rr := by
  refine CM.of (lv := [(0, rv x0), (1, .int x1), (2, .int x2)]) (plainFor_of_name (by decide)) hl9 (by simp [lv_args, rv_cat, cat_i, cat_l, cat_f, cat_d]) (by simp [lg_sl, rv_cat, cat_i, cat_l, cat_f, cat_d]) ?_
  intro p e R s m args below meth c H ls C hH hl hin
  exact b_X1_defendantAt C x0 x1 x2 _ H [] _ _ ls hH (fun _ q => nomatch q) (lv_sub hl [0, 1, 2] rfl) hrun

/-! MassclaimLaw.defendantAt(LMassclaim;II[J)I -/
def f_X0_defendantAt_12  (y0 : Nat) (h : Hp) : Rt Int32 :=
  some (.inl (1 : Int32), h)
def f_X0_defendantAt_16  (y0 : Nat) (h : Hp) : Rt Int32 :=
  some (.inl (2 : Int32), h)
def f_X0_defendantAt  (x0 : Nat) (x1 : Int32) (x2 : Int32) (x3 : Nat) (h : Hp) : Rt Int32 :=
  gd (kC h x0 = 1) <| bdH (f_X1_defendantAt x0 x1 x2 h)
  (fun v1 h2 => gd (kC h2 x3 = 102 ∧ ixo (0 : Int32) (kN h2 x3)) <| vl (tL h2 x3 ((0 : Int32)).toNatClampNeg v1) fun h5 => some (.inl (0 : Int32), h5))
  (fun ex6 h7 => if ex6.1 = 901 then
  (f_X0_defendantAt_12 ex6.2 h7)
  else
  if ex6.1 = 902 then
  (f_X0_defendantAt_16 ex6.2 h7)
  else
  none)
theorem b_X0_defendantAt_12 {rr : (Int32 ⊕ Ex) × Hp}  (C : CX p l R s m args meth c D Hs cX0_defendantAt "MassclaimLaw" 5 (some .int) [(0, 9, 12, 25), (0, 9, 16, 13)] 9 154)  : ∀ (y0 : Nat) (h : Hp) (H : Heap) (locs : List Loc) (cells slots : Nat) (ls : Array Slot), HP D Hs h H → LO Hs locs → lv_has ls 5 [] → f_X0_defendantAt_12 y0 h = some rr → W p l e R s m args below meth c H locs cells slots (ZM D Hs iI rr below args s) (F0 m 12 ls [rv y0]) := by
  obtain ⟨⟨hx, hb, hml, hown, hts⟩, -⟩ := id C
  have hl9 := C.2.1.2.2.1
  intro y0 h H locs cells slots ls hH hL hl hrun
  unfold f_X0_defendantAt_12 at hrun
  refine V_astore (i := 4) (lv' := [(4, rv y0)]) (pc := 12) hx hb dX0_defendantAt_12 hl (by decide) rfl (fun ls hl => ?_)
  refine lv_iconst (v := (1 : Int32)) (pc := 14) hx hb dX0_defendantAt_14 (by decide) ?_
  exact V_iret (pc := 15) C hH hL hrun dX0_defendantAt_15

theorem b_X0_defendantAt_16 {rr : (Int32 ⊕ Ex) × Hp}  (C : CX p l R s m args meth c D Hs cX0_defendantAt "MassclaimLaw" 5 (some .int) [(0, 9, 12, 25), (0, 9, 16, 13)] 9 154)  : ∀ (y0 : Nat) (h : Hp) (H : Heap) (locs : List Loc) (cells slots : Nat) (ls : Array Slot), HP D Hs h H → LO Hs locs → lv_has ls 5 [] → f_X0_defendantAt_16 y0 h = some rr → W p l e R s m args below meth c H locs cells slots (ZM D Hs iI rr below args s) (F0 m 16 ls [rv y0]) := by
  obtain ⟨⟨hx, hb, hml, hown, hts⟩, -⟩ := id C
  have hl9 := C.2.1.2.2.1
  intro y0 h H locs cells slots ls hH hL hl hrun
  unfold f_X0_defendantAt_16 at hrun
  refine V_astore (i := 4) (lv' := [(4, rv y0)]) (pc := 16) hx hb dX0_defendantAt_16 hl (by decide) rfl (fun ls hl => ?_)
  refine lv_iconst (v := (2 : Int32)) (pc := 18) hx hb dX0_defendantAt_18 (by decide) ?_
  exact V_iret (pc := 19) C hH hL hrun dX0_defendantAt_19

theorem b_X0_defendantAt {rr : (Int32 ⊕ Ex) × Hp}  (C : CX p l R s m args meth c D Hs cX0_defendantAt "MassclaimLaw" 5 (some .int) [(0, 9, 12, 25), (0, 9, 16, 13)] 9 154)  : ∀ (x0 : Nat) (x1 : Int32) (x2 : Int32) (x3 : Nat) (h : Hp) (H : Heap) (locs : List Loc) (cells slots : Nat) (ls : Array Slot), HP D Hs h H → LO Hs locs → lv_has ls 5 [(0, rv x0), (1, .int x1), (2, .int x2), (3, rv x3)] → f_X0_defendantAt x0 x1 x2 x3 h = some rr → W p l e R s m args below meth c H locs cells slots (ZM D Hs iI rr below args s) (F0 m 0 ls []) := by
  obtain ⟨⟨hx, hb, hml, hown, hts⟩, -⟩ := id C
  have hl9 := C.2.1.2.2.1
  intro x0 x1 x2 x3 h H locs cells slots ls hH hL hl hrun
  unfold f_X0_defendantAt at hrun
  refine V_aload_n (pc := 0) hx hb dX0_defendantAt_0 rfl (lv_at hl 3 rfl) ?_
  refine lv_iconst (v := (0 : Int32)) (pc := 1) hx hb dX0_defendantAt_1 (by decide) ?_
  refine V_aload_n (pc := 2) hx hb dX0_defendantAt_2 rfl (lv_at hl 0 rfl) ?_
  refine lv_iload_n (pc := 3) hx hb dX0_defendantAt_3 rfl (lv_at hl 1 rfl) ?_
  refine lv_iload_n (pc := 4) hx hb dX0_defendantAt_4 rfl (lv_at hl 2 rfl) ?_
  obtain ⟨c3, hrun⟩ := gd_some hrun
  refine V_bdH (pc := 5) hL hrun (fun rr1 e1 => Z_runV (rest := [.int (0 : Int32), rv x3]) C hH (m_X1_defendantAt hl9 e1) wV_X0_81 c3 rfl (by decide) rfl rfl ⟨by decide, by decide⟩ rfl (by simp [csum, rv_cat, cat_i, cat_l, cat_f, cat_d]) hl.1 dX0_defendantAt_5) (fun v1 h2 H locs cells slots hH hL hrun => ?_) (fun x_ q_ ce_ h7 H locs cells slots hH hL hrun hc_ hv_ hcl_ => ?_)
  · obtain ⟨c4, hrun⟩ := gd_some hrun
    refine V_last (pc := 8) C hH hL dX0_defendantAt_8 c4 hrun (fun h5 H locs hH hL hrun => ?_)
    refine lv_goto (tgt := 20) (pc := 9) hx hb dX0_defendantAt_9 (by decide) ?_
    refine lv_iconst (v := (0 : Int32)) (pc := 20) hx hb dX0_defendantAt_20 (by decide) ?_
    exact V_iret (pc := 21) C hH hL hrun dX0_defendantAt_21
  · by_cases n901 : x_ = 901
    · subst n901
      have hrun := ite_t hrun rfl
      refine vx_catch (E := "java/lang/IndexOutOfBoundsException") (name := "java/lang/IndexOutOfBoundsException") hown (tableOf []) ⟨0, 9, 12, 25⟩ (tableOf [(0, 9, 16, 13)]) (by rw [C.2.1.2.2.2.2]; rfl) (fun z hz => nomatch hz) (by decide) (by decide) (hts _ q829) (va_Nw.use rfl (C.2.1.2.2.2.1.2.1 _ q537 rfl)) hc_ hv_ hcl_ ?_
      exact b_X0_defendantAt_12 C (q_ + 1) h7 H locs cells slots ls hH hL (lv_sub hl [] rfl) hrun
    have hrun := ite_f hrun n901
    by_cases n902 : x_ = 902
    · subst n902
      have hrun := ite_t hrun rfl
      refine vx_catch (E := "java/lang/IllegalArgumentException") (name := "java/lang/IllegalArgumentException") hown (tableOf [(0, 9, 12, 25)]) ⟨0, 9, 16, 13⟩ (tableOf []) (by rw [C.2.1.2.2.2.2]; rfl) (fun z hz => by simp only [tableOf, List.map, List.mem_cons, List.not_mem_nil, or_false] at hz; rcases hz with rfl <;> first | exact Or.inr ⟨by decide, "java/lang/IndexOutOfBoundsException", hts _ q829, nc_at C (by decide)⟩) (by decide) (by decide) (hts _ q449) (va_Nw.use rfl (C.2.1.2.2.2.1.2.1 _ q463 rfl)) hc_ hv_ hcl_ ?_
      exact b_X0_defendantAt_16 C (q_ + 1) h7 H locs cells slots ls hH hL (lv_sub hl [] rfl) hrun
    have hrun := ite_f hrun n902
    cases hrun

theorem m_X0_defendantAt {l : Launch} {D : va_G} {Hs : Heap} {h : Hp} {rr : (Int32 ⊕ Ex) × Hp} (hl9 : l.stackTraces = false) {x0 : Nat} {x1 : Int32} {x2 : Int32} {x3 : Nat} (hrun : f_X0_defendantAt x0 x1 x2 x3 h = some rr) : CM l yX0_defendantAt (wsW_ yX0_defendantAt cX0_defendantAt 5 (some .int) [(0, 9, 12, 25), (0, 9, 16, 13)]) 9 154 iI [rv x0, .int x1, .int x2, rv x3] D Hs h rr := by
  refine CM.ofH (lv := [(0, rv x0), (1, .int x1), (2, .int x2), (3, rv x3)]) (plainFor_of_name (by decide)) hl9 (by simp [lv_args, rv_cat, cat_i, cat_l, cat_f, cat_d]) (by simp [lg_sl, rv_cat, cat_i, cat_l, cat_f, cat_d]) ?_
  intro p e R s m args below meth c H ls C hH hl hin
  exact b_X0_defendantAt C x0 x1 x2 x3 _ H [] _ _ ls hH (fun _ q => nomatch q) (lv_sub hl [0, 1, 2, 3] rfl) hrun

/-! MassclaimModel.defendantAt(II)J -/
def f_X4_defendantAt_30  (h : Hp) : Rt Int64 :=
  some (.inl (0 : Int64), h)
def f_X4_defendantAt_91  (y0 : Int64) (h : Hp) : Rt Int64 :=
  some (.inl y0, h)
def f_X4_defendantAt  (x0 : Nat) (x1 : Int32) (x2 : Int32) (h : Hp) : Rt Int64 :=
  gd (kC h x0 = 4) <| bd (f_X4_isDefendant x0 x1 h) fun v1 h2 => gd (kC h2 x0 = 4) <| bd (f_X4_isGood x0 v1 (1 : Int32) h2) fun v4 h5 => if v4 = 0 then
  (f_X4_defendantAt_30  h5)
  else
  (bd (f_X4_isWithin (x2.toInt64) (0 : Int64) (3 : Int64) h5) fun v7 h8 => gd (kC h8 x0 = 4) <| bd (f_X4_isGood x0 v7 (2 : Int32) h8) fun v9 h10 => if v9 = 0 then
  (f_X4_defendantAt_30  h10)
  else
  (gd (kC h10 x0 = 4) <| gd (kC h10 (kR h10 308 x0) = 18) <| bd (f_J2_get (kR h10 308 x0) x1 h10) fun v13 h14 => gd (v13 = 0 ∨ kC h14 v13 = 9) <| if x2 = 0 then
  (gd (kC h14 v13 = 9) <| f_X4_defendantAt_91 (kL h14 802 v13) h14)
  else
  (if x2 = (1 : Int32) then
  (gd (kC h14 v13 = 9) <| f_X4_defendantAt_91 (kL h14 803 v13) h14)
  else
  (if x2 = (2 : Int32) then
  (gd (kC h14 v13 = 9) <| f_X4_defendantAt_91 (kL h14 801 v13) h14)
  else
  (gd (kC h14 v13 = 9) <| if (kI h14 804 v13) = 0 then
  (f_X4_defendantAt_91 (0 : Int64) h14)
  else
  (f_X4_defendantAt_91 (1 : Int64) h14))))))
theorem b_X4_defendantAt_30 {rr : (Int64 ⊕ Ex) × Hp}  (C : CX p l R s m args meth c D Hs cX4_defendantAt "MassclaimModel" 4 (some .long) [] 4 64)  : ∀ (h : Hp) (H : Heap) (locs : List Loc) (cells slots : Nat) (ls : Array Slot), HP D Hs h H → LO Hs locs → lv_has ls 4 [] → f_X4_defendantAt_30 h = some rr → W p l e R s m args below meth c H locs cells slots (ZM D Hs iL rr below args s) (F0 m 30 ls []) := by
  obtain ⟨⟨hx, hb, hml, hown, hts⟩, -⟩ := id C
  have hl9 := C.2.1.2.2.1
  intro h H locs cells slots ls hH hL hl hrun
  unfold f_X4_defendantAt_30 at hrun
  refine lv_lconst (v := (0 : Int64)) (pc := 30) hx hb dX4_defendantAt_30 (by decide) ?_
  exact V_lret (pc := 31) C hH hL hrun dX4_defendantAt_31

theorem b_X4_defendantAt_91 {rr : (Int64 ⊕ Ex) × Hp}  (C : CX p l R s m args meth c D Hs cX4_defendantAt "MassclaimModel" 4 (some .long) [] 4 64)  : ∀ (y0 : Int64) (h : Hp) (H : Heap) (locs : List Loc) (cells slots : Nat) (ls : Array Slot), HP D Hs h H → LO Hs locs → lv_has ls 4 [] → f_X4_defendantAt_91 y0 h = some rr → W p l e R s m args below meth c H locs cells slots (ZM D Hs iL rr below args s) (F0 m 91 ls [.long y0]) := by
  obtain ⟨⟨hx, hb, hml, hown, hts⟩, -⟩ := id C
  have hl9 := C.2.1.2.2.1
  intro y0 h H locs cells slots ls hH hL hl hrun
  unfold f_X4_defendantAt_91 at hrun
  exact V_lret (pc := 91) C hH hL hrun dX4_defendantAt_91

theorem b_X4_defendantAt {rr : (Int64 ⊕ Ex) × Hp}  (C : CX p l R s m args meth c D Hs cX4_defendantAt "MassclaimModel" 4 (some .long) [] 4 64)  : ∀ (x0 : Nat) (x1 : Int32) (x2 : Int32) (h : Hp) (H : Heap) (locs : List Loc) (cells slots : Nat) (ls : Array Slot), HP D Hs h H → LO Hs locs → lv_has ls 4 [(0, rv x0), (1, .int x1), (2, .int x2)] → f_X4_defendantAt x0 x1 x2 h = some rr → W p l e R s m args below meth c H locs cells slots (ZM D Hs iL rr below args s) (F0 m 0 ls []) := by
  obtain ⟨⟨hx, hb, hml, hown, hts⟩, -⟩ := id C
  have hl9 := C.2.1.2.2.1
  intro x0 x1 x2 h H locs cells slots ls hH hL hl hrun
  unfold f_X4_defendantAt at hrun
  refine V_aload_n (pc := 0) hx hb dX4_defendantAt_0 rfl (lv_at hl 0 rfl) ?_
  refine V_aload_n (pc := 1) hx hb dX4_defendantAt_1 rfl (lv_at hl 0 rfl) ?_
  refine lv_iload_n (pc := 2) hx hb dX4_defendantAt_2 rfl (lv_at hl 1 rfl) ?_
  obtain ⟨c3, hrun⟩ := gd_some hrun
  refine V_bd (pc := 3) C hL rfl hrun (fun rr1 e1 => Z_runV (rest := [rv x0]) C hH (m_X4_isDefendant hl9 e1) wV_X4_311 c3 rfl (by decide) rfl rfl ⟨by decide, by decide⟩ rfl (by simp [csum, rv_cat, cat_i, cat_l, cat_f, cat_d]) hl.1 dX4_defendantAt_3) (fun v1 h2 H locs cells slots hH hL hrun => ?_)
  refine lv_iconst (v := (1 : Int32)) (pc := 6) hx hb dX4_defendantAt_6 (by decide) ?_
  obtain ⟨c6, hrun⟩ := gd_some hrun
  refine V_bd (pc := 7) C hL rfl hrun (fun rr1 e1 => Z_runV (rest := []) C hH (m_X4_isGood hl9 e1) wV_X4_104 c6 rfl (by decide) rfl rfl ⟨by decide, by decide⟩ rfl (Nat.le_of_ble_eq_true rfl) hl.1 dX4_defendantAt_7) (fun v4 h5 H locs cells slots hH hL hrun => ?_)
  refine lv_if_eq (tgt := 30) (pc := 10) hx hb dX4_defendantAt_10 (by decide) (fun c_ => ?_) (fun c_ => ?_)
  · have hrun := ite_t hrun c_
    exact b_X4_defendantAt_30 C h5 H locs cells slots ls hH hL (lv_sub hl [] rfl) hrun
  · have hrun := ite_f hrun c_
    refine V_aload_n (pc := 13) hx hb dX4_defendantAt_13 rfl (lv_at hl 0 rfl) ?_
    refine lv_iload_n (pc := 14) hx hb dX4_defendantAt_14 rfl (lv_at hl 2 rfl) ?_
    refine lv_i2l (pc := 15) hx hb dX4_defendantAt_15 rfl ?_
    refine lv_lconst (v := (0 : Int64)) (pc := 16) hx hb dX4_defendantAt_16 (by decide) ?_
    refine lv_ldc2 (pc := 17) hx hb hown (hts _ q1978) dX4_defendantAt_17 ?_
    refine V_bd (pc := 20) C hL rfl hrun (fun rr1 e1 => Z_runS (rest := [rv x0]) C hH (m_X4_isWithin hl9 e1) wS_X4_100 rfl ⟨by decide, by decide⟩ rfl (by simp [csum, rv_cat, cat_i, cat_l, cat_f, cat_d]) hl.1 dX4_defendantAt_20) (fun v7 h8 H locs cells slots hH hL hrun => ?_)
    refine lv_iconst (v := (2 : Int32)) (pc := 23) hx hb dX4_defendantAt_23 (by decide) ?_
    obtain ⟨c11, hrun⟩ := gd_some hrun
    refine V_bd (pc := 24) C hL rfl hrun (fun rr1 e1 => Z_runV (rest := []) C hH (m_X4_isGood hl9 e1) wV_X4_104 c11 rfl (by decide) rfl rfl ⟨by decide, by decide⟩ rfl (Nat.le_of_ble_eq_true rfl) hl.1 dX4_defendantAt_24) (fun v9 h10 H locs cells slots hH hL hrun => ?_)
    refine lv_if_ne (tgt := 32) (pc := 27) hx hb dX4_defendantAt_27 (by decide) (fun c_ => ?_) (fun c_ => ?_)
    · have hrun := ite_f hrun c_
      refine V_aload_n (pc := 32) hx hb dX4_defendantAt_32 rfl (lv_at hl 0 rfl) ?_
      obtain ⟨c12, hrun⟩ := gd_some hrun
      refine V_getR (pc := 33) C hH fr_X4_23 dX4_defendantAt_33 c12 rfl ?_
      refine lv_iload_n (pc := 36) hx hb dX4_defendantAt_36 rfl (lv_at hl 1 rfl) ?_
      obtain ⟨c15, hrun⟩ := gd_some hrun
      refine V_bd (pc := 37) C hL rfl hrun (fun rr1 e1 => Z_runV (rest := []) C hH (m_J2_get hl9 e1) wV_X4_108 c15 rfl (by decide) rfl rfl ⟨by decide, by decide⟩ rfl (Nat.le_of_ble_eq_true rfl) hl.1 dX4_defendantAt_37) (fun v13 h14 H locs cells slots hH hL hrun => ?_)
      obtain ⟨c16, hrun⟩ := gd_some hrun
      refine V_castX (pc := 40) (ci := 8) C hH rfl (by decide) q2211 dX4_defendantAt_40 c16 ?_
      refine V_astore_n (i := 3) (lv' := [(3, rv v13), (0, rv x0), (1, .int x1), (2, .int x2)]) (pc := 43) hx hb dX4_defendantAt_43 rfl hl (by decide) rfl (fun ls hl => ?_)
      refine lv_iload_n (pc := 44) hx hb dX4_defendantAt_44 rfl (lv_at hl 3 rfl) ?_
      refine lv_if_ne (tgt := 55) (pc := 45) hx hb dX4_defendantAt_45 (by decide) (fun c_ => ?_) (fun c_ => ?_)
      · have hrun := ite_f hrun c_
        refine lv_iload_n (pc := 55) hx hb dX4_defendantAt_55 rfl (lv_at hl 3 rfl) ?_
        refine lv_iconst (v := (1 : Int32)) (pc := 56) hx hb dX4_defendantAt_56 (by decide) ?_
        refine lv_icmp_ne (tgt := 67) (pc := 57) hx hb dX4_defendantAt_57 (by decide) (fun c_ => ?_) (fun c_ => ?_)
        · have hrun := ite_f hrun c_
          refine lv_iload_n (pc := 67) hx hb dX4_defendantAt_67 rfl (lv_at hl 3 rfl) ?_
          refine lv_iconst (v := (2 : Int32)) (pc := 68) hx hb dX4_defendantAt_68 (by decide) ?_
          refine lv_icmp_ne (tgt := 79) (pc := 69) hx hb dX4_defendantAt_69 (by decide) (fun c_ => ?_) (fun c_ => ?_)
          · have hrun := ite_f hrun c_
            refine V_aload_n (pc := 79) hx hb dX4_defendantAt_79 rfl (lv_at hl 0 rfl) ?_
            obtain ⟨c17, hrun⟩ := gd_some hrun
            refine V_getI (pc := 80) C hH fr_X4_314 dX4_defendantAt_80 c17 rfl ?_
            refine lv_if_eq (tgt := 90) (pc := 83) hx hb dX4_defendantAt_83 (by decide) (fun c_ => ?_) (fun c_ => ?_)
            · have hrun := ite_t hrun c_
              refine lv_lconst (v := (0 : Int64)) (pc := 90) hx hb dX4_defendantAt_90 (by decide) ?_
              exact b_X4_defendantAt_91 C (0 : Int64) h14 H locs cells slots ls hH hL (lv_sub hl [] rfl) hrun
            · have hrun := ite_f hrun c_
              refine lv_lconst (v := (1 : Int64)) (pc := 86) hx hb dX4_defendantAt_86 (by decide) ?_
              refine lv_goto (tgt := 91) (pc := 87) hx hb dX4_defendantAt_87 (by decide) ?_
              exact b_X4_defendantAt_91 C (1 : Int64) h14 H locs cells slots ls hH hL (lv_sub hl [] rfl) hrun
          · have hrun := ite_t hrun c_
            refine V_aload_n (pc := 72) hx hb dX4_defendantAt_72 rfl (lv_at hl 0 rfl) ?_
            obtain ⟨c18, hrun⟩ := gd_some hrun
            refine V_getL (pc := 73) C hH fr_X4_308 dX4_defendantAt_73 c18 rfl ?_
            refine lv_goto (tgt := 91) (pc := 76) hx hb dX4_defendantAt_76 (by decide) ?_
            exact b_X4_defendantAt_91 C (kL h14 801 v13) h14 H locs cells slots ls hH hL (lv_sub hl [] rfl) hrun
        · have hrun := ite_t hrun c_
          refine V_aload_n (pc := 60) hx hb dX4_defendantAt_60 rfl (lv_at hl 0 rfl) ?_
          obtain ⟨c19, hrun⟩ := gd_some hrun
          refine V_getL (pc := 61) C hH fr_X4_326 dX4_defendantAt_61 c19 rfl ?_
          refine lv_goto (tgt := 91) (pc := 64) hx hb dX4_defendantAt_64 (by decide) ?_
          exact b_X4_defendantAt_91 C (kL h14 803 v13) h14 H locs cells slots ls hH hL (lv_sub hl [] rfl) hrun
      · have hrun := ite_t hrun c_
        refine V_aload_n (pc := 48) hx hb dX4_defendantAt_48 rfl (lv_at hl 0 rfl) ?_
        obtain ⟨c20, hrun⟩ := gd_some hrun
        refine V_getL (pc := 49) C hH fr_X4_317 dX4_defendantAt_49 c20 rfl ?_
        refine lv_goto (tgt := 91) (pc := 52) hx hb dX4_defendantAt_52 (by decide) ?_
        exact b_X4_defendantAt_91 C (kL h14 802 v13) h14 H locs cells slots ls hH hL (lv_sub hl [] rfl) hrun
    · have hrun := ite_t hrun c_
      exact b_X4_defendantAt_30 C h10 H locs cells slots ls hH hL (lv_sub hl [] rfl) hrun

theorem m_X4_defendantAt {l : Launch} {D : va_G} {Hs : Heap} {h : Hp} {rr : (Int64 ⊕ Ex) × Hp} (hl9 : l.stackTraces = false) {x0 : Nat} {x1 : Int32} {x2 : Int32} (hrun : f_X4_defendantAt x0 x1 x2 h = some rr) : CM l yX4_defendantAt (ws_ yX4_defendantAt cX4_defendantAt 4 (some .long)) 4 64 iL [rv x0, .int x1, .int x2] D Hs h rr := by
  refine CM.of (lv := [(0, rv x0), (1, .int x1), (2, .int x2)]) (plainFor_of_name (by decide)) hl9 (by simp [lv_args, rv_cat, cat_i, cat_l, cat_f, cat_d]) (by simp [lg_sl, rv_cat, cat_i, cat_l, cat_f, cat_d]) ?_
  intro p e R s m args below meth c H ls C hH hl hin
  exact b_X4_defendantAt C x0 x1 x2 _ H [] _ _ ls hH (fun _ q => nomatch q) (lv_sub hl [0, 1, 2] rfl) hrun

/-! Massclaim$Deal.<init>(III)V -/
def f_X10_init  (x0 : Nat) (x1 : Int32) (x2 : Int32) (x3 : Int32) (h : Hp) : Rt Unit :=
  gd (kC h x0 = 10) <| vl (sI h 903 x0 (1 : Int32)) fun h2 => gd (kC h2 x0 = 10) <| vl (sI h2 900 x0 x1) fun h4 => gd (kC h4 x0 = 10) <| vl (sI h4 901 x0 x2) fun h6 => gd (kC h6 x0 = 10) <| vl (sI h6 902 x0 x3) fun h8 => some (.inl (), h8)
theorem b_X10_init {rr : (Unit ⊕ Ex) × Hp}  (C : CX p l R s m args meth c D Hs cX10_init "Massclaim$Deal" 4 none [] 1 20) (hin : meth.name = "<init>")  : ∀ (x0 : Nat) (x1 : Int32) (x2 : Int32) (x3 : Int32) (h : Hp) (H : Heap) (locs : List Loc) (cells slots : Nat) (ls : Array Slot), HP D Hs h H → LO Hs locs → lv_has ls 4 [(0, rv x0), (1, .int x1), (2, .int x2), (3, .int x3)] → f_X10_init x0 x1 x2 x3 h = some rr → W p l e R s m args below meth c H locs cells slots (ZM D Hs iV rr below args s) (F0 m 0 ls []) := by
  obtain ⟨⟨hx, hb, hml, hown, hts⟩, -⟩ := id C
  have hl9 := C.2.1.2.2.1
  intro x0 x1 x2 x3 h H locs cells slots ls hH hL hl hrun
  unfold f_X10_init at hrun
  refine V_aload_n (pc := 0) hx hb dX10_init_0 rfl (lv_at hl 0 rfl) ?_
  obtain ⟨c1, hrun⟩ := gd_some hrun
  refine V_objInit (pc := 1) C q1397 q113 q114 (hH.pos c1) dX10_init_1 (by decide) (by simp [csum, rv_cat, cat_i, cat_l, cat_f, cat_d]) hl.1 ?_
  refine V_aload_n (pc := 4) hx hb dX10_init_4 rfl (lv_at hl 0 rfl) ?_
  refine lv_iconst (v := (1 : Int32)) (pc := 5) hx hb dX10_init_5 (by decide) ?_
  refine V_putI (pc := 6) C hH hL fl_X10_9 dX10_init_6 c1 (fok_i _) rfl (fun q => Bool.noConfusion q) hrun (fun h2 H locs hH hL hrun => ?_)
  refine V_aload_n (pc := 9) hx hb dX10_init_9 rfl (lv_at hl 0 rfl) ?_
  refine lv_iload_n (pc := 10) hx hb dX10_init_10 rfl (lv_at hl 1 rfl) ?_
  obtain ⟨c3, hrun⟩ := gd_some hrun
  refine V_putI (pc := 11) C hH hL fl_X10_15 dX10_init_11 c3 (fok_i _) rfl (fun q => Bool.noConfusion q) hrun (fun h4 H locs hH hL hrun => ?_)
  refine V_aload_n (pc := 14) hx hb dX10_init_14 rfl (lv_at hl 0 rfl) ?_
  refine lv_iload_n (pc := 15) hx hb dX10_init_15 rfl (lv_at hl 2 rfl) ?_
  obtain ⟨c5, hrun⟩ := gd_some hrun
  refine V_putI (pc := 16) C hH hL fl_X10_18 dX10_init_16 c5 (fok_i _) rfl (fun _ => hin) hrun (fun h6 H locs hH hL hrun => ?_)
  refine V_aload_n (pc := 19) hx hb dX10_init_19 rfl (lv_at hl 0 rfl) ?_
  refine lv_iload_n (pc := 20) hx hb dX10_init_20 rfl (lv_at hl 3 rfl) ?_
  obtain ⟨c7, hrun⟩ := gd_some hrun
  refine V_putI (pc := 21) C hH hL fl_X10_21 dX10_init_21 c7 (fok_i _) rfl (fun _ => hin) hrun (fun h8 H locs hH hL hrun => ?_)
  exact V_vret (pc := 24) C hH hL hrun dX10_init_24

theorem m_X10_init {l : Launch} {D : va_G} {Hs : Heap} {h : Hp} {rr : (Unit ⊕ Ex) × Hp} (hl9 : l.stackTraces = false) {x0 : Nat} {x1 : Int32} {x2 : Int32} {x3 : Int32} (hrun : f_X10_init x0 x1 x2 x3 h = some rr) : CM l yX10_init (ws_ yX10_init cX10_init 4 none) 1 20 iV [rv x0, .int x1, .int x2, .int x3] D Hs h rr := by
  refine CM.of (lv := [(0, rv x0), (1, .int x1), (2, .int x2), (3, .int x3)]) (plainFor_of_name (by decide)) hl9 (by simp [lv_args, rv_cat, cat_i, cat_l, cat_f, cat_d]) (by simp [lg_sl, rv_cat, cat_i, cat_l, cat_f, cat_d]) ?_
  intro p e R s m args below meth c H ls C hH hl hin
  exact b_X10_init C hin x0 x1 x2 x3 _ H [] _ _ ls hH (fun _ q => nomatch q) (lv_sub hl [0, 1, 2, 3] rfl) hrun
end WK7

section WK11
variable {p : Program} {l : Launch} {e : Env} {R : Room} {s : State} {m : MethodId} {args : Array Value} {below : List Frame} {meth : Method} {c : Code} {D : va_G} {Hs : Heap} {F X : Nat}
/-! Massclaim.settings(III)I -/
def f_X1_settings_62  (x0 : Nat) (x1 : Int32) (x2 : Int32) (x3 : Int32) (y0 : Int32) (h : Hp) : Rt Int32 :=
  bd (f_X1_requireState y0 h) fun _ h2 => gd (kC h2 x0 = 1) <| vl (kI h2 13 x0) fun v4 => vl (sI h2 13 x0 x1) fun h5 => gd (kC h5 x0 = 1) <| vl (sI h5 14 x0 x2) fun h7 => gd (kC h7 x0 = 1) <| vl (sI h7 15 x0 x3) fun h9 => some (.inl v4, h9)
def f_X1_settings_57  (x0 : Nat) (x1 : Int32) (x2 : Int32) (x3 : Int32) (h : Hp) : Rt Int32 :=
  f_X1_settings_62 x0 x1 x2 x3 (1 : Int32) h
def f_X1_settings_39  (x0 : Nat) (x1 : Int32) (x2 : Int32) (x3 : Int32) (y0 : Int32) (h : Hp) : Rt Int32 :=
  bd (f_X1_requireArgument y0 h) fun _ h11 => gd (kC h11 x0 = 1) <| if x1 = (kI h11 13 x0) then
  (f_X1_settings_57 x0 x1 x2 x3 h11)
  else
  (bd (f_X1_isDone x0 h11) fun v13 h14 => if v13 = 0 then
  (f_X1_settings_57 x0 x1 x2 x3 h14)
  else
  (f_X1_settings_62 x0 x1 x2 x3 (0 : Int32) h14))
def f_X1_settings_38  (x0 : Nat) (x1 : Int32) (x2 : Int32) (x3 : Int32) (h : Hp) : Rt Int32 :=
  f_X1_settings_39 x0 x1 x2 x3 (0 : Int32) h
def f_X1_settings  (x0 : Nat) (x1 : Int32) (x2 : Int32) (x3 : Int32) (h : Hp) : Rt Int32 :=
  bd (f_X1_isIn (x1.toInt64) (1 : Int64) (1000000 : Int64) h) fun v15 h16 => if v15 = 0 then
  (f_X1_settings_38 x0 x1 x2 x3 h16)
  else
  (bd (f_X1_isIn (x2.toInt64) (0 : Int64) (100 : Int64) h16) fun v17 h18 => if v17 = 0 then
  (f_X1_settings_38 x0 x1 x2 x3 h18)
  else
  (bd (f_X1_isIn (x3.toInt64) (0 : Int64) (1 : Int64) h18) fun v19 h20 => if v19 = 0 then
  (f_X1_settings_38 x0 x1 x2 x3 h20)
  else
  (f_X1_settings_39 x0 x1 x2 x3 (1 : Int32) h20)))
theorem b_X1_settings_62 {rr : (Int32 ⊕ Ex) × Hp}  (C : CX p l R s m args meth c D Hs cX1_settings "Massclaim" 5 (some .int) [] 7 110)  : ∀ (x0 : Nat) (x1 : Int32) (x2 : Int32) (x3 : Int32) (y0 : Int32) (h : Hp) (H : Heap) (locs : List Loc) (cells slots : Nat) (ls : Array Slot), HP D Hs h H → LO Hs locs → lv_has ls 5 [(0, rv x0), (1, .int x1), (2, .int x2), (3, .int x3)] → f_X1_settings_62 x0 x1 x2 x3 y0 h = some rr → W p l e R s m args below meth c H locs cells slots (ZM D Hs iI rr below args s) (F0 m 62 ls [.int y0]) := by
  obtain ⟨⟨hx, hb, hml, hown, hts⟩, -⟩ := id C
  have hl9 := C.2.1.2.2.1
  intro x0 x1 x2 x3 y0 h H locs cells slots ls hH hL hl hrun
  unfold f_X1_settings_62 at hrun
  refine V_bd (pc := 62) C hL rfl hrun (fun rr1 e1 => Z_runS (rest := []) C hH (m_X1_requireState hl9 e1) wS_X1_182 rfl ⟨by decide, by decide⟩ rfl (Nat.le_of_ble_eq_true rfl) hl.1 dX1_settings_62) (fun _ h2 H locs cells slots hH hL hrun => ?_)
  refine V_aload_n (pc := 65) hx hb dX1_settings_65 rfl (lv_at hl 0 rfl) ?_
  obtain ⟨c3, hrun⟩ := gd_some hrun
  refine V_getI (pc := 66) C hH fr_X1_99 dX1_settings_66 c3 rfl ?_
  refine lv_topi (fun v4 ev4 => ?_)
  have hrun := vl_at hrun v4 ev4
  refine lv_istore (i := 4) (lv' := [(4, .int v4), (0, rv x0), (1, .int x1), (2, .int x2), (3, .int x3)]) (pc := 69) hx hb dX1_settings_69 hl (by decide) rfl (fun ls hl => ?_)
  refine V_aload_n (pc := 71) hx hb dX1_settings_71 rfl (lv_at hl 1 rfl) ?_
  refine lv_iload_n (pc := 72) hx hb dX1_settings_72 rfl (lv_at hl 2 rfl) ?_
  refine V_putI (pc := 73) C hH hL fl_X1_99 dX1_settings_73 c3 (fok_i _) rfl (fun q => Bool.noConfusion q) hrun (fun h5 H locs hH hL hrun => ?_)
  refine V_aload_n (pc := 76) hx hb dX1_settings_76 rfl (lv_at hl 1 rfl) ?_
  refine lv_iload_n (pc := 77) hx hb dX1_settings_77 rfl (lv_at hl 3 rfl) ?_
  obtain ⟨c6, hrun⟩ := gd_some hrun
  refine V_putI (pc := 78) C hH hL fl_X1_102 dX1_settings_78 c6 (fok_i _) rfl (fun q => Bool.noConfusion q) hrun (fun h7 H locs hH hL hrun => ?_)
  refine V_aload_n (pc := 81) hx hb dX1_settings_81 rfl (lv_at hl 1 rfl) ?_
  refine lv_iload_n (pc := 82) hx hb dX1_settings_82 rfl (lv_at hl 4 rfl) ?_
  obtain ⟨c8, hrun⟩ := gd_some hrun
  refine V_putI (pc := 83) C hH hL fl_X1_105 dX1_settings_83 c8 (fok_i _) rfl (fun q => Bool.noConfusion q) hrun (fun h9 H locs hH hL hrun => ?_)
  refine lv_iload (pc := 86) hx hb dX1_settings_86 (lv_at hl 0 rfl) ?_
  exact V_iret (pc := 88) C hH hL hrun dX1_settings_88

theorem b_X1_settings_57 {rr : (Int32 ⊕ Ex) × Hp}  (C : CX p l R s m args meth c D Hs cX1_settings "Massclaim" 5 (some .int) [] 7 110)  : ∀ (x0 : Nat) (x1 : Int32) (x2 : Int32) (x3 : Int32) (h : Hp) (H : Heap) (locs : List Loc) (cells slots : Nat) (ls : Array Slot), HP D Hs h H → LO Hs locs → lv_has ls 5 [(0, rv x0), (1, .int x1), (2, .int x2), (3, .int x3)] → f_X1_settings_57 x0 x1 x2 x3 h = some rr → W p l e R s m args below meth c H locs cells slots (ZM D Hs iI rr below args s) (F0 m 57 ls []) := by
  obtain ⟨⟨hx, hb, hml, hown, hts⟩, -⟩ := id C
  have hl9 := C.2.1.2.2.1
  intro x0 x1 x2 x3 h H locs cells slots ls hH hL hl hrun
  unfold f_X1_settings_57 at hrun
  refine lv_iconst (v := (1 : Int32)) (pc := 57) hx hb dX1_settings_57 (by decide) ?_
  refine lv_goto (tgt := 62) (pc := 58) hx hb dX1_settings_58 (by decide) ?_
  exact b_X1_settings_62 C x0 x1 x2 x3 (1 : Int32) h H locs cells slots ls hH hL (lv_sub hl [0, 1, 2, 3] rfl) hrun

theorem b_X1_settings_39 {rr : (Int32 ⊕ Ex) × Hp}  (C : CX p l R s m args meth c D Hs cX1_settings "Massclaim" 5 (some .int) [] 7 110)  : ∀ (x0 : Nat) (x1 : Int32) (x2 : Int32) (x3 : Int32) (y0 : Int32) (h : Hp) (H : Heap) (locs : List Loc) (cells slots : Nat) (ls : Array Slot), HP D Hs h H → LO Hs locs → lv_has ls 5 [(0, rv x0), (1, .int x1), (2, .int x2), (3, .int x3)] → f_X1_settings_39 x0 x1 x2 x3 y0 h = some rr → W p l e R s m args below meth c H locs cells slots (ZM D Hs iI rr below args s) (F0 m 39 ls [.int y0]) := by
  obtain ⟨⟨hx, hb, hml, hown, hts⟩, -⟩ := id C
  have hl9 := C.2.1.2.2.1
  intro x0 x1 x2 x3 y0 h H locs cells slots ls hH hL hl hrun
  unfold f_X1_settings_39 at hrun
  refine V_bd (pc := 39) C hL rfl hrun (fun rr1 e1 => Z_runS (rest := []) C hH (m_X1_requireArgument hl9 e1) wS_X1_131 rfl ⟨by decide, by decide⟩ rfl (Nat.le_of_ble_eq_true rfl) hl.1 dX1_settings_39) (fun _ h11 H locs cells slots hH hL hrun => ?_)
  refine lv_iload_n (pc := 42) hx hb dX1_settings_42 rfl (lv_at hl 1 rfl) ?_
  refine V_aload_n (pc := 43) hx hb dX1_settings_43 rfl (lv_at hl 0 rfl) ?_
  obtain ⟨c12, hrun⟩ := gd_some hrun
  refine V_getI (pc := 44) C hH fr_X1_99 dX1_settings_44 c12 rfl ?_
  refine lv_icmp_eq (tgt := 57) (pc := 47) hx hb dX1_settings_47 (by decide) (fun c_ => ?_) (fun c_ => ?_)
  · have hrun := ite_t hrun c_
    exact b_X1_settings_57 C x0 x1 x2 x3 h11 H locs cells slots ls hH hL (lv_sub hl [0, 1, 2, 3] rfl) hrun
  · have hrun := ite_f hrun c_
    refine V_aload_n (pc := 50) hx hb dX1_settings_50 rfl (lv_at hl 0 rfl) ?_
    refine V_bd (pc := 51) C hL rfl hrun (fun rr1 e1 => Z_runV (rest := []) C hH (m_X1_isDone hl9 e1) wV_X1_225 c12 rfl (by decide) rfl rfl ⟨by decide, by decide⟩ rfl (Nat.le_of_ble_eq_true rfl) hl.1 dX1_settings_51) (fun v13 h14 H locs cells slots hH hL hrun => ?_)
    refine lv_if_ne (tgt := 61) (pc := 54) hx hb dX1_settings_54 (by decide) (fun c_ => ?_) (fun c_ => ?_)
    · have hrun := ite_f hrun c_
      refine lv_iconst (v := (0 : Int32)) (pc := 61) hx hb dX1_settings_61 (by decide) ?_
      exact b_X1_settings_62 C x0 x1 x2 x3 (0 : Int32) h14 H locs cells slots ls hH hL (lv_sub hl [0, 1, 2, 3] rfl) hrun
    · have hrun := ite_t hrun c_
      exact b_X1_settings_57 C x0 x1 x2 x3 h14 H locs cells slots ls hH hL (lv_sub hl [0, 1, 2, 3] rfl) hrun

theorem b_X1_settings_38 {rr : (Int32 ⊕ Ex) × Hp}  (C : CX p l R s m args meth c D Hs cX1_settings "Massclaim" 5 (some .int) [] 7 110)  : ∀ (x0 : Nat) (x1 : Int32) (x2 : Int32) (x3 : Int32) (h : Hp) (H : Heap) (locs : List Loc) (cells slots : Nat) (ls : Array Slot), HP D Hs h H → LO Hs locs → lv_has ls 5 [(0, rv x0), (1, .int x1), (2, .int x2), (3, .int x3)] → f_X1_settings_38 x0 x1 x2 x3 h = some rr → W p l e R s m args below meth c H locs cells slots (ZM D Hs iI rr below args s) (F0 m 38 ls []) := by
  obtain ⟨⟨hx, hb, hml, hown, hts⟩, -⟩ := id C
  have hl9 := C.2.1.2.2.1
  intro x0 x1 x2 x3 h H locs cells slots ls hH hL hl hrun
  unfold f_X1_settings_38 at hrun
  refine lv_iconst (v := (0 : Int32)) (pc := 38) hx hb dX1_settings_38 (by decide) ?_
  exact b_X1_settings_39 C x0 x1 x2 x3 (0 : Int32) h H locs cells slots ls hH hL (lv_sub hl [0, 1, 2, 3] rfl) hrun

theorem b_X1_settings {rr : (Int32 ⊕ Ex) × Hp}  (C : CX p l R s m args meth c D Hs cX1_settings "Massclaim" 5 (some .int) [] 7 110)  : ∀ (x0 : Nat) (x1 : Int32) (x2 : Int32) (x3 : Int32) (h : Hp) (H : Heap) (locs : List Loc) (cells slots : Nat) (ls : Array Slot), HP D Hs h H → LO Hs locs → lv_has ls 5 [(0, rv x0), (1, .int x1), (2, .int x2), (3, .int x3)] → f_X1_settings x0 x1 x2 x3 h = some rr → W p l e R s m args below meth c H locs cells slots (ZM D Hs iI rr below args s) (F0 m 0 ls []) := by
  obtain ⟨⟨hx, hb, hml, hown, hts⟩, -⟩ := id C
  have hl9 := C.2.1.2.2.1
  intro x0 x1 x2 x3 h H locs cells slots ls hH hL hl hrun
  unfold f_X1_settings at hrun
  refine lv_iload_n (pc := 0) hx hb dX1_settings_0 rfl (lv_at hl 1 rfl) ?_
  refine lv_i2l (pc := 1) hx hb dX1_settings_1 rfl ?_
  refine lv_lconst (v := (1 : Int64)) (pc := 2) hx hb dX1_settings_2 (by decide) ?_
  refine lv_ldc2 (pc := 3) hx hb hown (hts _ q1513) dX1_settings_3 ?_
  refine V_bd (pc := 6) C hL rfl hrun (fun rr1 e1 => Z_runS (rest := []) C hH (m_X1_isIn hl9 e1) wS_X1_127 rfl ⟨by decide, by decide⟩ rfl (Nat.le_of_ble_eq_true rfl) hl.1 dX1_settings_6) (fun v15 h16 H locs cells slots hH hL hrun => ?_)
  refine lv_if_eq (tgt := 38) (pc := 9) hx hb dX1_settings_9 (by decide) (fun c_ => ?_) (fun c_ => ?_)
  · have hrun := ite_t hrun c_
    exact b_X1_settings_38 C x0 x1 x2 x3 h16 H locs cells slots ls hH hL (lv_sub hl [0, 1, 2, 3] rfl) hrun
  · have hrun := ite_f hrun c_
    refine lv_iload_n (pc := 12) hx hb dX1_settings_12 rfl (lv_at hl 2 rfl) ?_
    refine lv_i2l (pc := 13) hx hb dX1_settings_13 rfl ?_
    refine lv_lconst (v := (0 : Int64)) (pc := 14) hx hb dX1_settings_14 (by decide) ?_
    refine lv_ldc2 (pc := 15) hx hb hown (hts _ q404) dX1_settings_15 ?_
    refine V_bd (pc := 18) C hL rfl hrun (fun rr1 e1 => Z_runS (rest := []) C hH (m_X1_isIn hl9 e1) wS_X1_127 rfl ⟨by decide, by decide⟩ rfl (Nat.le_of_ble_eq_true rfl) hl.1 dX1_settings_18) (fun v17 h18 H locs cells slots hH hL hrun => ?_)
    refine lv_if_eq (tgt := 38) (pc := 21) hx hb dX1_settings_21 (by decide) (fun c_ => ?_) (fun c_ => ?_)
    · have hrun := ite_t hrun c_
      exact b_X1_settings_38 C x0 x1 x2 x3 h18 H locs cells slots ls hH hL (lv_sub hl [0, 1, 2, 3] rfl) hrun
    · have hrun := ite_f hrun c_
      refine lv_iload_n (pc := 24) hx hb dX1_settings_24 rfl (lv_at hl 3 rfl) ?_
      refine lv_i2l (pc := 25) hx hb dX1_settings_25 rfl ?_
      refine lv_lconst (v := (0 : Int64)) (pc := 26) hx hb dX1_settings_26 (by decide) ?_
      refine lv_lconst (v := (1 : Int64)) (pc := 27) hx hb dX1_settings_27 (by decide) ?_
      refine V_bd (pc := 28) C hL rfl hrun (fun rr1 e1 => Z_runS (rest := []) C hH (m_X1_isIn hl9 e1) wS_X1_127 rfl ⟨by decide, by decide⟩ rfl (Nat.le_of_ble_eq_true rfl) hl.1 dX1_settings_28) (fun v19 h20 H locs cells slots hH hL hrun => ?_)
      refine lv_if_eq (tgt := 38) (pc := 31) hx hb dX1_settings_31 (by decide) (fun c_ => ?_) (fun c_ => ?_)
      · have hrun := ite_t hrun c_
        exact b_X1_settings_38 C x0 x1 x2 x3 h20 H locs cells slots ls hH hL (lv_sub hl [0, 1, 2, 3] rfl) hrun
      · have hrun := ite_f hrun c_
        refine lv_iconst (v := (1 : Int32)) (pc := 34) hx hb dX1_settings_34 (by decide) ?_
        refine lv_goto (tgt := 39) (pc := 35) hx hb dX1_settings_35 (by decide) ?_
        exact b_X1_settings_39 C x0 x1 x2 x3 (1 : Int32) h20 H locs cells slots ls hH hL (lv_sub hl [0, 1, 2, 3] rfl) hrun

theorem m_X1_settings {l : Launch} {D : va_G} {Hs : Heap} {h : Hp} {rr : (Int32 ⊕ Ex) × Hp} (hl9 : l.stackTraces = false) {x0 : Nat} {x1 : Int32} {x2 : Int32} {x3 : Int32} (hrun : f_X1_settings x0 x1 x2 x3 h = some rr) : CM l yX1_settings (ws_ yX1_settings cX1_settings 5 (some .int)) 7 110 iI [rv x0, .int x1, .int x2, .int x3] D Hs h rr := by
  refine CM.of (lv := [(0, rv x0), (1, .int x1), (2, .int x2), (3, .int x3)]) (plainFor_of_name (by decide)) hl9 (by simp [lv_args, rv_cat, cat_i, cat_l, cat_f, cat_d]) (by simp [lg_sl, rv_cat, cat_i, cat_l, cat_f, cat_d]) ?_
  intro p e R s m args below meth c H ls C hH hl hin
  exact b_X1_settings C x0 x1 x2 x3 _ H [] _ _ ls hH (fun _ q => nomatch q) (lv_sub hl [0, 1, 2, 3] rfl) hrun

/-! MassclaimLaw.settings(LMassclaim;III[J)I -/
def f_X0_settings_15  (y0 : Nat) (h : Hp) : Rt Int32 :=
  some (.inl (1 : Int32), h)
def f_X0_settings_19  (y0 : Nat) (h : Hp) : Rt Int32 :=
  some (.inl (2 : Int32), h)
def f_X0_settings  (x0 : Nat) (x1 : Int32) (x2 : Int32) (x3 : Int32) (x4 : Nat) (h : Hp) : Rt Int32 :=
  gd (kC h x0 = 1) <| bdH (f_X1_settings x0 x1 x2 x3 h)
  (fun v1 h2 => gd (kC h2 x4 = 102 ∧ ixo (0 : Int32) (kN h2 x4)) <| vl (tL h2 x4 ((0 : Int32)).toNatClampNeg (v1.toInt64)) fun h5 => some (.inl (0 : Int32), h5))
  (fun ex6 h7 => if ex6.1 = 902 then
  (f_X0_settings_15 ex6.2 h7)
  else
  if ex6.1 = 903 then
  (f_X0_settings_19 ex6.2 h7)
  else
  none)
theorem b_X0_settings_15 {rr : (Int32 ⊕ Ex) × Hp}  (C : CX p l R s m args meth c D Hs cX0_settings "MassclaimLaw" 6 (some .int) [(0, 12, 15, 13), (0, 12, 19, 19)] 8 134)  : ∀ (y0 : Nat) (h : Hp) (H : Heap) (locs : List Loc) (cells slots : Nat) (ls : Array Slot), HP D Hs h H → LO Hs locs → lv_has ls 6 [] → f_X0_settings_15 y0 h = some rr → W p l e R s m args below meth c H locs cells slots (ZM D Hs iI rr below args s) (F0 m 15 ls [rv y0]) := by
  obtain ⟨⟨hx, hb, hml, hown, hts⟩, -⟩ := id C
  have hl9 := C.2.1.2.2.1
  intro y0 h H locs cells slots ls hH hL hl hrun
  unfold f_X0_settings_15 at hrun
  refine V_astore (i := 5) (lv' := [(5, rv y0)]) (pc := 15) hx hb dX0_settings_15 hl (by decide) rfl (fun ls hl => ?_)
  refine lv_iconst (v := (1 : Int32)) (pc := 17) hx hb dX0_settings_17 (by decide) ?_
  exact V_iret (pc := 18) C hH hL hrun dX0_settings_18

theorem b_X0_settings_19 {rr : (Int32 ⊕ Ex) × Hp}  (C : CX p l R s m args meth c D Hs cX0_settings "MassclaimLaw" 6 (some .int) [(0, 12, 15, 13), (0, 12, 19, 19)] 8 134)  : ∀ (y0 : Nat) (h : Hp) (H : Heap) (locs : List Loc) (cells slots : Nat) (ls : Array Slot), HP D Hs h H → LO Hs locs → lv_has ls 6 [] → f_X0_settings_19 y0 h = some rr → W p l e R s m args below meth c H locs cells slots (ZM D Hs iI rr below args s) (F0 m 19 ls [rv y0]) := by
  obtain ⟨⟨hx, hb, hml, hown, hts⟩, -⟩ := id C
  have hl9 := C.2.1.2.2.1
  intro y0 h H locs cells slots ls hH hL hl hrun
  unfold f_X0_settings_19 at hrun
  refine V_astore (i := 5) (lv' := [(5, rv y0)]) (pc := 19) hx hb dX0_settings_19 hl (by decide) rfl (fun ls hl => ?_)
  refine lv_iconst (v := (2 : Int32)) (pc := 21) hx hb dX0_settings_21 (by decide) ?_
  exact V_iret (pc := 22) C hH hL hrun dX0_settings_22

theorem b_X0_settings {rr : (Int32 ⊕ Ex) × Hp}  (C : CX p l R s m args meth c D Hs cX0_settings "MassclaimLaw" 6 (some .int) [(0, 12, 15, 13), (0, 12, 19, 19)] 8 134)  : ∀ (x0 : Nat) (x1 : Int32) (x2 : Int32) (x3 : Int32) (x4 : Nat) (h : Hp) (H : Heap) (locs : List Loc) (cells slots : Nat) (ls : Array Slot), HP D Hs h H → LO Hs locs → lv_has ls 6 [(0, rv x0), (1, .int x1), (2, .int x2), (3, .int x3), (4, rv x4)] → f_X0_settings x0 x1 x2 x3 x4 h = some rr → W p l e R s m args below meth c H locs cells slots (ZM D Hs iI rr below args s) (F0 m 0 ls []) := by
  obtain ⟨⟨hx, hb, hml, hown, hts⟩, -⟩ := id C
  have hl9 := C.2.1.2.2.1
  intro x0 x1 x2 x3 x4 h H locs cells slots ls hH hL hl hrun
  unfold f_X0_settings at hrun
  refine V_aload (pc := 0) hx hb dX0_settings_0 (lv_at hl 4 rfl) ?_
  refine lv_iconst (v := (0 : Int32)) (pc := 2) hx hb dX0_settings_2 (by decide) ?_
  refine V_aload_n (pc := 3) hx hb dX0_settings_3 rfl (lv_at hl 0 rfl) ?_
  refine lv_iload_n (pc := 4) hx hb dX0_settings_4 rfl (lv_at hl 1 rfl) ?_
  refine lv_iload_n (pc := 5) hx hb dX0_settings_5 rfl (lv_at hl 2 rfl) ?_
  refine lv_iload_n (pc := 6) hx hb dX0_settings_6 rfl (lv_at hl 3 rfl) ?_
  obtain ⟨c3, hrun⟩ := gd_some hrun
  refine V_bdH (pc := 7) hL hrun (fun rr1 e1 => Z_runV (rest := [.int (0 : Int32), rv x4]) C hH (m_X1_settings hl9 e1) wV_X0_104 c3 rfl (by decide) rfl rfl ⟨by decide, by decide⟩ rfl (by simp [csum, rv_cat, cat_i, cat_l, cat_f, cat_d]) hl.1 dX0_settings_7) (fun v1 h2 H locs cells slots hH hL hrun => ?_) (fun x_ q_ ce_ h7 H locs cells slots hH hL hrun hc_ hv_ hcl_ => ?_)
  · refine lv_i2l (pc := 10) hx hb dX0_settings_10 rfl ?_
    obtain ⟨c4, hrun⟩ := gd_some hrun
    refine V_last (pc := 11) C hH hL dX0_settings_11 c4 hrun (fun h5 H locs hH hL hrun => ?_)
    refine lv_goto (tgt := 23) (pc := 12) hx hb dX0_settings_12 (by decide) ?_
    refine lv_iconst (v := (0 : Int32)) (pc := 23) hx hb dX0_settings_23 (by decide) ?_
    exact V_iret (pc := 24) C hH hL hrun dX0_settings_24
  · by_cases n902 : x_ = 902
    · subst n902
      have hrun := ite_t hrun rfl
      refine vx_catch (E := "java/lang/IllegalArgumentException") (name := "java/lang/IllegalArgumentException") hown (tableOf []) ⟨0, 12, 15, 13⟩ (tableOf [(0, 12, 19, 19)]) (by rw [C.2.1.2.2.2.2]; rfl) (fun z hz => nomatch hz) (by decide) (by decide) (hts _ q449) (va_Nw.use rfl (C.2.1.2.2.2.1.2.1 _ q463 rfl)) hc_ hv_ hcl_ ?_
      exact b_X0_settings_15 C (q_ + 1) h7 H locs cells slots ls hH hL (lv_sub hl [] rfl) hrun
    have hrun := ite_f hrun n902
    by_cases n903 : x_ = 903
    · subst n903
      have hrun := ite_t hrun rfl
      refine vx_catch (E := "java/lang/IllegalStateException") (name := "java/lang/IllegalStateException") hown (tableOf [(0, 12, 15, 13)]) ⟨0, 12, 19, 19⟩ (tableOf []) (by rw [C.2.1.2.2.2.2]; rfl) (fun z hz => by simp only [tableOf, List.map, List.mem_cons, List.not_mem_nil, or_false] at hz; rcases hz with rfl <;> first | exact Or.inr ⟨by decide, "java/lang/IllegalArgumentException", hts _ q449, nc_at C (by decide)⟩) (by decide) (by decide) (hts _ q585) (va_Nw.use rfl (C.2.1.2.2.2.1.2.1 _ q702 rfl)) hc_ hv_ hcl_ ?_
      exact b_X0_settings_19 C (q_ + 1) h7 H locs cells slots ls hH hL (lv_sub hl [] rfl) hrun
    have hrun := ite_f hrun n903
    cases hrun

theorem m_X0_settings {l : Launch} {D : va_G} {Hs : Heap} {h : Hp} {rr : (Int32 ⊕ Ex) × Hp} (hl9 : l.stackTraces = false) {x0 : Nat} {x1 : Int32} {x2 : Int32} {x3 : Int32} {x4 : Nat} (hrun : f_X0_settings x0 x1 x2 x3 x4 h = some rr) : CM l yX0_settings (wsW_ yX0_settings cX0_settings 6 (some .int) [(0, 12, 15, 13), (0, 12, 19, 19)]) 8 134 iI [rv x0, .int x1, .int x2, .int x3, rv x4] D Hs h rr := by
  refine CM.ofH (lv := [(0, rv x0), (1, .int x1), (2, .int x2), (3, .int x3), (4, rv x4)]) (plainFor_of_name (by decide)) hl9 (by simp [lv_args, rv_cat, cat_i, cat_l, cat_f, cat_d]) (by simp [lg_sl, rv_cat, cat_i, cat_l, cat_f, cat_d]) ?_
  intro p e R s m args below meth c H ls C hH hl hin
  exact b_X0_settings C x0 x1 x2 x3 x4 _ H [] _ _ ls hH (fun _ q => nomatch q) (lv_sub hl [0, 1, 2, 3, 4] rfl) hrun

/-! MassclaimModel.settings(III)I -/
def f_X4_settings_79  (h : Hp) : Rt Int32 :=
  some (.inl (0 : Int32), h)
def f_X4_settings_72  (x0 : Nat) (x1 : Int32) (x2 : Int32) (x3 : Int32) (y0 : Nat) (y1 : Int32) (h : Hp) : Rt Int32 :=
  gd (kC h y0 = 4) <| bd (f_X4_isGood y0 y1 (2 : Int32) h) fun v1 h2 => if v1 = 0 then
  (f_X4_settings_79  h2)
  else
  (gd (kC h2 x0 = 4) <| vl (kI h2 316 x0) fun v5 => vl (sI h2 316 x0 x1) fun h6 => gd (kC h6 x0 = 4) <| vl (sI h6 317 x0 x2) fun h8 => gd (kC h8 x0 = 4) <| vl (sI h8 318 x0 x3) fun h10 => some (.inl v5, h10))
def f_X4_settings_67  (x0 : Nat) (x1 : Int32) (x2 : Int32) (x3 : Int32) (y0 : Nat) (h : Hp) : Rt Int32 :=
  f_X4_settings_72 x0 x1 x2 x3 y0 (1 : Int32) h
def f_X4_settings_39  (x0 : Nat) (x1 : Int32) (x2 : Int32) (x3 : Int32) (y0 : Int32) (h : Hp) : Rt Int32 :=
  gd (kC h x0 = 4) <| bd (f_X4_isGood x0 y0 (1 : Int32) h) fun v11 h12 => if v11 = 0 then
  (f_X4_settings_79  h12)
  else
  (gd (kC h12 x0 = 4) <| if x1 = (kI h12 316 x0) then
  (f_X4_settings_67 x0 x1 x2 x3 x0 h12)
  else
  (bd (f_X4_isOver x0 h12) fun v15 h16 => if v15 = 0 then
  (f_X4_settings_67 x0 x1 x2 x3 x0 h16)
  else
  (f_X4_settings_72 x0 x1 x2 x3 x0 (0 : Int32) h16)))
def f_X4_settings_38  (x0 : Nat) (x1 : Int32) (x2 : Int32) (x3 : Int32) (h : Hp) : Rt Int32 :=
  f_X4_settings_39 x0 x1 x2 x3 (0 : Int32) h
def f_X4_settings  (x0 : Nat) (x1 : Int32) (x2 : Int32) (x3 : Int32) (h : Hp) : Rt Int32 :=
  bd (f_X4_isWithin (x1.toInt64) (1 : Int64) (1000000 : Int64) h) fun v17 h18 => if v17 = 0 then
  (f_X4_settings_38 x0 x1 x2 x3 h18)
  else
  (bd (f_X4_isWithin (x2.toInt64) (0 : Int64) (100 : Int64) h18) fun v19 h20 => if v19 = 0 then
  (f_X4_settings_38 x0 x1 x2 x3 h20)
  else
  (bd (f_X4_isWithin (x3.toInt64) (0 : Int64) (1 : Int64) h20) fun v21 h22 => if v21 = 0 then
  (f_X4_settings_38 x0 x1 x2 x3 h22)
  else
  (f_X4_settings_39 x0 x1 x2 x3 (1 : Int32) h22)))
theorem b_X4_settings_79 {rr : (Int32 ⊕ Ex) × Hp}  (C : CX p l R s m args meth c D Hs cX4_settings "MassclaimModel" 6 (some .int) [] 2 25)  : ∀ (h : Hp) (H : Heap) (locs : List Loc) (cells slots : Nat) (ls : Array Slot), HP D Hs h H → LO Hs locs → lv_has ls 6 [] → f_X4_settings_79 h = some rr → W p l e R s m args below meth c H locs cells slots (ZM D Hs iI rr below args s) (F0 m 79 ls []) := by
  obtain ⟨⟨hx, hb, hml, hown, hts⟩, -⟩ := id C
  have hl9 := C.2.1.2.2.1
  intro h H locs cells slots ls hH hL hl hrun
  unfold f_X4_settings_79 at hrun
  refine lv_iconst (v := (0 : Int32)) (pc := 79) hx hb dX4_settings_79 (by decide) ?_
  exact V_iret (pc := 80) C hH hL hrun dX4_settings_80

theorem b_X4_settings_72 {rr : (Int32 ⊕ Ex) × Hp}  (C : CX p l R s m args meth c D Hs cX4_settings "MassclaimModel" 6 (some .int) [] 2 25)  : ∀ (x0 : Nat) (x1 : Int32) (x2 : Int32) (x3 : Int32) (y0 : Nat) (y1 : Int32) (h : Hp) (H : Heap) (locs : List Loc) (cells slots : Nat) (ls : Array Slot), HP D Hs h H → LO Hs locs → lv_has ls 6 [(0, rv x0), (1, .int x1), (2, .int x2), (3, .int x3)] → f_X4_settings_72 x0 x1 x2 x3 y0 y1 h = some rr → W p l e R s m args below meth c H locs cells slots (ZM D Hs iI rr below args s) (F0 m 72 ls [.int y1, rv y0]) := by
  obtain ⟨⟨hx, hb, hml, hown, hts⟩, -⟩ := id C
  have hl9 := C.2.1.2.2.1
  intro x0 x1 x2 x3 y0 y1 h H locs cells slots ls hH hL hl hrun
  unfold f_X4_settings_72 at hrun
  refine lv_iconst (v := (2 : Int32)) (pc := 72) hx hb dX4_settings_72 (by decide) ?_
  obtain ⟨c3, hrun⟩ := gd_some hrun
  refine V_bd (pc := 73) C hL rfl hrun (fun rr1 e1 => Z_runV (rest := []) C hH (m_X4_isGood hl9 e1) wV_X4_104 c3 rfl (by decide) rfl rfl ⟨by decide, by decide⟩ rfl (Nat.le_of_ble_eq_true rfl) hl.1 dX4_settings_73) (fun v1 h2 H locs cells slots hH hL hrun => ?_)
  refine lv_if_ne (tgt := 81) (pc := 76) hx hb dX4_settings_76 (by decide) (fun c_ => ?_) (fun c_ => ?_)
  · have hrun := ite_f hrun c_
    refine V_aload_n (pc := 81) hx hb dX4_settings_81 rfl (lv_at hl 0 rfl) ?_
    obtain ⟨c4, hrun⟩ := gd_some hrun
    refine V_getI (pc := 82) C hH fr_X4_64 dX4_settings_82 c4 rfl ?_
    refine lv_topi (fun v5 ev5 => ?_)
    have hrun := vl_at hrun v5 ev5
    refine lv_istore (i := 5) (lv' := [(5, .int v5), (0, rv x0), (1, .int x1), (2, .int x2), (3, .int x3)]) (pc := 85) hx hb dX4_settings_85 hl (by decide) rfl (fun ls hl => ?_)
    refine V_aload_n (pc := 87) hx hb dX4_settings_87 rfl (lv_at hl 1 rfl) ?_
    refine lv_iload_n (pc := 88) hx hb dX4_settings_88 rfl (lv_at hl 2 rfl) ?_
    refine V_putI (pc := 89) C hH hL fl_X4_64 dX4_settings_89 c4 (fok_i _) rfl (fun q => Bool.noConfusion q) hrun (fun h6 H locs hH hL hrun => ?_)
    refine V_aload_n (pc := 92) hx hb dX4_settings_92 rfl (lv_at hl 1 rfl) ?_
    refine lv_iload_n (pc := 93) hx hb dX4_settings_93 rfl (lv_at hl 3 rfl) ?_
    obtain ⟨c7, hrun⟩ := gd_some hrun
    refine V_putI (pc := 94) C hH hL fl_X4_67 dX4_settings_94 c7 (fok_i _) rfl (fun q => Bool.noConfusion q) hrun (fun h8 H locs hH hL hrun => ?_)
    refine V_aload_n (pc := 97) hx hb dX4_settings_97 rfl (lv_at hl 1 rfl) ?_
    refine lv_iload_n (pc := 98) hx hb dX4_settings_98 rfl (lv_at hl 4 rfl) ?_
    obtain ⟨c9, hrun⟩ := gd_some hrun
    refine V_putI (pc := 99) C hH hL fl_X4_70 dX4_settings_99 c9 (fok_i _) rfl (fun q => Bool.noConfusion q) hrun (fun h10 H locs hH hL hrun => ?_)
    refine lv_iload (pc := 102) hx hb dX4_settings_102 (lv_at hl 0 rfl) ?_
    exact V_iret (pc := 104) C hH hL hrun dX4_settings_104
  · have hrun := ite_t hrun c_
    exact b_X4_settings_79 C h2 H locs cells slots ls hH hL (lv_sub hl [] rfl) hrun

theorem b_X4_settings_67 {rr : (Int32 ⊕ Ex) × Hp}  (C : CX p l R s m args meth c D Hs cX4_settings "MassclaimModel" 6 (some .int) [] 2 25)  : ∀ (x0 : Nat) (x1 : Int32) (x2 : Int32) (x3 : Int32) (y0 : Nat) (h : Hp) (H : Heap) (locs : List Loc) (cells slots : Nat) (ls : Array Slot), HP D Hs h H → LO Hs locs → lv_has ls 6 [(0, rv x0), (1, .int x1), (2, .int x2), (3, .int x3)] → f_X4_settings_67 x0 x1 x2 x3 y0 h = some rr → W p l e R s m args below meth c H locs cells slots (ZM D Hs iI rr below args s) (F0 m 67 ls [rv y0]) := by
  obtain ⟨⟨hx, hb, hml, hown, hts⟩, -⟩ := id C
  have hl9 := C.2.1.2.2.1
  intro x0 x1 x2 x3 y0 h H locs cells slots ls hH hL hl hrun
  unfold f_X4_settings_67 at hrun
  refine lv_iconst (v := (1 : Int32)) (pc := 67) hx hb dX4_settings_67 (by decide) ?_
  refine lv_goto (tgt := 72) (pc := 68) hx hb dX4_settings_68 (by decide) ?_
  exact b_X4_settings_72 C x0 x1 x2 x3 y0 (1 : Int32) h H locs cells slots ls hH hL (lv_sub hl [0, 1, 2, 3] rfl) hrun

theorem b_X4_settings_39 {rr : (Int32 ⊕ Ex) × Hp}  (C : CX p l R s m args meth c D Hs cX4_settings "MassclaimModel" 6 (some .int) [] 2 25)  : ∀ (x0 : Nat) (x1 : Int32) (x2 : Int32) (x3 : Int32) (y0 : Int32) (h : Hp) (H : Heap) (locs : List Loc) (cells slots : Nat) (ls : Array Slot), HP D Hs h H → LO Hs locs → lv_has ls 6 [(0, rv x0), (1, .int x1), (2, .int x2), (3, .int x3)] → f_X4_settings_39 x0 x1 x2 x3 y0 h = some rr → W p l e R s m args below meth c H locs cells slots (ZM D Hs iI rr below args s) (F0 m 39 ls [.int y0]) := by
  obtain ⟨⟨hx, hb, hml, hown, hts⟩, -⟩ := id C
  have hl9 := C.2.1.2.2.1
  intro x0 x1 x2 x3 y0 h H locs cells slots ls hH hL hl hrun
  unfold f_X4_settings_39 at hrun
  refine lv_istore (i := 4) (lv' := [(4, .int y0), (0, rv x0), (1, .int x1), (2, .int x2), (3, .int x3)]) (pc := 39) hx hb dX4_settings_39 hl (by decide) rfl (fun ls hl => ?_)
  refine V_aload_n (pc := 41) hx hb dX4_settings_41 rfl (lv_at hl 1 rfl) ?_
  refine lv_iload (pc := 42) hx hb dX4_settings_42 (lv_at hl 0 rfl) ?_
  refine lv_iconst (v := (1 : Int32)) (pc := 44) hx hb dX4_settings_44 (by decide) ?_
  obtain ⟨c13, hrun⟩ := gd_some hrun
  refine V_bd (pc := 45) C hL rfl hrun (fun rr1 e1 => Z_runV (rest := []) C hH (m_X4_isGood hl9 e1) wV_X4_104 c13 rfl (by decide) rfl rfl ⟨by decide, by decide⟩ rfl (Nat.le_of_ble_eq_true rfl) hl.1 dX4_settings_45) (fun v11 h12 H locs cells slots hH hL hrun => ?_)
  refine lv_if_eq (tgt := 79) (pc := 48) hx hb dX4_settings_48 (by decide) (fun c_ => ?_) (fun c_ => ?_)
  · have hrun := ite_t hrun c_
    exact b_X4_settings_79 C h12 H locs cells slots ls hH hL (lv_sub hl [] rfl) hrun
  · have hrun := ite_f hrun c_
    refine V_aload_n (pc := 51) hx hb dX4_settings_51 rfl (lv_at hl 1 rfl) ?_
    refine lv_iload_n (pc := 52) hx hb dX4_settings_52 rfl (lv_at hl 2 rfl) ?_
    refine V_aload_n (pc := 53) hx hb dX4_settings_53 rfl (lv_at hl 1 rfl) ?_
    obtain ⟨c14, hrun⟩ := gd_some hrun
    refine V_getI (pc := 54) C hH fr_X4_64 dX4_settings_54 c14 rfl ?_
    refine lv_icmp_eq (tgt := 67) (pc := 57) hx hb dX4_settings_57 (by decide) (fun c_ => ?_) (fun c_ => ?_)
    · have hrun := ite_t hrun c_
      exact b_X4_settings_67 C x0 x1 x2 x3 x0 h12 H locs cells slots ls hH hL (lv_sub hl [1, 2, 3, 4] rfl) hrun
    · have hrun := ite_f hrun c_
      refine V_aload_n (pc := 60) hx hb dX4_settings_60 rfl (lv_at hl 1 rfl) ?_
      refine V_bd (pc := 61) C hL rfl hrun (fun rr1 e1 => Z_runV (rest := [rv x0]) C hH (m_X4_isOver hl9 e1) wV_X4_232 c14 rfl (by decide) rfl rfl ⟨by decide, by decide⟩ rfl (by simp [csum, rv_cat, cat_i, cat_l, cat_f, cat_d]) hl.1 dX4_settings_61) (fun v15 h16 H locs cells slots hH hL hrun => ?_)
      refine lv_if_ne (tgt := 71) (pc := 64) hx hb dX4_settings_64 (by decide) (fun c_ => ?_) (fun c_ => ?_)
      · have hrun := ite_f hrun c_
        refine lv_iconst (v := (0 : Int32)) (pc := 71) hx hb dX4_settings_71 (by decide) ?_
        exact b_X4_settings_72 C x0 x1 x2 x3 x0 (0 : Int32) h16 H locs cells slots ls hH hL (lv_sub hl [1, 2, 3, 4] rfl) hrun
      · have hrun := ite_t hrun c_
        exact b_X4_settings_67 C x0 x1 x2 x3 x0 h16 H locs cells slots ls hH hL (lv_sub hl [1, 2, 3, 4] rfl) hrun

theorem b_X4_settings_38 {rr : (Int32 ⊕ Ex) × Hp}  (C : CX p l R s m args meth c D Hs cX4_settings "MassclaimModel" 6 (some .int) [] 2 25)  : ∀ (x0 : Nat) (x1 : Int32) (x2 : Int32) (x3 : Int32) (h : Hp) (H : Heap) (locs : List Loc) (cells slots : Nat) (ls : Array Slot), HP D Hs h H → LO Hs locs → lv_has ls 6 [(0, rv x0), (1, .int x1), (2, .int x2), (3, .int x3)] → f_X4_settings_38 x0 x1 x2 x3 h = some rr → W p l e R s m args below meth c H locs cells slots (ZM D Hs iI rr below args s) (F0 m 38 ls []) := by
  obtain ⟨⟨hx, hb, hml, hown, hts⟩, -⟩ := id C
  have hl9 := C.2.1.2.2.1
  intro x0 x1 x2 x3 h H locs cells slots ls hH hL hl hrun
  unfold f_X4_settings_38 at hrun
  refine lv_iconst (v := (0 : Int32)) (pc := 38) hx hb dX4_settings_38 (by decide) ?_
  exact b_X4_settings_39 C x0 x1 x2 x3 (0 : Int32) h H locs cells slots ls hH hL (lv_sub hl [0, 1, 2, 3] rfl) hrun

theorem b_X4_settings {rr : (Int32 ⊕ Ex) × Hp}  (C : CX p l R s m args meth c D Hs cX4_settings "MassclaimModel" 6 (some .int) [] 2 25)  : ∀ (x0 : Nat) (x1 : Int32) (x2 : Int32) (x3 : Int32) (h : Hp) (H : Heap) (locs : List Loc) (cells slots : Nat) (ls : Array Slot), HP D Hs h H → LO Hs locs → lv_has ls 6 [(0, rv x0), (1, .int x1), (2, .int x2), (3, .int x3)] → f_X4_settings x0 x1 x2 x3 h = some rr → W p l e R s m args below meth c H locs cells slots (ZM D Hs iI rr below args s) (F0 m 0 ls []) := by
  obtain ⟨⟨hx, hb, hml, hown, hts⟩, -⟩ := id C
  have hl9 := C.2.1.2.2.1
  intro x0 x1 x2 x3 h H locs cells slots ls hH hL hl hrun
  unfold f_X4_settings at hrun
  refine lv_iload_n (pc := 0) hx hb dX4_settings_0 rfl (lv_at hl 1 rfl) ?_
  refine lv_i2l (pc := 1) hx hb dX4_settings_1 rfl ?_
  refine lv_lconst (v := (1 : Int64)) (pc := 2) hx hb dX4_settings_2 (by decide) ?_
  refine lv_ldc2 (pc := 3) hx hb hown (hts _ q2299) dX4_settings_3 ?_
  refine V_bd (pc := 6) C hL rfl hrun (fun rr1 e1 => Z_runS (rest := []) C hH (m_X4_isWithin hl9 e1) wS_X4_100 rfl ⟨by decide, by decide⟩ rfl (Nat.le_of_ble_eq_true rfl) hl.1 dX4_settings_6) (fun v17 h18 H locs cells slots hH hL hrun => ?_)
  refine lv_if_eq (tgt := 38) (pc := 9) hx hb dX4_settings_9 (by decide) (fun c_ => ?_) (fun c_ => ?_)
  · have hrun := ite_t hrun c_
    exact b_X4_settings_38 C x0 x1 x2 x3 h18 H locs cells slots ls hH hL (lv_sub hl [0, 1, 2, 3] rfl) hrun
  · have hrun := ite_f hrun c_
    refine lv_iload_n (pc := 12) hx hb dX4_settings_12 rfl (lv_at hl 2 rfl) ?_
    refine lv_i2l (pc := 13) hx hb dX4_settings_13 rfl ?_
    refine lv_lconst (v := (0 : Int64)) (pc := 14) hx hb dX4_settings_14 (by decide) ?_
    refine lv_ldc2 (pc := 15) hx hb hown (hts _ q2205) dX4_settings_15 ?_
    refine V_bd (pc := 18) C hL rfl hrun (fun rr1 e1 => Z_runS (rest := []) C hH (m_X4_isWithin hl9 e1) wS_X4_100 rfl ⟨by decide, by decide⟩ rfl (Nat.le_of_ble_eq_true rfl) hl.1 dX4_settings_18) (fun v19 h20 H locs cells slots hH hL hrun => ?_)
    refine lv_if_eq (tgt := 38) (pc := 21) hx hb dX4_settings_21 (by decide) (fun c_ => ?_) (fun c_ => ?_)
    · have hrun := ite_t hrun c_
      exact b_X4_settings_38 C x0 x1 x2 x3 h20 H locs cells slots ls hH hL (lv_sub hl [0, 1, 2, 3] rfl) hrun
    · have hrun := ite_f hrun c_
      refine lv_iload_n (pc := 24) hx hb dX4_settings_24 rfl (lv_at hl 3 rfl) ?_
      refine lv_i2l (pc := 25) hx hb dX4_settings_25 rfl ?_
      refine lv_lconst (v := (0 : Int64)) (pc := 26) hx hb dX4_settings_26 (by decide) ?_
      refine lv_lconst (v := (1 : Int64)) (pc := 27) hx hb dX4_settings_27 (by decide) ?_
      refine V_bd (pc := 28) C hL rfl hrun (fun rr1 e1 => Z_runS (rest := []) C hH (m_X4_isWithin hl9 e1) wS_X4_100 rfl ⟨by decide, by decide⟩ rfl (Nat.le_of_ble_eq_true rfl) hl.1 dX4_settings_28) (fun v21 h22 H locs cells slots hH hL hrun => ?_)
      refine lv_if_eq (tgt := 38) (pc := 31) hx hb dX4_settings_31 (by decide) (fun c_ => ?_) (fun c_ => ?_)
      · have hrun := ite_t hrun c_
        exact b_X4_settings_38 C x0 x1 x2 x3 h22 H locs cells slots ls hH hL (lv_sub hl [0, 1, 2, 3] rfl) hrun
      · have hrun := ite_f hrun c_
        refine lv_iconst (v := (1 : Int32)) (pc := 34) hx hb dX4_settings_34 (by decide) ?_
        refine lv_goto (tgt := 39) (pc := 35) hx hb dX4_settings_35 (by decide) ?_
        exact b_X4_settings_39 C x0 x1 x2 x3 (1 : Int32) h22 H locs cells slots ls hH hL (lv_sub hl [0, 1, 2, 3] rfl) hrun

theorem m_X4_settings {l : Launch} {D : va_G} {Hs : Heap} {h : Hp} {rr : (Int32 ⊕ Ex) × Hp} (hl9 : l.stackTraces = false) {x0 : Nat} {x1 : Int32} {x2 : Int32} {x3 : Int32} (hrun : f_X4_settings x0 x1 x2 x3 h = some rr) : CM l yX4_settings (ws_ yX4_settings cX4_settings 6 (some .int)) 2 25 iI [rv x0, .int x1, .int x2, .int x3] D Hs h rr := by
  refine CM.of (lv := [(0, rv x0), (1, .int x1), (2, .int x2), (3, .int x3)]) (plainFor_of_name (by decide)) hl9 (by simp [lv_args, rv_cat, cat_i, cat_l, cat_f, cat_d]) (by simp [lg_sl, rv_cat, cat_i, cat_l, cat_f, cat_d]) ?_
  intro p e R s m args below meth c H ls C hH hl hin
  exact b_X4_settings C x0 x1 x2 x3 _ H [] _ _ ls hH (fun _ q => nomatch q) (lv_sub hl [0, 1, 2, 3] rfl) hrun

/-! Massclaim.isGrade(I)Z -/
def f_X1_isGrade  (x0 : Int32) (h : Hp) : Rt Int32 :=
  bd (f_X1_isIn (x0.toInt64) (0 : Int64) (3 : Int64) h) fun v1 h2 => gd (b01 v1) <| some (.inl v1, h2)
theorem b_X1_isGrade {rr : (Int32 ⊕ Ex) × Hp}  (C : CX p l R s m args meth c D Hs cX1_isGrade "Massclaim" 1 (some .boolean) [] 2 25)  : ∀ (x0 : Int32) (h : Hp) (H : Heap) (locs : List Loc) (cells slots : Nat) (ls : Array Slot), HP D Hs h H → LO Hs locs → lv_has ls 1 [(0, .int x0)] → f_X1_isGrade x0 h = some rr → W p l e R s m args below meth c H locs cells slots (ZM D Hs iI rr below args s) (F0 m 0 ls []) := by
  obtain ⟨⟨hx, hb, hml, hown, hts⟩, -⟩ := id C
  have hl9 := C.2.1.2.2.1
  intro x0 h H locs cells slots ls hH hL hl hrun
  unfold f_X1_isGrade at hrun
  refine lv_iload_n (pc := 0) hx hb dX1_isGrade_0 rfl (lv_at hl 0 rfl) ?_
  refine lv_i2l (pc := 1) hx hb dX1_isGrade_1 rfl ?_
  refine lv_lconst (v := (0 : Int64)) (pc := 2) hx hb dX1_isGrade_2 (by decide) ?_
  refine lv_ldc2 (pc := 3) hx hb hown (hts _ q592) dX1_isGrade_3 ?_
  refine V_bd (pc := 6) C hL rfl hrun (fun rr1 e1 => Z_runS (rest := []) C hH (m_X1_isIn hl9 e1) wS_X1_127 rfl ⟨by decide, by decide⟩ rfl (Nat.le_of_ble_eq_true rfl) hl.1 dX1_isGrade_6) (fun v1 h2 H locs cells slots hH hL hrun => ?_)
  obtain ⟨c3, hrun⟩ := gd_some hrun
  exact V_zret (pc := 9) C hH hL c3 hrun dX1_isGrade_9

theorem m_X1_isGrade {l : Launch} {D : va_G} {Hs : Heap} {h : Hp} {rr : (Int32 ⊕ Ex) × Hp} (hl9 : l.stackTraces = false) {x0 : Int32} (hrun : f_X1_isGrade x0 h = some rr) : CM l yX1_isGrade (ws_ yX1_isGrade cX1_isGrade 1 (some .boolean)) 2 25 iI [.int x0] D Hs h rr := by
  refine CM.of (lv := [(0, .int x0)]) (plainFor_of_name (by decide)) hl9 (by simp [lv_args, rv_cat, cat_i, cat_l, cat_f, cat_d]) (by simp [lg_sl, rv_cat, cat_i, cat_l, cat_f, cat_d]) ?_
  intro p e R s m args below meth c H ls C hH hl hin
  exact b_X1_isGrade C x0 _ H [] _ _ ls hH (fun _ q => nomatch q) (lv_sub hl [0] rfl) hrun

/-! Massclaim.isLawyer(I)Z -/
def f_X1_isLawyer  (x0 : Int32) (h : Hp) : Rt Int32 :=
  bd (f_X1_isIn (x0.toInt64) (0 : Int64) (5 : Int64) h) fun v1 h2 => gd (b01 v1) <| some (.inl v1, h2)
theorem b_X1_isLawyer {rr : (Int32 ⊕ Ex) × Hp}  (C : CX p l R s m args meth c D Hs cX1_isLawyer "Massclaim" 1 (some .boolean) [] 2 25)  : ∀ (x0 : Int32) (h : Hp) (H : Heap) (locs : List Loc) (cells slots : Nat) (ls : Array Slot), HP D Hs h H → LO Hs locs → lv_has ls 1 [(0, .int x0)] → f_X1_isLawyer x0 h = some rr → W p l e R s m args below meth c H locs cells slots (ZM D Hs iI rr below args s) (F0 m 0 ls []) := by
  obtain ⟨⟨hx, hb, hml, hown, hts⟩, -⟩ := id C
  have hl9 := C.2.1.2.2.1
  intro x0 h H locs cells slots ls hH hL hl hrun
  unfold f_X1_isLawyer at hrun
  refine lv_iload_n (pc := 0) hx hb dX1_isLawyer_0 rfl (lv_at hl 0 rfl) ?_
  refine lv_i2l (pc := 1) hx hb dX1_isLawyer_1 rfl ?_
  refine lv_lconst (v := (0 : Int64)) (pc := 2) hx hb dX1_isLawyer_2 (by decide) ?_
  refine lv_ldc2 (pc := 3) hx hb hown (hts _ q866) dX1_isLawyer_3 ?_
  refine V_bd (pc := 6) C hL rfl hrun (fun rr1 e1 => Z_runS (rest := []) C hH (m_X1_isIn hl9 e1) wS_X1_127 rfl ⟨by decide, by decide⟩ rfl (Nat.le_of_ble_eq_true rfl) hl.1 dX1_isLawyer_6) (fun v1 h2 H locs cells slots hH hL hrun => ?_)
  obtain ⟨c3, hrun⟩ := gd_some hrun
  exact V_zret (pc := 9) C hH hL c3 hrun dX1_isLawyer_9

theorem m_X1_isLawyer {l : Launch} {D : va_G} {Hs : Heap} {h : Hp} {rr : (Int32 ⊕ Ex) × Hp} (hl9 : l.stackTraces = false) {x0 : Int32} (hrun : f_X1_isLawyer x0 h = some rr) : CM l yX1_isLawyer (ws_ yX1_isLawyer cX1_isLawyer 1 (some .boolean)) 2 25 iI [.int x0] D Hs h rr := by
  refine CM.of (lv := [(0, .int x0)]) (plainFor_of_name (by decide)) hl9 (by simp [lv_args, rv_cat, cat_i, cat_l, cat_f, cat_d]) (by simp [lg_sl, rv_cat, cat_i, cat_l, cat_f, cat_d]) ?_
  intro p e R s m args below meth c H ls C hH hl hin
  exact b_X1_isLawyer C x0 _ H [] _ _ ls hH (fun _ q => nomatch q) (lv_sub hl [0] rfl) hrun

/-! Massclaim$Claim.<init>(LMassclaim;ILMassclaim$Person;III)V -/
def f_X12_init  (x0 : Nat) (x1 : Nat) (x2 : Int32) (x3 : Nat) (x4 : Int32) (x5 : Int32) (x6 : Int32) (h : Hp) : Rt Unit :=
  gd (kC h x0 = 12) <| vl (sR h 1112 x0 x1) fun h2 => gd (kC h2 x0 = 12) <| vl (sI h2 1104 x0 (0 : Int32)) fun h4 => gd (kC h4 x0 = 12) <| vl (sI h4 1105 x0 (1 : Int32)) fun h6 => nw h6 18 3 fun q7 h8 => gd (kC h8 q7 = 18) <| bd (f_J2_init q7 h8) fun _ h10 => gd (kC h10 x0 = 12) <| vl (sR h10 1111 x0 q7) fun h13 => gd (kC h13 x0 = 12) <| vl (sI h13 1100 x0 x2) fun h15 => gd (kC h15 x0 = 12) <| vl (sR h15 1101 x0 x3) fun h17 => gd (kC h17 x0 = 12) <| vl (sI h17 1102 x0 x4) fun h19 => bd (f_J10_min_2 (33 : Int32) x6 h19) fun v20 h21 => gd (kC h21 x0 = 12) <| vl (sI h21 1103 x0 v20) fun h23 => gd (kC h23 x0 = 12) <| na h23 101 (2 : Int32) fun q25 h26 => gd (kC h26 q25 = 101 ∧ ixo (0 : Int32) (kN h26 q25)) <| vl (tI h26 q25 ((0 : Int32)).toNatClampNeg x5) fun h28 => gd (kC h28 x1 = 1) <| gd (kC h28 q25 = 101 ∧ ixo (1 : Int32) (kN h28 q25)) <| vl (tI h28 q25 ((1 : Int32)).toNatClampNeg (kI h28 18 x1)) fun h31 => gd (kC h31 (kR h23 1111 x0) = 18) <| bd (f_J2_add (kR h23 1111 x0) q25 h31) fun v32 h33 => some (.inl (), h33)
theorem b_X12_init {rr : (Unit ⊕ Ex) × Hp}  (C : CX p l R s m args meth c D Hs cX12_init "Massclaim$Claim" 8 none [] 8 331) (hin : meth.name = "<init>")  : ∀ (x0 : Nat) (x1 : Nat) (x2 : Int32) (x3 : Nat) (x4 : Int32) (x5 : Int32) (x6 : Int32) (h : Hp) (H : Heap) (locs : List Loc) (cells slots : Nat) (ls : Array Slot), HP D Hs h H → LO Hs locs → lv_has ls 8 [(0, rv x0), (1, rv x1), (2, .int x2), (3, rv x3), (4, .int x4), (5, .int x5), (6, .int x6)] → f_X12_init x0 x1 x2 x3 x4 x5 x6 h = some rr → W p l e R s m args below meth c H locs cells slots (ZM D Hs iV rr below args s) (F0 m 0 ls []) := by
  obtain ⟨⟨hx, hb, hml, hown, hts⟩, -⟩ := id C
  have hl9 := C.2.1.2.2.1
  intro x0 x1 x2 x3 x4 x5 x6 h H locs cells slots ls hH hL hl hrun
  unfold f_X12_init at hrun
  refine V_aload_n (pc := 0) hx hb dX12_init_0 rfl (lv_at hl 0 rfl) ?_
  refine V_aload_n (pc := 1) hx hb dX12_init_1 rfl (lv_at hl 1 rfl) ?_
  obtain ⟨c1, hrun⟩ := gd_some hrun
  refine V_putR (pc := 2) C hH hL fl_X12_3 dX12_init_2 c1 (fok_o _ _) rfl (fun _ => hin) hrun (fun h2 H locs hH hL hrun => ?_)
  refine V_aload_n (pc := 5) hx hb dX12_init_5 rfl (lv_at hl 0 rfl) ?_
  obtain ⟨c3, hrun⟩ := gd_some hrun
  refine V_objInit (pc := 6) C q1538 q113 q114 (hH.pos c3) dX12_init_6 (by decide) (by simp [csum, rv_cat, cat_i, cat_l, cat_f, cat_d]) hl.1 ?_
  refine V_aload_n (pc := 9) hx hb dX12_init_9 rfl (lv_at hl 0 rfl) ?_
  refine lv_iconst (v := (0 : Int32)) (pc := 10) hx hb dX12_init_10 (by decide) ?_
  refine V_putI (pc := 11) C hH hL fl_X12_15 dX12_init_11 c3 (fok_i _) rfl (fun q => Bool.noConfusion q) hrun (fun h4 H locs hH hL hrun => ?_)
  refine V_aload_n (pc := 14) hx hb dX12_init_14 rfl (lv_at hl 0 rfl) ?_
  refine lv_iconst (v := (1 : Int32)) (pc := 15) hx hb dX12_init_15 (by decide) ?_
  obtain ⟨c5, hrun⟩ := gd_some hrun
  refine V_putI (pc := 16) C hH hL fl_X12_19 dX12_init_16 c5 (fok_i _) rfl (fun q => Bool.noConfusion q) hrun (fun h6 H locs hH hL hrun => ?_)
  refine V_aload_n (pc := 19) hx hb dX12_init_19 rfl (lv_at hl 0 rfl) ?_
  refine V_new (pc := 20) C hH nl_X12_22 dX12_init_20 hrun (fun q7 h8 H cells slots hH hrun => ?_)
  refine lv_dup (pc := 23) hx hb dX12_init_23 (rv_cat _) ?_
  obtain ⟨c11, hrun⟩ := gd_some hrun
  refine V_bd (pc := 24) C hL rfl hrun (fun rr1 e1 => Z_runI (rest := [rv q7, rv x0]) C hH (m_J2_init hl9 e1) wI_X12_24 (hH.pos c11) rfl ⟨by decide, by decide⟩ rfl (by simp [csum, rv_cat, cat_i, cat_l, cat_f, cat_d]) hl.1 dX12_init_24) (fun _ h10 H locs cells slots hH hL hrun => ?_)
  obtain ⟨c12, hrun⟩ := gd_some hrun
  refine V_putR (pc := 27) C hH hL fl_X12_25 dX12_init_27 c12 (fok_o _ _) rfl (fun _ => hin) hrun (fun h13 H locs hH hL hrun => ?_)
  refine V_aload_n (pc := 30) hx hb dX12_init_30 rfl (lv_at hl 0 rfl) ?_
  refine lv_iload_n (pc := 31) hx hb dX12_init_31 rfl (lv_at hl 2 rfl) ?_
  obtain ⟨c14, hrun⟩ := gd_some hrun
  refine V_putI (pc := 32) C hH hL fl_X12_29 dX12_init_32 c14 (fok_i _) rfl (fun _ => hin) hrun (fun h15 H locs hH hL hrun => ?_)
  refine V_aload_n (pc := 35) hx hb dX12_init_35 rfl (lv_at hl 0 rfl) ?_
  refine V_aload_n (pc := 36) hx hb dX12_init_36 rfl (lv_at hl 3 rfl) ?_
  obtain ⟨c16, hrun⟩ := gd_some hrun
  refine V_putR (pc := 37) C hH hL fl_X12_32 dX12_init_37 c16 (fok_o _ _) rfl (fun _ => hin) hrun (fun h17 H locs hH hL hrun => ?_)
  refine V_aload_n (pc := 40) hx hb dX12_init_40 rfl (lv_at hl 0 rfl) ?_
  refine lv_iload (pc := 41) hx hb dX12_init_41 (lv_at hl 4 rfl) ?_
  obtain ⟨c18, hrun⟩ := gd_some hrun
  refine V_putI (pc := 43) C hH hL fl_X12_36 dX12_init_43 c18 (fok_i _) rfl (fun q => Bool.noConfusion q) hrun (fun h19 H locs hH hL hrun => ?_)
  refine V_aload_n (pc := 46) hx hb dX12_init_46 rfl (lv_at hl 0 rfl) ?_
  refine lv_bipush (v := (33 : Int32)) (pc := 47) hx hb dX12_init_47 (by decide) ?_
  refine lv_iload (pc := 49) hx hb dX12_init_49 (lv_at hl 6 rfl) ?_
  refine V_bd (pc := 51) C hL rfl hrun (fun rr1 e1 => Z_runS (rest := [rv x0]) C hH (m_J10_min_2 hl9 e1) wS_X12_39 rfl ⟨by decide, by decide⟩ rfl (by simp [csum, rv_cat, cat_i, cat_l, cat_f, cat_d]) hl.1 dX12_init_51) (fun v20 h21 H locs cells slots hH hL hrun => ?_)
  obtain ⟨c22, hrun⟩ := gd_some hrun
  refine V_putI (pc := 54) C hH hL fl_X12_45 dX12_init_54 c22 (fok_i _) rfl (fun _ => hin) hrun (fun h23 H locs hH hL hrun => ?_)
  refine V_aload_n (pc := 57) hx hb dX12_init_57 rfl (lv_at hl 0 rfl) ?_
  obtain ⟨c24, hrun⟩ := gd_some hrun
  refine V_getR (pc := 58) C hH fr_X12_25 dX12_init_58 c24 rfl ?_
  refine lv_iconst (v := (2 : Int32)) (pc := 61) hx hb dX12_init_61 (by decide) ?_
  refine V_newa (at_ := .int) (pc := 62) C hH (Or.inl ⟨rfl, rfl⟩) q194 dX12_init_62 hrun (fun q25 h26 H cells slots hH hrun => ?_)
  refine lv_dup (pc := 64) hx hb dX12_init_64 (rv_cat _) ?_
  refine lv_iconst (v := (0 : Int32)) (pc := 65) hx hb dX12_init_65 (by decide) ?_
  refine lv_iload (pc := 66) hx hb dX12_init_66 (lv_at hl 5 rfl) ?_
  obtain ⟨c27, hrun⟩ := gd_some hrun
  refine V_iast (pc := 68) C hH hL dX12_init_68 c27 hrun (fun h28 H locs hH hL hrun => ?_)
  refine lv_dup (pc := 69) hx hb dX12_init_69 (rv_cat _) ?_
  refine lv_iconst (v := (1 : Int32)) (pc := 70) hx hb dX12_init_70 (by decide) ?_
  refine V_aload_n (pc := 71) hx hb dX12_init_71 rfl (lv_at hl 1 rfl) ?_
  obtain ⟨c29, hrun⟩ := gd_some hrun
  refine V_getNI (pc := 72) C hH fn_X12_48 dX12_init_72 c29 rfl ?_
  obtain ⟨c30, hrun⟩ := gd_some hrun
  refine V_iast (pc := 75) C hH hL dX12_init_75 c30 hrun (fun h31 H locs hH hL hrun => ?_)
  obtain ⟨c34, hrun⟩ := gd_some hrun
  refine V_bd5 (pc := 76) C hL rfl hrun (fun rr1 e1 => Z_runF (rest := []) C hH (m_J2_add hl9 e1) rfl wF_X12_51_J2 c34 (by decide) rfl ⟨by decide, by decide⟩ rfl (Nat.le_of_ble_eq_true rfl) hl.1 dX12_init_76) (fun v32 h33 H locs cells slots hH hL hrun => ?_)
  refine lv_istore (i := 7) (lv' := [(7, .int v32), (0, rv x0), (1, rv x1), (2, .int x2), (3, rv x3), (4, .int x4), (5, .int x5), (6, .int x6)]) (pc := 81) hx hb dX12_init_81 hl (by decide) rfl (fun ls hl => ?_)
  exact V_vret (pc := 83) C hH hL hrun dX12_init_83

theorem m_X12_init {l : Launch} {D : va_G} {Hs : Heap} {h : Hp} {rr : (Unit ⊕ Ex) × Hp} (hl9 : l.stackTraces = false) {x0 : Nat} {x1 : Nat} {x2 : Int32} {x3 : Nat} {x4 : Int32} {x5 : Int32} {x6 : Int32} (hrun : f_X12_init x0 x1 x2 x3 x4 x5 x6 h = some rr) : CM l yX12_init (ws_ yX12_init cX12_init 8 none) 8 331 iV [rv x0, rv x1, .int x2, rv x3, .int x4, .int x5, .int x6] D Hs h rr := by
  refine CM.of (lv := [(0, rv x0), (1, rv x1), (2, .int x2), (3, rv x3), (4, .int x4), (5, .int x5), (6, .int x6)]) (plainFor_of_name (by decide)) hl9 (by simp [lv_args, rv_cat, cat_i, cat_l, cat_f, cat_d]) (by simp [lg_sl, rv_cat, cat_i, cat_l, cat_f, cat_d]) ?_
  intro p e R s m args below meth c H ls C hH hl hin
  exact b_X12_init C hin x0 x1 x2 x3 x4 x5 x6 _ H [] _ _ ls hH (fun _ q => nomatch q) (lv_sub hl [0, 1, 2, 3, 4, 5, 6] rfl) hrun

/-! Massclaim$Claim.lawyer()I -/
def f_X12_lawyer  (x0 : Nat) (h : Hp) : Rt Int32 :=
  gd (kC h x0 = 12) <| gd (kC h (kR h 1111 x0) = 18) <| bd (f_J2_size (kR h 1111 x0) h) fun v2 h3 => gd (kC h3 (kR h 1111 x0) = 18) <| bd (f_J2_get (kR h 1111 x0) (v2 - (1 : Int32)) h3) fun v5 h6 => gd (kC h6 v5 = 101) <| gd (kC h6 v5 = 101 ∧ ixo (0 : Int32) (kN h6 v5)) <| some (.inl (jI h6 v5 ((0 : Int32)).toNatClampNeg), h6)
theorem b_X12_lawyer {rr : (Int32 ⊕ Ex) × Hp}  (C : CX p l R s m args meth c D Hs cX12_lawyer "Massclaim$Claim" 1 (some .int) [] 4 64)  : ∀ (x0 : Nat) (h : Hp) (H : Heap) (locs : List Loc) (cells slots : Nat) (ls : Array Slot), HP D Hs h H → LO Hs locs → lv_has ls 1 [(0, rv x0)] → f_X12_lawyer x0 h = some rr → W p l e R s m args below meth c H locs cells slots (ZM D Hs iI rr below args s) (F0 m 0 ls []) := by
  obtain ⟨⟨hx, hb, hml, hown, hts⟩, -⟩ := id C
  have hl9 := C.2.1.2.2.1
  intro x0 h H locs cells slots ls hH hL hl hrun
  unfold f_X12_lawyer at hrun
  refine V_aload_n (pc := 0) hx hb dX12_lawyer_0 rfl (lv_at hl 0 rfl) ?_
  obtain ⟨c1, hrun⟩ := gd_some hrun
  refine V_getR (pc := 1) C hH fr_X12_25 dX12_lawyer_1 c1 rfl ?_
  refine V_aload_n (pc := 4) hx hb dX12_lawyer_4 rfl (lv_at hl 0 rfl) ?_
  refine V_getR (pc := 5) C hH fr_X12_25 dX12_lawyer_5 c1 rfl ?_
  obtain ⟨c4, hrun⟩ := gd_some hrun
  refine V_bd5 (pc := 8) C hL rfl hrun (fun rr1 e1 => Z_runF (rest := [rv (kR h 1111 x0)]) C hH (m_J2_size hl9 e1) rfl wF_X12_57_J2 c4 (by decide) rfl ⟨by decide, by decide⟩ rfl (by simp [csum, rv_cat, cat_i, cat_l, cat_f, cat_d]) hl.1 dX12_lawyer_8) (fun v2 h3 H locs cells slots hH hL hrun => ?_)
  refine lv_iconst (v := (1 : Int32)) (pc := 13) hx hb dX12_lawyer_13 (by decide) ?_
  refine lv_isub (pc := 14) hx hb dX12_lawyer_14 ?_
  obtain ⟨c7, hrun⟩ := gd_some hrun
  refine V_bd5 (pc := 15) C hL rfl hrun (fun rr1 e1 => Z_runF (rest := []) C hH (m_J2_get hl9 e1) rfl wF_X12_61_J2 c7 (by decide) rfl ⟨by decide, by decide⟩ rfl (Nat.le_of_ble_eq_true rfl) hl.1 dX12_lawyer_15) (fun v5 h6 H locs cells slots hH hL hrun => ?_)
  obtain ⟨c8, hrun⟩ := gd_some hrun
  refine V_castI (pc := 20) C hH q1609 dX12_lawyer_20 c8 ?_
  refine lv_iconst (v := (0 : Int32)) (pc := 23) hx hb dX12_lawyer_23 (by decide) ?_
  obtain ⟨c9, hrun⟩ := gd_some hrun
  refine V_iald (pc := 24) C hH dX12_lawyer_24 c9 ?_
  exact V_iret (pc := 25) C hH hL hrun dX12_lawyer_25

theorem m_X12_lawyer {l : Launch} {D : va_G} {Hs : Heap} {h : Hp} {rr : (Int32 ⊕ Ex) × Hp} (hl9 : l.stackTraces = false) {x0 : Nat} (hrun : f_X12_lawyer x0 h = some rr) : CM l yX12_lawyer (ws_ yX12_lawyer cX12_lawyer 1 (some .int)) 4 64 iI [rv x0] D Hs h rr := by
  refine CM.of (lv := [(0, rv x0)]) (plainFor_of_name (by decide)) hl9 (by simp [lv_args, rv_cat, cat_i, cat_l, cat_f, cat_d]) (by simp [lg_sl, rv_cat, cat_i, cat_l, cat_f, cat_d]) ?_
  intro p e R s m args below meth c H ls C hH hl hin
  exact b_X12_lawyer C x0 _ H [] _ _ ls hH (fun _ q => nomatch q) (lv_sub hl [0] rfl) hrun

/-! Massclaim$Claim.isLike(LMassclaim$Claim;)Z -/
def f_X12_isLike_83  (y0 : Int32) (h : Hp) : Rt Int32 :=
  gd (b01 y0) <| some (.inl y0, h)
def f_X12_isLike_82  (h : Hp) : Rt Int32 :=
  f_X12_isLike_83 (0 : Int32) h
def f_X12_isLike_50  (x0 : Nat) (x1 : Nat) (y0 : Int32) (h : Hp) : Rt Int32 :=
  if y0 = 0 then
  (f_X12_isLike_82  h)
  else
  (gd (kC h x0 = 12) <| gd (kC h (kR h 1101 x0) = 5) <| gd (kC h x1 = 12) <| gd (kC h (kR h 1101 x1) = 5) <| if ((kI h 404 (kR h 1101 x0)) / (12 : Int32)) = ((kI h 404 (kR h 1101 x1)) / (12 : Int32)) then
  (f_X12_isLike_83 (1 : Int32) h)
  else
  (f_X12_isLike_82  h))
def f_X12_isLike_49  (x0 : Nat) (x1 : Nat) (h : Hp) : Rt Int32 :=
  f_X12_isLike_50 x0 x1 (0 : Int32) h
def f_X12_isLike  (x0 : Nat) (x1 : Nat) (h : Hp) : Rt Int32 :=
  gd (kC h x0 = 12) <| bd (f_X12_lawyer x0 h) fun v6 h7 => gd (kC h7 x1 = 12) <| bd (f_X12_lawyer x1 h7) fun v9 h10 => if v6 = v9 then
  (gd (kC h10 x0 = 12) <| gd (kC h10 (kR h10 1101 x0) = 5) <| gd (kC h10 x1 = 12) <| gd (kC h10 (kR h10 1101 x1) = 5) <| if (kI h10 405 (kR h10 1101 x0)) = (kI h10 405 (kR h10 1101 x1)) then
  (if (kI h10 402 (kR h10 1101 x0)) = (kI h10 402 (kR h10 1101 x1)) then
  (f_X12_isLike_50 x0 x1 (1 : Int32) h10)
  else
  (f_X12_isLike_49 x0 x1 h10))
  else
  (f_X12_isLike_49 x0 x1 h10))
  else
  (f_X12_isLike_49 x0 x1 h10)
theorem b_X12_isLike_83 {rr : (Int32 ⊕ Ex) × Hp}  (C : CX p l R s m args meth c D Hs cX12_isLike "Massclaim$Claim" 3 (some .boolean) [] 5 84)  : ∀ (y0 : Int32) (h : Hp) (H : Heap) (locs : List Loc) (cells slots : Nat) (ls : Array Slot), HP D Hs h H → LO Hs locs → lv_has ls 3 [] → f_X12_isLike_83 y0 h = some rr → W p l e R s m args below meth c H locs cells slots (ZM D Hs iI rr below args s) (F0 m 83 ls [.int y0]) := by
  obtain ⟨⟨hx, hb, hml, hown, hts⟩, -⟩ := id C
  have hl9 := C.2.1.2.2.1
  intro y0 h H locs cells slots ls hH hL hl hrun
  unfold f_X12_isLike_83 at hrun
  obtain ⟨c1, hrun⟩ := gd_some hrun
  exact V_zret (pc := 83) C hH hL c1 hrun dX12_isLike_83

theorem b_X12_isLike_82 {rr : (Int32 ⊕ Ex) × Hp}  (C : CX p l R s m args meth c D Hs cX12_isLike "Massclaim$Claim" 3 (some .boolean) [] 5 84)  : ∀ (h : Hp) (H : Heap) (locs : List Loc) (cells slots : Nat) (ls : Array Slot), HP D Hs h H → LO Hs locs → lv_has ls 3 [] → f_X12_isLike_82 h = some rr → W p l e R s m args below meth c H locs cells slots (ZM D Hs iI rr below args s) (F0 m 82 ls []) := by
  obtain ⟨⟨hx, hb, hml, hown, hts⟩, -⟩ := id C
  have hl9 := C.2.1.2.2.1
  intro h H locs cells slots ls hH hL hl hrun
  unfold f_X12_isLike_82 at hrun
  refine lv_iconst (v := (0 : Int32)) (pc := 82) hx hb dX12_isLike_82 (by decide) ?_
  exact b_X12_isLike_83 C (0 : Int32) h H locs cells slots ls hH hL (lv_sub hl [] rfl) hrun

theorem b_X12_isLike_50 {rr : (Int32 ⊕ Ex) × Hp}  (C : CX p l R s m args meth c D Hs cX12_isLike "Massclaim$Claim" 3 (some .boolean) [] 5 84)  : ∀ (x0 : Nat) (x1 : Nat) (y0 : Int32) (h : Hp) (H : Heap) (locs : List Loc) (cells slots : Nat) (ls : Array Slot), HP D Hs h H → LO Hs locs → lv_has ls 3 [(0, rv x0), (1, rv x1)] → f_X12_isLike_50 x0 x1 y0 h = some rr → W p l e R s m args below meth c H locs cells slots (ZM D Hs iI rr below args s) (F0 m 50 ls [.int y0]) := by
  obtain ⟨⟨hx, hb, hml, hown, hts⟩, -⟩ := id C
  have hl9 := C.2.1.2.2.1
  intro x0 x1 y0 h H locs cells slots ls hH hL hl hrun
  unfold f_X12_isLike_50 at hrun
  refine lv_istore_n (i := 2) (lv' := [(2, .int y0), (0, rv x0), (1, rv x1)]) (pc := 50) hx hb dX12_isLike_50 rfl hl (by decide) (by simp [rv_cat, cat_i, cat_l, cat_f, cat_d]) (fun ls hl => ?_)
  refine lv_iload_n (pc := 51) hx hb dX12_isLike_51 rfl (lv_at hl 0 rfl) ?_
  refine lv_if_eq (tgt := 82) (pc := 52) hx hb dX12_isLike_52 (by decide) (fun c_ => ?_) (fun c_ => ?_)
  · have hrun := ite_t hrun c_
    exact b_X12_isLike_82 C h H locs cells slots ls hH hL (lv_sub hl [] rfl) hrun
  · have hrun := ite_f hrun c_
    refine V_aload_n (pc := 55) hx hb dX12_isLike_55 rfl (lv_at hl 1 rfl) ?_
    obtain ⟨c2, hrun⟩ := gd_some hrun
    refine V_getR (pc := 56) C hH fr_X12_32 dX12_isLike_56 c2 rfl ?_
    obtain ⟨c3, hrun⟩ := gd_some hrun
    refine V_getNI (pc := 59) C hH fn_X12_67 dX12_isLike_59 c3 rfl ?_
    refine lv_bipush (v := (12 : Int32)) (pc := 62) hx hb dX12_isLike_62 (by decide) ?_
    refine lv_idiv (pc := 64) hx hb dX12_isLike_64 (by decide) ?_
    refine V_aload_n (pc := 65) hx hb dX12_isLike_65 rfl (lv_at hl 2 rfl) ?_
    obtain ⟨c4, hrun⟩ := gd_some hrun
    refine V_getR (pc := 66) C hH fr_X12_32 dX12_isLike_66 c4 rfl ?_
    obtain ⟨c5, hrun⟩ := gd_some hrun
    refine V_getNI (pc := 69) C hH fn_X12_67 dX12_isLike_69 c5 rfl ?_
    refine lv_bipush (v := (12 : Int32)) (pc := 72) hx hb dX12_isLike_72 (by decide) ?_
    refine lv_idiv (pc := 74) hx hb dX12_isLike_74 (by decide) ?_
    refine lv_icmp_ne (tgt := 82) (pc := 75) hx hb dX12_isLike_75 (by decide) (fun c_ => ?_) (fun c_ => ?_)
    · have hrun := ite_f hrun c_
      exact b_X12_isLike_82 C h H locs cells slots ls hH hL (lv_sub hl [] rfl) hrun
    · have hrun := ite_t hrun c_
      refine lv_iconst (v := (1 : Int32)) (pc := 78) hx hb dX12_isLike_78 (by decide) ?_
      refine lv_goto (tgt := 83) (pc := 79) hx hb dX12_isLike_79 (by decide) ?_
      exact b_X12_isLike_83 C (1 : Int32) h H locs cells slots ls hH hL (lv_sub hl [] rfl) hrun

theorem b_X12_isLike_49 {rr : (Int32 ⊕ Ex) × Hp}  (C : CX p l R s m args meth c D Hs cX12_isLike "Massclaim$Claim" 3 (some .boolean) [] 5 84)  : ∀ (x0 : Nat) (x1 : Nat) (h : Hp) (H : Heap) (locs : List Loc) (cells slots : Nat) (ls : Array Slot), HP D Hs h H → LO Hs locs → lv_has ls 3 [(0, rv x0), (1, rv x1)] → f_X12_isLike_49 x0 x1 h = some rr → W p l e R s m args below meth c H locs cells slots (ZM D Hs iI rr below args s) (F0 m 49 ls []) := by
  obtain ⟨⟨hx, hb, hml, hown, hts⟩, -⟩ := id C
  have hl9 := C.2.1.2.2.1
  intro x0 x1 h H locs cells slots ls hH hL hl hrun
  unfold f_X12_isLike_49 at hrun
  refine lv_iconst (v := (0 : Int32)) (pc := 49) hx hb dX12_isLike_49 (by decide) ?_
  exact b_X12_isLike_50 C x0 x1 (0 : Int32) h H locs cells slots ls hH hL (lv_sub hl [0, 1] rfl) hrun

theorem b_X12_isLike {rr : (Int32 ⊕ Ex) × Hp}  (C : CX p l R s m args meth c D Hs cX12_isLike "Massclaim$Claim" 3 (some .boolean) [] 5 84)  : ∀ (x0 : Nat) (x1 : Nat) (h : Hp) (H : Heap) (locs : List Loc) (cells slots : Nat) (ls : Array Slot), HP D Hs h H → LO Hs locs → lv_has ls 3 [(0, rv x0), (1, rv x1)] → f_X12_isLike x0 x1 h = some rr → W p l e R s m args below meth c H locs cells slots (ZM D Hs iI rr below args s) (F0 m 0 ls []) := by
  obtain ⟨⟨hx, hb, hml, hown, hts⟩, -⟩ := id C
  have hl9 := C.2.1.2.2.1
  intro x0 x1 h H locs cells slots ls hH hL hl hrun
  unfold f_X12_isLike at hrun
  refine V_aload_n (pc := 0) hx hb dX12_isLike_0 rfl (lv_at hl 0 rfl) ?_
  obtain ⟨c8, hrun⟩ := gd_some hrun
  refine V_bd (pc := 1) C hL rfl hrun (fun rr1 e1 => Z_runV (rest := []) C hH (m_X12_lawyer hl9 e1) wV_X12_111 c8 rfl (by decide) rfl rfl ⟨by decide, by decide⟩ rfl (Nat.le_of_ble_eq_true rfl) hl.1 dX12_isLike_1) (fun v6 h7 H locs cells slots hH hL hrun => ?_)
  refine V_aload_n (pc := 4) hx hb dX12_isLike_4 rfl (lv_at hl 1 rfl) ?_
  obtain ⟨c11, hrun⟩ := gd_some hrun
  refine V_bd (pc := 5) C hL rfl hrun (fun rr1 e1 => Z_runV (rest := [.int v6]) C hH (m_X12_lawyer hl9 e1) wV_X12_111 c11 rfl (by decide) rfl rfl ⟨by decide, by decide⟩ rfl (Nat.le_of_ble_eq_true rfl) hl.1 dX12_isLike_5) (fun v9 h10 H locs cells slots hH hL hrun => ?_)
  refine lv_icmp_ne (tgt := 49) (pc := 8) hx hb dX12_isLike_8 (by decide) (fun c_ => ?_) (fun c_ => ?_)
  · have hrun := ite_f hrun c_
    exact b_X12_isLike_49 C x0 x1 h10 H locs cells slots ls hH hL (lv_sub hl [0, 1] rfl) hrun
  · have hrun := ite_t hrun c_
    refine V_aload_n (pc := 11) hx hb dX12_isLike_11 rfl (lv_at hl 0 rfl) ?_
    obtain ⟨c12, hrun⟩ := gd_some hrun
    refine V_getR (pc := 12) C hH fr_X12_32 dX12_isLike_12 c12 rfl ?_
    obtain ⟨c13, hrun⟩ := gd_some hrun
    refine V_getNI (pc := 15) C hH fn_X12_76 dX12_isLike_15 c13 rfl ?_
    refine V_aload_n (pc := 18) hx hb dX12_isLike_18 rfl (lv_at hl 1 rfl) ?_
    obtain ⟨c14, hrun⟩ := gd_some hrun
    refine V_getR (pc := 19) C hH fr_X12_32 dX12_isLike_19 c14 rfl ?_
    obtain ⟨c15, hrun⟩ := gd_some hrun
    refine V_getNI (pc := 22) C hH fn_X12_76 dX12_isLike_22 c15 rfl ?_
    refine lv_icmp_ne (tgt := 49) (pc := 25) hx hb dX12_isLike_25 (by decide) (fun c_ => ?_) (fun c_ => ?_)
    · have hrun := ite_f hrun c_
      exact b_X12_isLike_49 C x0 x1 h10 H locs cells slots ls hH hL (lv_sub hl [0, 1] rfl) hrun
    · have hrun := ite_t hrun c_
      refine V_aload_n (pc := 28) hx hb dX12_isLike_28 rfl (lv_at hl 0 rfl) ?_
      refine V_getR (pc := 29) C hH fr_X12_32 dX12_isLike_29 c12 rfl ?_
      refine V_getNI (pc := 32) C hH fn_X12_114 dX12_isLike_32 c13 rfl ?_
      refine V_aload_n (pc := 35) hx hb dX12_isLike_35 rfl (lv_at hl 1 rfl) ?_
      refine V_getR (pc := 36) C hH fr_X12_32 dX12_isLike_36 c14 rfl ?_
      refine V_getNI (pc := 39) C hH fn_X12_114 dX12_isLike_39 c15 rfl ?_
      refine lv_icmp_ne (tgt := 49) (pc := 42) hx hb dX12_isLike_42 (by decide) (fun c_ => ?_) (fun c_ => ?_)
      · have hrun := ite_f hrun c_
        exact b_X12_isLike_49 C x0 x1 h10 H locs cells slots ls hH hL (lv_sub hl [0, 1] rfl) hrun
      · have hrun := ite_t hrun c_
        refine lv_iconst (v := (1 : Int32)) (pc := 45) hx hb dX12_isLike_45 (by decide) ?_
        refine lv_goto (tgt := 50) (pc := 46) hx hb dX12_isLike_46 (by decide) ?_
        exact b_X12_isLike_50 C x0 x1 (1 : Int32) h10 H locs cells slots ls hH hL (lv_sub hl [0, 1] rfl) hrun

theorem m_X12_isLike {l : Launch} {D : va_G} {Hs : Heap} {h : Hp} {rr : (Int32 ⊕ Ex) × Hp} (hl9 : l.stackTraces = false) {x0 : Nat} {x1 : Nat} (hrun : f_X12_isLike x0 x1 h = some rr) : CM l yX12_isLike (ws_ yX12_isLike cX12_isLike 3 (some .boolean)) 5 84 iI [rv x0, rv x1] D Hs h rr := by
  refine CM.of (lv := [(0, rv x0), (1, rv x1)]) (plainFor_of_name (by decide)) hl9 (by simp [lv_args, rv_cat, cat_i, cat_l, cat_f, cat_d]) (by simp [lg_sl, rv_cat, cat_i, cat_l, cat_f, cat_d]) ?_
  intro p e R s m args below meth c H ls C hH hl hin
  exact b_X12_isLike C x0 x1 _ H [] _ _ ls hH (fun _ q => nomatch q) (lv_sub hl [0, 1] rfl) hrun

/-! Massclaim.holdRing(LMassclaim$Claim;)V -/
def f_X1_holdRing_124  (h : Hp) : Rt Unit :=
  some (.inl (), h)
def f_X1_holdRing_84  : Nat → Nat → Int32 → Hp → Rt Unit
  | 0, _, _, _ => none
  | n + 1, x2, x3, h => gd (kC h x2 = 18) <| bd (f_J2_size x2 h) fun v1 h2 => if v1 ≤ x3 then
  (f_X1_holdRing_124  h2)
  else
  (gd (kC h2 x2 = 18) <| bd (f_J2_size x2 h2) fun v4 h5 => if v4 < (3 : Int32) then
  (f_X1_holdRing_124  h5)
  else
  (gd (kC h5 x2 = 18) <| bd (f_J2_get x2 x3 h5) fun v7 h8 => gd (v7 = 0 ∨ kC h8 v7 = 12) <| gd (kC h8 v7 = 12) <| vl (sI h8 1104 v7 (2 : Int32)) fun h12 => vl (x3 + (1 : Int32)) fun v13 => f_X1_holdRing_84 n x2 v13 h12))
def f_X1_holdRing_77 (k16 : Nat → Nat → Nat → Hp → Rt Unit) (x1 : Nat) (x2 : Nat) (x3 : Nat) (y0 : Int32) (h : Hp) : Rt Unit :=
  k16 x1 x2 x3 h
def f_X1_holdRing_76 (k16 : Nat → Nat → Nat → Hp → Rt Unit) (x1 : Nat) (x2 : Nat) (x3 : Nat) (h : Hp) : Rt Unit :=
  f_X1_holdRing_77 k16 x1 x2 x3 (0 : Int32) h
def f_X1_holdRing_16  : Nat → Nat → Nat → Nat → Hp → Rt Unit
  | 0, _, _, _, _ => none
  | n + 1, x1, x2, x3, h => gd (kC h x3 = 19) <| bd (f_J16_hasNext x3 h) fun v14 h15 => if v14 = 0 then
  (f_X1_holdRing_84 FU x2 (0 : Int32) h15)
  else
  (gd (kC h15 x3 = 19) <| bd (f_J16_next x3 h15) fun v17 h18 => gd (v17 = 0 ∨ kC h18 v17 = 12) <| gd (kC h18 v17 = 12) <| if (kI h18 1104 v17) = 0 then
  (if (kI h18 1109 v17) = 0 then
  (bd (f_X12_isLike v17 x1 h18) fun v22 h23 => if v22 = 0 then
  (f_X1_holdRing_76 (f_X1_holdRing_16 n) x1 x2 x3 h23)
  else
  (gd (kC h23 x2 = 18) <| bd (f_J2_add x2 v17 h23) fun v24 h25 => if v24 = 0 then
  (f_X1_holdRing_76 (f_X1_holdRing_16 n) x1 x2 x3 h25)
  else
  (f_X1_holdRing_77 (f_X1_holdRing_16 n) x1 x2 x3 (1 : Int32) h25)))
  else
  (f_X1_holdRing_76 (f_X1_holdRing_16 n) x1 x2 x3 h18))
  else
  (f_X1_holdRing_76 (f_X1_holdRing_16 n) x1 x2 x3 h18))
def f_X1_holdRing  (x0 : Nat) (x1 : Nat) (h : Hp) : Rt Unit :=
  nw h 18 3 fun q27 h28 => gd (kC h28 q27 = 18) <| bd (f_J2_init q27 h28) fun _ h30 => gd (kC h30 x0 = 1) <| gd (kC h30 (kR h30 3 x0) = 2) <| bd (f_X2_iterator (kR h30 3 x0) h30) fun v33 h34 => f_X1_holdRing_16 FU x1 q27 v33 h34
theorem b_X1_holdRing_124 {rr : (Unit ⊕ Ex) × Hp}  (C : CX p l R s m args meth c D Hs cX1_holdRing "Massclaim" 6 none [] 8 331)  : ∀ (h : Hp) (H : Heap) (locs : List Loc) (cells slots : Nat) (ls : Array Slot), HP D Hs h H → LO Hs locs → lv_has ls 6 [] → f_X1_holdRing_124 h = some rr → W p l e R s m args below meth c H locs cells slots (ZM D Hs iV rr below args s) (F0 m 124 ls []) := by
  obtain ⟨⟨hx, hb, hml, hown, hts⟩, -⟩ := id C
  have hl9 := C.2.1.2.2.1
  intro h H locs cells slots ls hH hL hl hrun
  unfold f_X1_holdRing_124 at hrun
  exact V_vret (pc := 124) C hH hL hrun dX1_holdRing_124

theorem b_X1_holdRing_84 {rr : (Unit ⊕ Ex) × Hp}  (C : CX p l R s m args meth c D Hs cX1_holdRing "Massclaim" 6 none [] 8 331)  : ∀ (n : Nat) (x2 : Nat) (x3 : Int32) (h : Hp) (H : Heap) (locs : List Loc) (cells slots : Nat) (ls : Array Slot), HP D Hs h H → LO Hs locs → lv_has ls 6 [(2, rv x2), (3, .int x3)] → f_X1_holdRing_84 n x2 x3 h = some rr → W p l e R s m args below meth c H locs cells slots (ZM D Hs iV rr below args s) (F0 m 84 ls []) := by
  obtain ⟨⟨hx, hb, hml, hown, hts⟩, -⟩ := id C
  have hl9 := C.2.1.2.2.1
  intro n
  induction n with
  | zero =>
    intro x2 x3 h H locs cells slots ls hH hL hl hrun
    cases (show (none : Option _) = some rr from hrun)
  | succ n ih =>
    intro x2 x3 h H locs cells slots ls hH hL hl hrun
    rw [f_X1_holdRing_84] at hrun
    refine lv_iload_n (pc := 84) hx hb dX1_holdRing_84 rfl (lv_at hl 1 rfl) ?_
    refine V_aload_n (pc := 85) hx hb dX1_holdRing_85 rfl (lv_at hl 0 rfl) ?_
    obtain ⟨c3, hrun⟩ := gd_some hrun
    refine V_bd5 (pc := 86) C hL rfl hrun (fun rr1 e1 => Z_runF (rest := [.int x3]) C hH (m_J2_size hl9 e1) rfl wF_X1_13_J2 c3 (by decide) rfl ⟨by decide, by decide⟩ rfl (Nat.le_of_ble_eq_true rfl) hl.1 dX1_holdRing_86) (fun v1 h2 H locs cells slots hH hL hrun => ?_)
    refine lv_icmp_ge (tgt := 124) (pc := 91) hx hb dX1_holdRing_91 (by decide) (fun c_ => ?_) (fun c_ => ?_)
    · have hrun := ite_t hrun c_
      exact b_X1_holdRing_124 C h2 H locs cells slots ls hH hL (lv_sub hl [] rfl) hrun
    · have hrun := ite_f hrun c_
      refine V_aload_n (pc := 94) hx hb dX1_holdRing_94 rfl (lv_at hl 0 rfl) ?_
      obtain ⟨c6, hrun⟩ := gd_some hrun
      refine V_bd5 (pc := 95) C hL rfl hrun (fun rr1 e1 => Z_runF (rest := []) C hH (m_J2_size hl9 e1) rfl wF_X1_13_J2 c6 (by decide) rfl ⟨by decide, by decide⟩ rfl (Nat.le_of_ble_eq_true rfl) hl.1 dX1_holdRing_95) (fun v4 h5 H locs cells slots hH hL hrun => ?_)
      refine lv_iconst (v := (3 : Int32)) (pc := 100) hx hb dX1_holdRing_100 (by decide) ?_
      refine lv_icmp_lt (tgt := 124) (pc := 101) hx hb dX1_holdRing_101 (by decide) (fun c_ => ?_) (fun c_ => ?_)
      · have hrun := ite_t hrun c_
        exact b_X1_holdRing_124 C h5 H locs cells slots ls hH hL (lv_sub hl [] rfl) hrun
      · have hrun := ite_f hrun c_
        refine V_aload_n (pc := 104) hx hb dX1_holdRing_104 rfl (lv_at hl 0 rfl) ?_
        refine lv_iload_n (pc := 105) hx hb dX1_holdRing_105 rfl (lv_at hl 1 rfl) ?_
        obtain ⟨c9, hrun⟩ := gd_some hrun
        refine V_bd5 (pc := 106) C hL rfl hrun (fun rr1 e1 => Z_runF (rest := []) C hH (m_J2_get hl9 e1) rfl wF_X1_19_J2 c9 (by decide) rfl ⟨by decide, by decide⟩ rfl (Nat.le_of_ble_eq_true rfl) hl.1 dX1_holdRing_106) (fun v7 h8 H locs cells slots hH hL hrun => ?_)
        obtain ⟨c10, hrun⟩ := gd_some hrun
        refine V_castX (pc := 111) (ci := 11) C hH rfl (by decide) q403 dX1_holdRing_111 c10 ?_
        refine lv_iconst (v := (2 : Int32)) (pc := 114) hx hb dX1_holdRing_114 (by decide) ?_
        obtain ⟨c11, hrun⟩ := gd_some hrun
        refine V_putNI (pc := 115) C hH hL fn_X1_157 dX1_holdRing_115 c11 (fok_i _) rfl hrun (fun h12 H locs hH hL hrun => ?_)
        obtain ⟨v13, ev13⟩ : ∃ y : Int32, y = x3 + (1 : Int32) := ⟨_, rfl⟩
        have hrun := vl_at hrun v13 ev13
        refine lv_iinc (v := v13) (lv' := [(3, .int v13), (2, rv x2)]) (pc := 118) hx hb dX1_holdRing_118 hl (k := 1) rfl (by rw [ev13]; rfl) (by decide) (by first | rfl | simp [rv_cat, cat_i, cat_l, cat_f, cat_d]) (fun ls hl => ?_)
        refine lv_goto (tgt := 84) (pc := 121) hx hb dX1_holdRing_121 (by decide) ?_
        exact ih x2 v13 h12 H locs cells slots ls hH hL (lv_sub hl [1, 0] rfl) hrun

theorem b_X1_holdRing_77 {rr : (Unit ⊕ Ex) × Hp} {k16 : Nat → Nat → Nat → Hp → Rt Unit} (C : CX p l R s m args meth c D Hs cX1_holdRing "Massclaim" 6 none [] 8 331) (K16 : ∀ (x1 : Nat) (x2 : Nat) (x3 : Nat) (h : Hp) (H : Heap) (locs : List Loc) (cells slots : Nat) (ls : Array Slot), HP D Hs h H → LO Hs locs → lv_has ls 6 [(1, rv x1), (2, rv x2), (3, rv x3)] → k16 x1 x2 x3 h = some rr → W p l e R s m args below meth c H locs cells slots (ZM D Hs iV rr below args s) (F0 m 16 ls [])) : ∀ (x1 : Nat) (x2 : Nat) (x3 : Nat) (y0 : Int32) (h : Hp) (H : Heap) (locs : List Loc) (cells slots : Nat) (ls : Array Slot), HP D Hs h H → LO Hs locs → lv_has ls 6 [(1, rv x1), (2, rv x2), (3, rv x3)] → f_X1_holdRing_77 k16 x1 x2 x3 y0 h = some rr → W p l e R s m args below meth c H locs cells slots (ZM D Hs iV rr below args s) (F0 m 77 ls [.int y0]) := by
  obtain ⟨⟨hx, hb, hml, hown, hts⟩, -⟩ := id C
  have hl9 := C.2.1.2.2.1
  intro x1 x2 x3 y0 h H locs cells slots ls hH hL hl hrun
  unfold f_X1_holdRing_77 at hrun
  refine lv_istore (i := 5) (lv' := [(5, .int y0), (1, rv x1), (2, rv x2), (3, rv x3)]) (pc := 77) hx hb dX1_holdRing_77 hl (by decide) rfl (fun ls hl => ?_)
  refine lv_goto (tgt := 16) (pc := 79) hx hb dX1_holdRing_79 (by decide) ?_
  exact K16 x1 x2 x3 h H locs cells slots ls hH hL (lv_sub hl [1, 2, 3] rfl) hrun

theorem b_X1_holdRing_76 {rr : (Unit ⊕ Ex) × Hp} {k16 : Nat → Nat → Nat → Hp → Rt Unit} (C : CX p l R s m args meth c D Hs cX1_holdRing "Massclaim" 6 none [] 8 331) (K16 : ∀ (x1 : Nat) (x2 : Nat) (x3 : Nat) (h : Hp) (H : Heap) (locs : List Loc) (cells slots : Nat) (ls : Array Slot), HP D Hs h H → LO Hs locs → lv_has ls 6 [(1, rv x1), (2, rv x2), (3, rv x3)] → k16 x1 x2 x3 h = some rr → W p l e R s m args below meth c H locs cells slots (ZM D Hs iV rr below args s) (F0 m 16 ls [])) : ∀ (x1 : Nat) (x2 : Nat) (x3 : Nat) (h : Hp) (H : Heap) (locs : List Loc) (cells slots : Nat) (ls : Array Slot), HP D Hs h H → LO Hs locs → lv_has ls 6 [(1, rv x1), (2, rv x2), (3, rv x3)] → f_X1_holdRing_76 k16 x1 x2 x3 h = some rr → W p l e R s m args below meth c H locs cells slots (ZM D Hs iV rr below args s) (F0 m 76 ls []) := by
  obtain ⟨⟨hx, hb, hml, hown, hts⟩, -⟩ := id C
  have hl9 := C.2.1.2.2.1
  intro x1 x2 x3 h H locs cells slots ls hH hL hl hrun
  unfold f_X1_holdRing_76 at hrun
  refine lv_iconst (v := (0 : Int32)) (pc := 76) hx hb dX1_holdRing_76 (by decide) ?_
  exact b_X1_holdRing_77 C K16 x1 x2 x3 (0 : Int32) h H locs cells slots ls hH hL (lv_sub hl [0, 1, 2] rfl) hrun

theorem b_X1_holdRing_16 {rr : (Unit ⊕ Ex) × Hp}  (C : CX p l R s m args meth c D Hs cX1_holdRing "Massclaim" 6 none [] 8 331)  : ∀ (n : Nat) (x1 : Nat) (x2 : Nat) (x3 : Nat) (h : Hp) (H : Heap) (locs : List Loc) (cells slots : Nat) (ls : Array Slot), HP D Hs h H → LO Hs locs → lv_has ls 6 [(1, rv x1), (2, rv x2), (3, rv x3)] → f_X1_holdRing_16 n x1 x2 x3 h = some rr → W p l e R s m args below meth c H locs cells slots (ZM D Hs iV rr below args s) (F0 m 16 ls []) := by
  obtain ⟨⟨hx, hb, hml, hown, hts⟩, -⟩ := id C
  have hl9 := C.2.1.2.2.1
  intro n
  induction n with
  | zero =>
    intro x1 x2 x3 h H locs cells slots ls hH hL hl hrun
    cases (show (none : Option _) = some rr from hrun)
  | succ n ih =>
    intro x1 x2 x3 h H locs cells slots ls hH hL hl hrun
    rw [f_X1_holdRing_16] at hrun
    refine V_aload_n (pc := 16) hx hb dX1_holdRing_16 rfl (lv_at hl 2 rfl) ?_
    obtain ⟨c16, hrun⟩ := gd_some hrun
    refine V_bd5 (pc := 17) C hL rfl hrun (fun rr1 e1 => Z_runF (rest := []) C hH (m_J16_hasNext hl9 e1) rfl wF_X1_212_J16 c16 (by decide) rfl ⟨by decide, by decide⟩ rfl (Nat.le_of_ble_eq_true rfl) hl.1 dX1_holdRing_17) (fun v14 h15 H locs cells slots hH hL hrun => ?_)
    refine lv_if_eq (tgt := 82) (pc := 22) hx hb dX1_holdRing_22 (by decide) (fun c_ => ?_) (fun c_ => ?_)
    · have hrun := ite_t hrun c_
      refine lv_iconst (v := (0 : Int32)) (pc := 82) hx hb dX1_holdRing_82 (by decide) ?_
      refine lv_istore_n (i := 3) (lv' := [(3, .int (0 : Int32)), (1, rv x1), (2, rv x2)]) (pc := 83) hx hb dX1_holdRing_83 rfl hl (by decide) (by simp [rv_cat, cat_i, cat_l, cat_f, cat_d]) (fun ls hl => ?_)
      exact b_X1_holdRing_84 C FU x2 (0 : Int32) h15 H locs cells slots ls hH hL (lv_sub hl [2, 0] rfl) hrun
    · have hrun := ite_f hrun c_
      refine V_aload_n (pc := 25) hx hb dX1_holdRing_25 rfl (lv_at hl 2 rfl) ?_
      obtain ⟨c19, hrun⟩ := gd_some hrun
      refine V_bd5 (pc := 26) C hL rfl hrun (fun rr1 e1 => Z_runF (rest := []) C hH (m_J16_next hl9 e1) rfl wF_X1_217_J16 c19 (by decide) rfl ⟨by decide, by decide⟩ rfl (Nat.le_of_ble_eq_true rfl) hl.1 dX1_holdRing_26) (fun v17 h18 H locs cells slots hH hL hrun => ?_)
      obtain ⟨c20, hrun⟩ := gd_some hrun
      refine V_castX (pc := 31) (ci := 11) C hH rfl (by decide) q403 dX1_holdRing_31 c20 ?_
      refine V_astore (i := 4) (lv' := [(4, rv v17), (1, rv x1), (2, rv x2), (3, rv x3)]) (pc := 34) hx hb dX1_holdRing_34 hl (by decide) (by simp [rv_cat, cat_i, cat_l, cat_f, cat_d]) (fun ls hl => ?_)
      refine V_aload (pc := 36) hx hb dX1_holdRing_36 (lv_at hl 0 rfl) ?_
      obtain ⟨c21, hrun⟩ := gd_some hrun
      refine V_getNI (pc := 38) C hH fn_X1_157 dX1_holdRing_38 c21 rfl ?_
      refine lv_if_ne (tgt := 76) (pc := 41) hx hb dX1_holdRing_41 (by decide) (fun c_ => ?_) (fun c_ => ?_)
      · have hrun := ite_f hrun c_
        exact b_X1_holdRing_76 C ih x1 x2 x3 h18 H locs cells slots ls hH hL (lv_sub hl [1, 2, 3] rfl) hrun
      · have hrun := ite_t hrun c_
        refine V_aload (pc := 44) hx hb dX1_holdRing_44 (lv_at hl 0 rfl) ?_
        refine V_getNI (pc := 46) C hH fn_X1_428 dX1_holdRing_46 c21 rfl ?_
        refine lv_if_ne (tgt := 76) (pc := 49) hx hb dX1_holdRing_49 (by decide) (fun c_ => ?_) (fun c_ => ?_)
        · have hrun := ite_f hrun c_
          exact b_X1_holdRing_76 C ih x1 x2 x3 h18 H locs cells slots ls hH hL (lv_sub hl [1, 2, 3] rfl) hrun
        · have hrun := ite_t hrun c_
          refine V_aload (pc := 52) hx hb dX1_holdRing_52 (lv_at hl 0 rfl) ?_
          refine V_aload_n (pc := 54) hx hb dX1_holdRing_54 rfl (lv_at hl 1 rfl) ?_
          refine V_bd (pc := 55) C hL rfl hrun (fun rr1 e1 => Z_runV (rest := []) C hH (m_X12_isLike hl9 e1) wV_X1_431 c21 rfl (by decide) rfl rfl ⟨by decide, by decide⟩ rfl (Nat.le_of_ble_eq_true rfl) hl.1 dX1_holdRing_55) (fun v22 h23 H locs cells slots hH hL hrun => ?_)
          refine lv_if_eq (tgt := 76) (pc := 58) hx hb dX1_holdRing_58 (by decide) (fun c_ => ?_) (fun c_ => ?_)
          · have hrun := ite_t hrun c_
            exact b_X1_holdRing_76 C ih x1 x2 x3 h23 H locs cells slots ls hH hL (lv_sub hl [1, 2, 3] rfl) hrun
          · have hrun := ite_f hrun c_
            refine V_aload_n (pc := 61) hx hb dX1_holdRing_61 rfl (lv_at hl 2 rfl) ?_
            refine V_aload (pc := 62) hx hb dX1_holdRing_62 (lv_at hl 0 rfl) ?_
            obtain ⟨c26, hrun⟩ := gd_some hrun
            refine V_bd5 (pc := 64) C hL rfl hrun (fun rr1 e1 => Z_runF (rest := []) C hH (m_J2_add hl9 e1) rfl wF_X1_344_J2 c26 (by decide) rfl ⟨by decide, by decide⟩ rfl (Nat.le_of_ble_eq_true rfl) hl.1 dX1_holdRing_64) (fun v24 h25 H locs cells slots hH hL hrun => ?_)
            refine lv_if_eq (tgt := 76) (pc := 69) hx hb dX1_holdRing_69 (by decide) (fun c_ => ?_) (fun c_ => ?_)
            · have hrun := ite_t hrun c_
              exact b_X1_holdRing_76 C ih x1 x2 x3 h25 H locs cells slots ls hH hL (lv_sub hl [1, 2, 3] rfl) hrun
            · have hrun := ite_f hrun c_
              refine lv_iconst (v := (1 : Int32)) (pc := 72) hx hb dX1_holdRing_72 (by decide) ?_
              refine lv_goto (tgt := 77) (pc := 73) hx hb dX1_holdRing_73 (by decide) ?_
              exact b_X1_holdRing_77 C ih x1 x2 x3 (1 : Int32) h25 H locs cells slots ls hH hL (lv_sub hl [1, 2, 3] rfl) hrun

theorem b_X1_holdRing {rr : (Unit ⊕ Ex) × Hp}  (C : CX p l R s m args meth c D Hs cX1_holdRing "Massclaim" 6 none [] 8 331)  : ∀ (x0 : Nat) (x1 : Nat) (h : Hp) (H : Heap) (locs : List Loc) (cells slots : Nat) (ls : Array Slot), HP D Hs h H → LO Hs locs → lv_has ls 6 [(0, rv x0), (1, rv x1)] → f_X1_holdRing x0 x1 h = some rr → W p l e R s m args below meth c H locs cells slots (ZM D Hs iV rr below args s) (F0 m 0 ls []) := by
  obtain ⟨⟨hx, hb, hml, hown, hts⟩, -⟩ := id C
  have hl9 := C.2.1.2.2.1
  intro x0 x1 h H locs cells slots ls hH hL hl hrun
  unfold f_X1_holdRing at hrun
  refine V_new (pc := 0) C hH nl_X1_284 dX1_holdRing_0 hrun (fun q27 h28 H cells slots hH hrun => ?_)
  refine lv_dup (pc := 3) hx hb dX1_holdRing_3 (rv_cat _) ?_
  obtain ⟨c31, hrun⟩ := gd_some hrun
  refine V_bd (pc := 4) C hL rfl hrun (fun rr1 e1 => Z_runI (rest := [rv q27]) C hH (m_J2_init hl9 e1) wI_X1_286 (hH.pos c31) rfl ⟨by decide, by decide⟩ rfl (by simp [csum, rv_cat, cat_i, cat_l, cat_f, cat_d]) hl.1 dX1_holdRing_4) (fun _ h30 H locs cells slots hH hL hrun => ?_)
  refine V_astore_n (i := 2) (lv' := [(2, rv q27), (0, rv x0), (1, rv x1)]) (pc := 7) hx hb dX1_holdRing_7 rfl hl (by decide) (by simp [rv_cat, cat_i, cat_l, cat_f, cat_d]) (fun ls hl => ?_)
  refine V_aload_n (pc := 8) hx hb dX1_holdRing_8 rfl (lv_at hl 1 rfl) ?_
  obtain ⟨c32, hrun⟩ := gd_some hrun
  refine V_getR (pc := 9) C hH fr_X1_52 dX1_holdRing_9 c32 rfl ?_
  obtain ⟨c35, hrun⟩ := gd_some hrun
  refine V_bd (pc := 12) C hL rfl hrun (fun rr1 e1 => Z_runV (rest := []) C hH (m_X2_iterator hl9 e1) wV_X1_208 c35 rfl (by decide) rfl rfl ⟨by decide, by decide⟩ rfl (Nat.le_of_ble_eq_true rfl) hl.1 dX1_holdRing_12) (fun v33 h34 H locs cells slots hH hL hrun => ?_)
  refine V_astore_n (i := 3) (lv' := [(3, rv v33), (2, rv q27), (0, rv x0), (1, rv x1)]) (pc := 15) hx hb dX1_holdRing_15 rfl hl (by decide) (by simp [rv_cat, cat_i, cat_l, cat_f, cat_d]) (fun ls hl => ?_)
  exact b_X1_holdRing_16 C FU x1 q27 v33 h34 H locs cells slots ls hH hL (lv_sub hl [3, 1, 0] rfl) hrun

theorem m_X1_holdRing {l : Launch} {D : va_G} {Hs : Heap} {h : Hp} {rr : (Unit ⊕ Ex) × Hp} (hl9 : l.stackTraces = false) {x0 : Nat} {x1 : Nat} (hrun : f_X1_holdRing x0 x1 h = some rr) : CM l yX1_holdRing (ws_ yX1_holdRing cX1_holdRing 6 none) 8 331 iV [rv x0, rv x1] D Hs h rr := by
  refine CM.of (lv := [(0, rv x0), (1, rv x1)]) (plainFor_of_name (by decide)) hl9 (by simp [lv_args, rv_cat, cat_i, cat_l, cat_f, cat_d]) (by simp [lg_sl, rv_cat, cat_i, cat_l, cat_f, cat_d]) ?_
  intro p e R s m args below meth c H ls C hH hl hin
  exact b_X1_holdRing C x0 x1 _ H [] _ _ ls hH (fun _ q => nomatch q) (lv_sub hl [0, 1] rfl) hrun

/-! Massclaim.claim(IIII)I -/
def f_X1_claim_93  (x0 : Nat) (x2 : Int32) (x3 : Int32) (x4 : Int32) (x5 : Nat) (y0 : Int32) (h : Hp) : Rt Int32 :=
  bd (f_X1_requireState y0 h) fun _ h2 => nw h2 12 13 fun q3 h4 => gd (kC h4 x0 = 1) <| gd (kC h4 (kR h4 3 x0) = 2) <| bd (f_X2_size (kR h4 3 x0) h4) fun v6 h7 => gd (kC h7 q3 = 12) <| bd (f_X12_init q3 x0 v6 x5 x2 x3 x4 h7) fun _ h10 => gd (kC h10 x0 = 1) <| gd (kC h10 (kR h10 3 x0) = 2) <| bd (f_X2_add (kR h10 3 x0) q3 h10) fun v13 h14 => gd (kC h14 x5 = 5) <| vl (sR h14 415 x5 q3) fun h17 => gd (kC h17 x0 = 1) <| bd (f_X1_holdRing x0 q3 h17) fun _ h19 => some (.inl v13, h19)
def f_X1_claim_92  (x0 : Nat) (x2 : Int32) (x3 : Int32) (x4 : Int32) (x5 : Nat) (h : Hp) : Rt Int32 :=
  f_X1_claim_93 x0 x2 x3 x4 x5 (0 : Int32) h
def f_X1_claim_45  (x0 : Nat) (x2 : Int32) (x3 : Int32) (x4 : Int32) (x5 : Nat) (y0 : Int32) (h : Hp) : Rt Int32 :=
  bd (f_X1_requireArgument y0 h) fun _ h22 => gd (kC h22 x5 = 5) <| bd (f_X5_isMember x5 h22) fun v23 h24 => if v23 = 0 then
  (f_X1_claim_92 x0 x2 x3 x4 x5 h24)
  else
  (gd (kC h24 x5 = 5) <| if (kI h24 405 x5) ≤ 0 then
  (f_X1_claim_92 x0 x2 x3 x4 x5 h24)
  else
  (bd (f_X5_isBarred x5 h24) fun v27 h28 => if v27 = 0 then
  (gd (kC h28 x5 = 5) <| if (kR h28 415 x5) = 0 then
  (gd (kC h28 x0 = 1) <| bd (f_X1_stage x0 h28) fun v30 h31 => if v30 = (3 : Int32) then
  (f_X1_claim_93 x0 x2 x3 x4 x5 (1 : Int32) h31)
  else
  (f_X1_claim_92 x0 x2 x3 x4 x5 h31))
  else
  (f_X1_claim_92 x0 x2 x3 x4 x5 h28))
  else
  (f_X1_claim_92 x0 x2 x3 x4 x5 h28)))
def f_X1_claim_44  (x0 : Nat) (x2 : Int32) (x3 : Int32) (x4 : Int32) (x5 : Nat) (h : Hp) : Rt Int32 :=
  f_X1_claim_45 x0 x2 x3 x4 x5 (0 : Int32) h
def f_X1_claim  (x0 : Nat) (x1 : Int32) (x2 : Int32) (x3 : Int32) (x4 : Int32) (h : Hp) : Rt Int32 :=
  gd (kC h x0 = 1) <| gd (kC h (kR h 0 x0) = 2) <| bd (f_X2_at (kR h 0 x0) x1 h) fun v34 h35 => gd (v34 = 0 ∨ kC h35 v34 = 5) <| bd (f_X1_isGrade x2 h35) fun v38 h39 => if v38 = 0 then
  (f_X1_claim_44 x0 x2 x3 x4 v34 h39)
  else
  (bd (f_X1_isLawyer x3 h39) fun v40 h41 => if v40 = 0 then
  (f_X1_claim_44 x0 x2 x3 x4 v34 h41)
  else
  (bd (f_X1_isIn (x4.toInt64) (0 : Int64) (50 : Int64) h41) fun v42 h43 => if v42 = 0 then
  (f_X1_claim_44 x0 x2 x3 x4 v34 h43)
  else
  (f_X1_claim_45 x0 x2 x3 x4 v34 (1 : Int32) h43)))
theorem b_X1_claim_93 {rr : (Int32 ⊕ Ex) × Hp}  (C : CX p l R s m args meth c D Hs cX1_claim "Massclaim" 8 (some .int) [] 9 358)  : ∀ (x0 : Nat) (x2 : Int32) (x3 : Int32) (x4 : Int32) (x5 : Nat) (y0 : Int32) (h : Hp) (H : Heap) (locs : List Loc) (cells slots : Nat) (ls : Array Slot), HP D Hs h H → LO Hs locs → lv_has ls 8 [(0, rv x0), (2, .int x2), (3, .int x3), (4, .int x4), (5, rv x5)] → f_X1_claim_93 x0 x2 x3 x4 x5 y0 h = some rr → W p l e R s m args below meth c H locs cells slots (ZM D Hs iI rr below args s) (F0 m 93 ls [.int y0]) := by
  obtain ⟨⟨hx, hb, hml, hown, hts⟩, -⟩ := id C
  have hl9 := C.2.1.2.2.1
  intro x0 x2 x3 x4 x5 y0 h H locs cells slots ls hH hL hl hrun
  unfold f_X1_claim_93 at hrun
  refine V_bd (pc := 93) C hL rfl hrun (fun rr1 e1 => Z_runS (rest := []) C hH (m_X1_requireState hl9 e1) wS_X1_182 rfl ⟨by decide, by decide⟩ rfl (Nat.le_of_ble_eq_true rfl) hl.1 dX1_claim_93) (fun _ h2 H locs cells slots hH hL hrun => ?_)
  refine V_new (pc := 96) C hH nl_X1_155 dX1_claim_96 hrun (fun q3 h4 H cells slots hH hrun => ?_)
  refine lv_dup (pc := 99) hx hb dX1_claim_99 (rv_cat _) ?_
  refine V_aload_n (pc := 100) hx hb dX1_claim_100 rfl (lv_at hl 0 rfl) ?_
  refine V_aload_n (pc := 101) hx hb dX1_claim_101 rfl (lv_at hl 0 rfl) ?_
  obtain ⟨c5, hrun⟩ := gd_some hrun
  refine V_getR (pc := 102) C hH fr_X1_52 dX1_claim_102 c5 rfl ?_
  obtain ⟨c8, hrun⟩ := gd_some hrun
  refine V_bd (pc := 105) C hL rfl hrun (fun rr1 e1 => Z_runV (rest := [rv x0, rv q3, rv q3]) C hH (m_X2_size hl9 e1) wV_X1_135 c8 rfl (by decide) rfl rfl ⟨by decide, by decide⟩ rfl (by simp [csum, rv_cat, cat_i, cat_l, cat_f, cat_d]) hl.1 dX1_claim_105) (fun v6 h7 H locs cells slots hH hL hrun => ?_)
  refine V_aload (pc := 108) hx hb dX1_claim_108 (lv_at hl 4 rfl) ?_
  refine lv_iload_n (pc := 110) hx hb dX1_claim_110 rfl (lv_at hl 1 rfl) ?_
  refine lv_iload_n (pc := 111) hx hb dX1_claim_111 rfl (lv_at hl 2 rfl) ?_
  refine lv_iload (pc := 112) hx hb dX1_claim_112 (lv_at hl 3 rfl) ?_
  obtain ⟨c11, hrun⟩ := gd_some hrun
  refine V_bd (pc := 114) C hL rfl hrun (fun rr1 e1 => Z_runI (rest := [rv q3]) C hH (m_X12_init hl9 e1) wI_X1_421 (hH.pos c11) rfl ⟨by decide, by decide⟩ rfl (by simp [csum, rv_cat, cat_i, cat_l, cat_f, cat_d]) hl.1 dX1_claim_114) (fun _ h10 H locs cells slots hH hL hrun => ?_)
  refine V_astore (i := 6) (lv' := [(6, rv q3), (0, rv x0), (2, .int x2), (3, .int x3), (4, .int x4), (5, rv x5)]) (pc := 117) hx hb dX1_claim_117 hl (by decide) (by simp [rv_cat, cat_i, cat_l, cat_f, cat_d]) (fun ls hl => ?_)
  refine V_aload_n (pc := 119) hx hb dX1_claim_119 rfl (lv_at hl 1 rfl) ?_
  obtain ⟨c12, hrun⟩ := gd_some hrun
  refine V_getR (pc := 120) C hH fr_X1_52 dX1_claim_120 c12 rfl ?_
  refine V_aload (pc := 123) hx hb dX1_claim_123 (lv_at hl 0 rfl) ?_
  obtain ⟨c15, hrun⟩ := gd_some hrun
  refine V_bd (pc := 125) C hL rfl hrun (fun rr1 e1 => Z_runV (rest := []) C hH (m_X2_add hl9 e1) wV_X1_174 c15 rfl (by decide) rfl rfl ⟨by decide, by decide⟩ rfl (Nat.le_of_ble_eq_true rfl) hl.1 dX1_claim_125) (fun v13 h14 H locs cells slots hH hL hrun => ?_)
  refine lv_istore (i := 7) (lv' := [(7, .int v13), (6, rv q3), (0, rv x0), (2, .int x2), (3, .int x3), (4, .int x4), (5, rv x5)]) (pc := 128) hx hb dX1_claim_128 hl (by decide) (by simp [rv_cat, cat_i, cat_l, cat_f, cat_d]) (fun ls hl => ?_)
  refine V_aload (pc := 130) hx hb dX1_claim_130 (lv_at hl 6 rfl) ?_
  refine V_aload (pc := 132) hx hb dX1_claim_132 (lv_at hl 1 rfl) ?_
  obtain ⟨c16, hrun⟩ := gd_some hrun
  refine V_putNR (pc := 134) C hH hL fn_X1_251 dX1_claim_134 c16 (fok_o _ _) rfl hrun (fun h17 H locs hH hL hrun => ?_)
  refine V_aload_n (pc := 137) hx hb dX1_claim_137 rfl (lv_at hl 2 rfl) ?_
  refine V_aload (pc := 138) hx hb dX1_claim_138 (lv_at hl 1 rfl) ?_
  obtain ⟨c20, hrun⟩ := gd_some hrun
  refine V_bd (pc := 140) C hL rfl hrun (fun rr1 e1 => Z_runV (rest := []) C hH (m_X1_holdRing hl9 e1) wV_X1_424 c20 rfl (by decide) rfl rfl ⟨by decide, by decide⟩ rfl (Nat.le_of_ble_eq_true rfl) hl.1 dX1_claim_140) (fun _ h19 H locs cells slots hH hL hrun => ?_)
  refine lv_iload (pc := 143) hx hb dX1_claim_143 (lv_at hl 0 rfl) ?_
  exact V_iret (pc := 145) C hH hL hrun dX1_claim_145

theorem b_X1_claim_92 {rr : (Int32 ⊕ Ex) × Hp}  (C : CX p l R s m args meth c D Hs cX1_claim "Massclaim" 8 (some .int) [] 9 358)  : ∀ (x0 : Nat) (x2 : Int32) (x3 : Int32) (x4 : Int32) (x5 : Nat) (h : Hp) (H : Heap) (locs : List Loc) (cells slots : Nat) (ls : Array Slot), HP D Hs h H → LO Hs locs → lv_has ls 8 [(0, rv x0), (2, .int x2), (3, .int x3), (4, .int x4), (5, rv x5)] → f_X1_claim_92 x0 x2 x3 x4 x5 h = some rr → W p l e R s m args below meth c H locs cells slots (ZM D Hs iI rr below args s) (F0 m 92 ls []) := by
  obtain ⟨⟨hx, hb, hml, hown, hts⟩, -⟩ := id C
  have hl9 := C.2.1.2.2.1
  intro x0 x2 x3 x4 x5 h H locs cells slots ls hH hL hl hrun
  unfold f_X1_claim_92 at hrun
  refine lv_iconst (v := (0 : Int32)) (pc := 92) hx hb dX1_claim_92 (by decide) ?_
  exact b_X1_claim_93 C x0 x2 x3 x4 x5 (0 : Int32) h H locs cells slots ls hH hL (lv_sub hl [0, 1, 2, 3, 4] rfl) hrun

theorem b_X1_claim_45 {rr : (Int32 ⊕ Ex) × Hp}  (C : CX p l R s m args meth c D Hs cX1_claim "Massclaim" 8 (some .int) [] 9 358)  : ∀ (x0 : Nat) (x2 : Int32) (x3 : Int32) (x4 : Int32) (x5 : Nat) (y0 : Int32) (h : Hp) (H : Heap) (locs : List Loc) (cells slots : Nat) (ls : Array Slot), HP D Hs h H → LO Hs locs → lv_has ls 8 [(0, rv x0), (2, .int x2), (3, .int x3), (4, .int x4), (5, rv x5)] → f_X1_claim_45 x0 x2 x3 x4 x5 y0 h = some rr → W p l e R s m args below meth c H locs cells slots (ZM D Hs iI rr below args s) (F0 m 45 ls [.int y0]) := by
  obtain ⟨⟨hx, hb, hml, hown, hts⟩, -⟩ := id C
  have hl9 := C.2.1.2.2.1
  intro x0 x2 x3 x4 x5 y0 h H locs cells slots ls hH hL hl hrun
  unfold f_X1_claim_45 at hrun
  refine V_bd (pc := 45) C hL rfl hrun (fun rr1 e1 => Z_runS (rest := []) C hH (m_X1_requireArgument hl9 e1) wS_X1_131 rfl ⟨by decide, by decide⟩ rfl (Nat.le_of_ble_eq_true rfl) hl.1 dX1_claim_45) (fun _ h22 H locs cells slots hH hL hrun => ?_)
  refine V_aload (pc := 48) hx hb dX1_claim_48 (lv_at hl 4 rfl) ?_
  obtain ⟨c25, hrun⟩ := gd_some hrun
  refine V_bd (pc := 50) C hL rfl hrun (fun rr1 e1 => Z_runV (rest := []) C hH (m_X5_isMember hl9 e1) wV_X1_148 c25 rfl (by decide) rfl rfl ⟨by decide, by decide⟩ rfl (Nat.le_of_ble_eq_true rfl) hl.1 dX1_claim_50) (fun v23 h24 H locs cells slots hH hL hrun => ?_)
  refine lv_if_eq (tgt := 92) (pc := 53) hx hb dX1_claim_53 (by decide) (fun c_ => ?_) (fun c_ => ?_)
  · have hrun := ite_t hrun c_
    exact b_X1_claim_92 C x0 x2 x3 x4 x5 h24 H locs cells slots ls hH hL (lv_sub hl [0, 1, 2, 3, 4] rfl) hrun
  · have hrun := ite_f hrun c_
    refine V_aload (pc := 56) hx hb dX1_claim_56 (lv_at hl 4 rfl) ?_
    obtain ⟨c26, hrun⟩ := gd_some hrun
    refine V_getNI (pc := 58) C hH fn_X1_145 dX1_claim_58 c26 rfl ?_
    refine lv_if_le (tgt := 92) (pc := 61) hx hb dX1_claim_61 (by decide) (fun c_ => ?_) (fun c_ => ?_)
    · have hrun := ite_t hrun c_
      exact b_X1_claim_92 C x0 x2 x3 x4 x5 h24 H locs cells slots ls hH hL (lv_sub hl [0, 1, 2, 3, 4] rfl) hrun
    · have hrun := ite_f hrun c_
      refine V_aload (pc := 64) hx hb dX1_claim_64 (lv_at hl 4 rfl) ?_
      refine V_bd (pc := 66) C hL rfl hrun (fun rr1 e1 => Z_runV (rest := []) C hH (m_X5_isBarred hl9 e1) wV_X1_245 c26 rfl (by decide) rfl rfl ⟨by decide, by decide⟩ rfl (Nat.le_of_ble_eq_true rfl) hl.1 dX1_claim_66) (fun v27 h28 H locs cells slots hH hL hrun => ?_)
      refine lv_if_ne (tgt := 92) (pc := 69) hx hb dX1_claim_69 (by decide) (fun c_ => ?_) (fun c_ => ?_)
      · have hrun := ite_f hrun c_
        exact b_X1_claim_92 C x0 x2 x3 x4 x5 h28 H locs cells slots ls hH hL (lv_sub hl [0, 1, 2, 3, 4] rfl) hrun
      · have hrun := ite_t hrun c_
        refine V_aload (pc := 72) hx hb dX1_claim_72 (lv_at hl 4 rfl) ?_
        obtain ⟨c29, hrun⟩ := gd_some hrun
        refine V_getNR (pc := 74) C hH fn_X1_251 dX1_claim_74 c29 rfl ?_
        refine V_ifnonnull (tgt := 92) (pc := 77) hx hb dX1_claim_77 (by decide) hrun (fun c_ hrun => ?_) (fun c_ hrun => ?_)
        · exact b_X1_claim_92 C x0 x2 x3 x4 x5 h28 H locs cells slots ls hH hL (lv_sub hl [0, 1, 2, 3, 4] rfl) hrun
        · refine V_aload_n (pc := 80) hx hb dX1_claim_80 rfl (lv_at hl 0 rfl) ?_
          obtain ⟨c32, hrun⟩ := gd_some hrun
          refine V_bd (pc := 81) C hL rfl hrun (fun rr1 e1 => Z_runV (rest := []) C hH (m_X1_stage hl9 e1) wV_X1_123 c32 rfl (by decide) rfl rfl ⟨by decide, by decide⟩ rfl (Nat.le_of_ble_eq_true rfl) hl.1 dX1_claim_81) (fun v30 h31 H locs cells slots hH hL hrun => ?_)
          refine lv_iconst (v := (3 : Int32)) (pc := 84) hx hb dX1_claim_84 (by decide) ?_
          refine lv_icmp_ne (tgt := 92) (pc := 85) hx hb dX1_claim_85 (by decide) (fun c_ => ?_) (fun c_ => ?_)
          · have hrun := ite_f hrun c_
            exact b_X1_claim_92 C x0 x2 x3 x4 x5 h31 H locs cells slots ls hH hL (lv_sub hl [0, 1, 2, 3, 4] rfl) hrun
          · have hrun := ite_t hrun c_
            refine lv_iconst (v := (1 : Int32)) (pc := 88) hx hb dX1_claim_88 (by decide) ?_
            refine lv_goto (tgt := 93) (pc := 89) hx hb dX1_claim_89 (by decide) ?_
            exact b_X1_claim_93 C x0 x2 x3 x4 x5 (1 : Int32) h31 H locs cells slots ls hH hL (lv_sub hl [0, 1, 2, 3, 4] rfl) hrun

theorem b_X1_claim_44 {rr : (Int32 ⊕ Ex) × Hp}  (C : CX p l R s m args meth c D Hs cX1_claim "Massclaim" 8 (some .int) [] 9 358)  : ∀ (x0 : Nat) (x2 : Int32) (x3 : Int32) (x4 : Int32) (x5 : Nat) (h : Hp) (H : Heap) (locs : List Loc) (cells slots : Nat) (ls : Array Slot), HP D Hs h H → LO Hs locs → lv_has ls 8 [(0, rv x0), (2, .int x2), (3, .int x3), (4, .int x4), (5, rv x5)] → f_X1_claim_44 x0 x2 x3 x4 x5 h = some rr → W p l e R s m args below meth c H locs cells slots (ZM D Hs iI rr below args s) (F0 m 44 ls []) := by
  obtain ⟨⟨hx, hb, hml, hown, hts⟩, -⟩ := id C
  have hl9 := C.2.1.2.2.1
  intro x0 x2 x3 x4 x5 h H locs cells slots ls hH hL hl hrun
  unfold f_X1_claim_44 at hrun
  refine lv_iconst (v := (0 : Int32)) (pc := 44) hx hb dX1_claim_44 (by decide) ?_
  exact b_X1_claim_45 C x0 x2 x3 x4 x5 (0 : Int32) h H locs cells slots ls hH hL (lv_sub hl [0, 1, 2, 3, 4] rfl) hrun

theorem b_X1_claim {rr : (Int32 ⊕ Ex) × Hp}  (C : CX p l R s m args meth c D Hs cX1_claim "Massclaim" 8 (some .int) [] 9 358)  : ∀ (x0 : Nat) (x1 : Int32) (x2 : Int32) (x3 : Int32) (x4 : Int32) (h : Hp) (H : Heap) (locs : List Loc) (cells slots : Nat) (ls : Array Slot), HP D Hs h H → LO Hs locs → lv_has ls 8 [(0, rv x0), (1, .int x1), (2, .int x2), (3, .int x3), (4, .int x4)] → f_X1_claim x0 x1 x2 x3 x4 h = some rr → W p l e R s m args below meth c H locs cells slots (ZM D Hs iI rr below args s) (F0 m 0 ls []) := by
  obtain ⟨⟨hx, hb, hml, hown, hts⟩, -⟩ := id C
  have hl9 := C.2.1.2.2.1
  intro x0 x1 x2 x3 x4 h H locs cells slots ls hH hL hl hrun
  unfold f_X1_claim at hrun
  refine V_aload_n (pc := 0) hx hb dX1_claim_0 rfl (lv_at hl 0 rfl) ?_
  obtain ⟨c33, hrun⟩ := gd_some hrun
  refine V_getR (pc := 1) C hH fr_X1_42 dX1_claim_1 c33 rfl ?_
  refine lv_iload_n (pc := 4) hx hb dX1_claim_4 rfl (lv_at hl 1 rfl) ?_
  obtain ⟨c36, hrun⟩ := gd_some hrun
  refine V_bd (pc := 5) C hL rfl hrun (fun rr1 e1 => Z_runV (rest := []) C hH (m_X2_at hl9 e1) wV_X1_136 c36 rfl (by decide) rfl rfl ⟨by decide, by decide⟩ rfl (Nat.le_of_ble_eq_true rfl) hl.1 dX1_claim_5) (fun v34 h35 H locs cells slots hH hL hrun => ?_)
  obtain ⟨c37, hrun⟩ := gd_some hrun
  refine V_castX (pc := 8) (ci := 4) C hH rfl (by decide) q376 dX1_claim_8 c37 ?_
  refine V_astore (i := 5) (lv' := [(5, rv v34), (0, rv x0), (1, .int x1), (2, .int x2), (3, .int x3), (4, .int x4)]) (pc := 11) hx hb dX1_claim_11 hl (by decide) rfl (fun ls hl => ?_)
  refine lv_iload_n (pc := 13) hx hb dX1_claim_13 rfl (lv_at hl 3 rfl) ?_
  refine V_bd (pc := 14) C hL rfl hrun (fun rr1 e1 => Z_runS (rest := []) C hH (m_X1_isGrade hl9 e1) wS_X1_414 rfl ⟨by decide, by decide⟩ rfl (Nat.le_of_ble_eq_true rfl) hl.1 dX1_claim_14) (fun v38 h39 H locs cells slots hH hL hrun => ?_)
  refine lv_if_eq (tgt := 44) (pc := 17) hx hb dX1_claim_17 (by decide) (fun c_ => ?_) (fun c_ => ?_)
  · have hrun := ite_t hrun c_
    exact b_X1_claim_44 C x0 x2 x3 x4 v34 h39 H locs cells slots ls hH hL (lv_sub hl [1, 3, 4, 5, 0] rfl) hrun
  · have hrun := ite_f hrun c_
    refine lv_iload_n (pc := 20) hx hb dX1_claim_20 rfl (lv_at hl 4 rfl) ?_
    refine V_bd (pc := 21) C hL rfl hrun (fun rr1 e1 => Z_runS (rest := []) C hH (m_X1_isLawyer hl9 e1) wS_X1_418 rfl ⟨by decide, by decide⟩ rfl (Nat.le_of_ble_eq_true rfl) hl.1 dX1_claim_21) (fun v40 h41 H locs cells slots hH hL hrun => ?_)
    refine lv_if_eq (tgt := 44) (pc := 24) hx hb dX1_claim_24 (by decide) (fun c_ => ?_) (fun c_ => ?_)
    · have hrun := ite_t hrun c_
      exact b_X1_claim_44 C x0 x2 x3 x4 v34 h41 H locs cells slots ls hH hL (lv_sub hl [1, 3, 4, 5, 0] rfl) hrun
    · have hrun := ite_f hrun c_
      refine lv_iload (pc := 27) hx hb dX1_claim_27 (lv_at hl 5 rfl) ?_
      refine lv_i2l (pc := 29) hx hb dX1_claim_29 rfl ?_
      refine lv_lconst (v := (0 : Int64)) (pc := 30) hx hb dX1_claim_30 (by decide) ?_
      refine lv_ldc2 (pc := 31) hx hb hown (hts _ q1391) dX1_claim_31 ?_
      refine V_bd (pc := 34) C hL rfl hrun (fun rr1 e1 => Z_runS (rest := []) C hH (m_X1_isIn hl9 e1) wS_X1_127 rfl ⟨by decide, by decide⟩ rfl (Nat.le_of_ble_eq_true rfl) hl.1 dX1_claim_34) (fun v42 h43 H locs cells slots hH hL hrun => ?_)
      refine lv_if_eq (tgt := 44) (pc := 37) hx hb dX1_claim_37 (by decide) (fun c_ => ?_) (fun c_ => ?_)
      · have hrun := ite_t hrun c_
        exact b_X1_claim_44 C x0 x2 x3 x4 v34 h43 H locs cells slots ls hH hL (lv_sub hl [1, 3, 4, 5, 0] rfl) hrun
      · have hrun := ite_f hrun c_
        refine lv_iconst (v := (1 : Int32)) (pc := 40) hx hb dX1_claim_40 (by decide) ?_
        refine lv_goto (tgt := 45) (pc := 41) hx hb dX1_claim_41 (by decide) ?_
        exact b_X1_claim_45 C x0 x2 x3 x4 v34 (1 : Int32) h43 H locs cells slots ls hH hL (lv_sub hl [1, 3, 4, 5, 0] rfl) hrun

theorem m_X1_claim {l : Launch} {D : va_G} {Hs : Heap} {h : Hp} {rr : (Int32 ⊕ Ex) × Hp} (hl9 : l.stackTraces = false) {x0 : Nat} {x1 : Int32} {x2 : Int32} {x3 : Int32} {x4 : Int32} (hrun : f_X1_claim x0 x1 x2 x3 x4 h = some rr) : CM l yX1_claim (ws_ yX1_claim cX1_claim 8 (some .int)) 9 358 iI [rv x0, .int x1, .int x2, .int x3, .int x4] D Hs h rr := by
  refine CM.of (lv := [(0, rv x0), (1, .int x1), (2, .int x2), (3, .int x3), (4, .int x4)]) (plainFor_of_name (by decide)) hl9 (by simp [lv_args, rv_cat, cat_i, cat_l, cat_f, cat_d]) (by simp [lg_sl, rv_cat, cat_i, cat_l, cat_f, cat_d]) ?_
  intro p e R s m args below meth c H ls C hH hl hin
  exact b_X1_claim C x0 x1 x2 x3 x4 _ H [] _ _ ls hH (fun _ q => nomatch q) (lv_sub hl [0, 1, 2, 3, 4] rfl) hrun

/-! MassclaimLaw.claim(LMassclaim;IIII[J)I -/
def f_X0_claim_17  (y0 : Nat) (h : Hp) : Rt Int32 :=
  some (.inl (1 : Int32), h)
def f_X0_claim_21  (y0 : Nat) (h : Hp) : Rt Int32 :=
  some (.inl (2 : Int32), h)
def f_X0_claim_25  (y0 : Nat) (h : Hp) : Rt Int32 :=
  some (.inl (3 : Int32), h)
def f_X0_claim  (x0 : Nat) (x1 : Int32) (x2 : Int32) (x3 : Int32) (x4 : Int32) (x5 : Nat) (h : Hp) : Rt Int32 :=
  gd (kC h x0 = 1) <| bdH (f_X1_claim x0 x1 x2 x3 x4 h)
  (fun v1 h2 => gd (kC h2 x5 = 102 ∧ ixo (0 : Int32) (kN h2 x5)) <| vl (tL h2 x5 ((0 : Int32)).toNatClampNeg (v1.toInt64)) fun h5 => some (.inl (0 : Int32), h5))
  (fun ex6 h7 => if ex6.1 = 901 then
  (f_X0_claim_17 ex6.2 h7)
  else
  if ex6.1 = 902 then
  (f_X0_claim_21 ex6.2 h7)
  else
  if ex6.1 = 903 then
  (f_X0_claim_25 ex6.2 h7)
  else
  none)
theorem b_X0_claim_17 {rr : (Int32 ⊕ Ex) × Hp}  (C : CX p l R s m args meth c D Hs cX0_claim "MassclaimLaw" 7 (some .int) [(0, 14, 17, 25), (0, 14, 21, 13), (0, 14, 25, 19)] 10 385)  : ∀ (y0 : Nat) (h : Hp) (H : Heap) (locs : List Loc) (cells slots : Nat) (ls : Array Slot), HP D Hs h H → LO Hs locs → lv_has ls 7 [] → f_X0_claim_17 y0 h = some rr → W p l e R s m args below meth c H locs cells slots (ZM D Hs iI rr below args s) (F0 m 17 ls [rv y0]) := by
  obtain ⟨⟨hx, hb, hml, hown, hts⟩, -⟩ := id C
  have hl9 := C.2.1.2.2.1
  intro y0 h H locs cells slots ls hH hL hl hrun
  unfold f_X0_claim_17 at hrun
  refine V_astore (i := 6) (lv' := [(6, rv y0)]) (pc := 17) hx hb dX0_claim_17 hl (by decide) rfl (fun ls hl => ?_)
  refine lv_iconst (v := (1 : Int32)) (pc := 19) hx hb dX0_claim_19 (by decide) ?_
  exact V_iret (pc := 20) C hH hL hrun dX0_claim_20

theorem b_X0_claim_21 {rr : (Int32 ⊕ Ex) × Hp}  (C : CX p l R s m args meth c D Hs cX0_claim "MassclaimLaw" 7 (some .int) [(0, 14, 17, 25), (0, 14, 21, 13), (0, 14, 25, 19)] 10 385)  : ∀ (y0 : Nat) (h : Hp) (H : Heap) (locs : List Loc) (cells slots : Nat) (ls : Array Slot), HP D Hs h H → LO Hs locs → lv_has ls 7 [] → f_X0_claim_21 y0 h = some rr → W p l e R s m args below meth c H locs cells slots (ZM D Hs iI rr below args s) (F0 m 21 ls [rv y0]) := by
  obtain ⟨⟨hx, hb, hml, hown, hts⟩, -⟩ := id C
  have hl9 := C.2.1.2.2.1
  intro y0 h H locs cells slots ls hH hL hl hrun
  unfold f_X0_claim_21 at hrun
  refine V_astore (i := 6) (lv' := [(6, rv y0)]) (pc := 21) hx hb dX0_claim_21 hl (by decide) rfl (fun ls hl => ?_)
  refine lv_iconst (v := (2 : Int32)) (pc := 23) hx hb dX0_claim_23 (by decide) ?_
  exact V_iret (pc := 24) C hH hL hrun dX0_claim_24

theorem b_X0_claim_25 {rr : (Int32 ⊕ Ex) × Hp}  (C : CX p l R s m args meth c D Hs cX0_claim "MassclaimLaw" 7 (some .int) [(0, 14, 17, 25), (0, 14, 21, 13), (0, 14, 25, 19)] 10 385)  : ∀ (y0 : Nat) (h : Hp) (H : Heap) (locs : List Loc) (cells slots : Nat) (ls : Array Slot), HP D Hs h H → LO Hs locs → lv_has ls 7 [] → f_X0_claim_25 y0 h = some rr → W p l e R s m args below meth c H locs cells slots (ZM D Hs iI rr below args s) (F0 m 25 ls [rv y0]) := by
  obtain ⟨⟨hx, hb, hml, hown, hts⟩, -⟩ := id C
  have hl9 := C.2.1.2.2.1
  intro y0 h H locs cells slots ls hH hL hl hrun
  unfold f_X0_claim_25 at hrun
  refine V_astore (i := 6) (lv' := [(6, rv y0)]) (pc := 25) hx hb dX0_claim_25 hl (by decide) rfl (fun ls hl => ?_)
  refine lv_iconst (v := (3 : Int32)) (pc := 27) hx hb dX0_claim_27 (by decide) ?_
  exact V_iret (pc := 28) C hH hL hrun dX0_claim_28

theorem b_X0_claim {rr : (Int32 ⊕ Ex) × Hp}  (C : CX p l R s m args meth c D Hs cX0_claim "MassclaimLaw" 7 (some .int) [(0, 14, 17, 25), (0, 14, 21, 13), (0, 14, 25, 19)] 10 385)  : ∀ (x0 : Nat) (x1 : Int32) (x2 : Int32) (x3 : Int32) (x4 : Int32) (x5 : Nat) (h : Hp) (H : Heap) (locs : List Loc) (cells slots : Nat) (ls : Array Slot), HP D Hs h H → LO Hs locs → lv_has ls 7 [(0, rv x0), (1, .int x1), (2, .int x2), (3, .int x3), (4, .int x4), (5, rv x5)] → f_X0_claim x0 x1 x2 x3 x4 x5 h = some rr → W p l e R s m args below meth c H locs cells slots (ZM D Hs iI rr below args s) (F0 m 0 ls []) := by
  obtain ⟨⟨hx, hb, hml, hown, hts⟩, -⟩ := id C
  have hl9 := C.2.1.2.2.1
  intro x0 x1 x2 x3 x4 x5 h H locs cells slots ls hH hL hl hrun
  unfold f_X0_claim at hrun
  refine V_aload (pc := 0) hx hb dX0_claim_0 (lv_at hl 5 rfl) ?_
  refine lv_iconst (v := (0 : Int32)) (pc := 2) hx hb dX0_claim_2 (by decide) ?_
  refine V_aload_n (pc := 3) hx hb dX0_claim_3 rfl (lv_at hl 0 rfl) ?_
  refine lv_iload_n (pc := 4) hx hb dX0_claim_4 rfl (lv_at hl 1 rfl) ?_
  refine lv_iload_n (pc := 5) hx hb dX0_claim_5 rfl (lv_at hl 2 rfl) ?_
  refine lv_iload_n (pc := 6) hx hb dX0_claim_6 rfl (lv_at hl 3 rfl) ?_
  refine lv_iload (pc := 7) hx hb dX0_claim_7 (lv_at hl 4 rfl) ?_
  obtain ⟨c3, hrun⟩ := gd_some hrun
  refine V_bdH (pc := 9) hL hrun (fun rr1 e1 => Z_runV (rest := [.int (0 : Int32), rv x5]) C hH (m_X1_claim hl9 e1) wV_X0_107 c3 rfl (by decide) rfl rfl ⟨by decide, by decide⟩ rfl (by simp [csum, rv_cat, cat_i, cat_l, cat_f, cat_d]) hl.1 dX0_claim_9) (fun v1 h2 H locs cells slots hH hL hrun => ?_) (fun x_ q_ ce_ h7 H locs cells slots hH hL hrun hc_ hv_ hcl_ => ?_)
  · refine lv_i2l (pc := 12) hx hb dX0_claim_12 rfl ?_
    obtain ⟨c4, hrun⟩ := gd_some hrun
    refine V_last (pc := 13) C hH hL dX0_claim_13 c4 hrun (fun h5 H locs hH hL hrun => ?_)
    refine lv_goto (tgt := 29) (pc := 14) hx hb dX0_claim_14 (by decide) ?_
    refine lv_iconst (v := (0 : Int32)) (pc := 29) hx hb dX0_claim_29 (by decide) ?_
    exact V_iret (pc := 30) C hH hL hrun dX0_claim_30
  · by_cases n901 : x_ = 901
    · subst n901
      have hrun := ite_t hrun rfl
      refine vx_catch (E := "java/lang/IndexOutOfBoundsException") (name := "java/lang/IndexOutOfBoundsException") hown (tableOf []) ⟨0, 14, 17, 25⟩ (tableOf [(0, 14, 21, 13), (0, 14, 25, 19)]) (by rw [C.2.1.2.2.2.2]; rfl) (fun z hz => nomatch hz) (by decide) (by decide) (hts _ q829) (va_Nw.use rfl (C.2.1.2.2.2.1.2.1 _ q537 rfl)) hc_ hv_ hcl_ ?_
      exact b_X0_claim_17 C (q_ + 1) h7 H locs cells slots ls hH hL (lv_sub hl [] rfl) hrun
    have hrun := ite_f hrun n901
    by_cases n902 : x_ = 902
    · subst n902
      have hrun := ite_t hrun rfl
      refine vx_catch (E := "java/lang/IllegalArgumentException") (name := "java/lang/IllegalArgumentException") hown (tableOf [(0, 14, 17, 25)]) ⟨0, 14, 21, 13⟩ (tableOf [(0, 14, 25, 19)]) (by rw [C.2.1.2.2.2.2]; rfl) (fun z hz => by simp only [tableOf, List.map, List.mem_cons, List.not_mem_nil, or_false] at hz; rcases hz with rfl <;> first | exact Or.inr ⟨by decide, "java/lang/IndexOutOfBoundsException", hts _ q829, nc_at C (by decide)⟩) (by decide) (by decide) (hts _ q449) (va_Nw.use rfl (C.2.1.2.2.2.1.2.1 _ q463 rfl)) hc_ hv_ hcl_ ?_
      exact b_X0_claim_21 C (q_ + 1) h7 H locs cells slots ls hH hL (lv_sub hl [] rfl) hrun
    have hrun := ite_f hrun n902
    by_cases n903 : x_ = 903
    · subst n903
      have hrun := ite_t hrun rfl
      refine vx_catch (E := "java/lang/IllegalStateException") (name := "java/lang/IllegalStateException") hown (tableOf [(0, 14, 17, 25), (0, 14, 21, 13)]) ⟨0, 14, 25, 19⟩ (tableOf []) (by rw [C.2.1.2.2.2.2]; rfl) (fun z hz => by simp only [tableOf, List.map, List.mem_cons, List.not_mem_nil, or_false] at hz; rcases hz with rfl | rfl <;> first | exact Or.inr ⟨by decide, "java/lang/IndexOutOfBoundsException", hts _ q829, nc_at C (by decide)⟩ | exact Or.inr ⟨by decide, "java/lang/IllegalArgumentException", hts _ q449, nc_at C (by decide)⟩) (by decide) (by decide) (hts _ q585) (va_Nw.use rfl (C.2.1.2.2.2.1.2.1 _ q702 rfl)) hc_ hv_ hcl_ ?_
      exact b_X0_claim_25 C (q_ + 1) h7 H locs cells slots ls hH hL (lv_sub hl [] rfl) hrun
    have hrun := ite_f hrun n903
    cases hrun

theorem m_X0_claim {l : Launch} {D : va_G} {Hs : Heap} {h : Hp} {rr : (Int32 ⊕ Ex) × Hp} (hl9 : l.stackTraces = false) {x0 : Nat} {x1 : Int32} {x2 : Int32} {x3 : Int32} {x4 : Int32} {x5 : Nat} (hrun : f_X0_claim x0 x1 x2 x3 x4 x5 h = some rr) : CM l yX0_claim (wsW_ yX0_claim cX0_claim 7 (some .int) [(0, 14, 17, 25), (0, 14, 21, 13), (0, 14, 25, 19)]) 10 385 iI [rv x0, .int x1, .int x2, .int x3, .int x4, rv x5] D Hs h rr := by
  refine CM.ofH (lv := [(0, rv x0), (1, .int x1), (2, .int x2), (3, .int x3), (4, .int x4), (5, rv x5)]) (plainFor_of_name (by decide)) hl9 (by simp [lv_args, rv_cat, cat_i, cat_l, cat_f, cat_d]) (by simp [lg_sl, rv_cat, cat_i, cat_l, cat_f, cat_d]) ?_
  intro p e R s m args below meth c H ls C hH hl hin
  exact b_X0_claim C x0 x1 x2 x3 x4 x5 _ H [] _ _ ls hH (fun _ q => nomatch q) (lv_sub hl [0, 1, 2, 3, 4, 5] rfl) hrun

/-! MassclaimModel$Claim.<init>()V -/
def f_X13_init  (x0 : Nat) (h : Hp) : Rt Unit :=
  gd (kC h x0 = 13) <| vl (sI h 1203 x0 (0 : Int32)) fun h2 => gd (kC h2 x0 = 13) <| vl (sI h2 1207 x0 (1 : Int32)) fun h4 => nw h4 18 3 fun q5 h6 => gd (kC h6 q5 = 18) <| bd (f_J2_init q5 h6) fun _ h8 => gd (kC h8 x0 = 13) <| vl (sR h8 1209 x0 q5) fun h11 => some (.inl (), h11)
theorem b_X13_init {rr : (Unit ⊕ Ex) × Hp}  (C : CX p l R s m args meth c D Hs cX13_init "MassclaimModel$Claim" 1 none [] 4 80) (hin : meth.name = "<init>")  : ∀ (x0 : Nat) (h : Hp) (H : Heap) (locs : List Loc) (cells slots : Nat) (ls : Array Slot), HP D Hs h H → LO Hs locs → lv_has ls 1 [(0, rv x0)] → f_X13_init x0 h = some rr → W p l e R s m args below meth c H locs cells slots (ZM D Hs iV rr below args s) (F0 m 0 ls []) := by
  obtain ⟨⟨hx, hb, hml, hown, hts⟩, -⟩ := id C
  have hl9 := C.2.1.2.2.1
  intro x0 h H locs cells slots ls hH hL hl hrun
  unfold f_X13_init at hrun
  refine V_aload_n (pc := 0) hx hb dX13_init_0 rfl (lv_at hl 0 rfl) ?_
  obtain ⟨c1, hrun⟩ := gd_some hrun
  refine V_objInit (pc := 1) C q2312 q113 q114 (hH.pos c1) dX13_init_1 (by decide) (by simp [csum, rv_cat, cat_i, cat_l, cat_f, cat_d]) hl.1 ?_
  refine V_aload_n (pc := 4) hx hb dX13_init_4 rfl (lv_at hl 0 rfl) ?_
  refine lv_iconst (v := (0 : Int32)) (pc := 5) hx hb dX13_init_5 (by decide) ?_
  refine V_putI (pc := 6) C hH hL fl_X13_9 dX13_init_6 c1 (fok_i _) rfl (fun q => Bool.noConfusion q) hrun (fun h2 H locs hH hL hrun => ?_)
  refine V_aload_n (pc := 9) hx hb dX13_init_9 rfl (lv_at hl 0 rfl) ?_
  refine lv_iconst (v := (1 : Int32)) (pc := 10) hx hb dX13_init_10 (by decide) ?_
  obtain ⟨c3, hrun⟩ := gd_some hrun
  refine V_putI (pc := 11) C hH hL fl_X13_15 dX13_init_11 c3 (fok_i _) rfl (fun q => Bool.noConfusion q) hrun (fun h4 H locs hH hL hrun => ?_)
  refine V_aload_n (pc := 14) hx hb dX13_init_14 rfl (lv_at hl 0 rfl) ?_
  refine V_new (pc := 15) C hH nl_X13_18 dX13_init_15 hrun (fun q5 h6 H cells slots hH hrun => ?_)
  refine lv_dup (pc := 18) hx hb dX13_init_18 (rv_cat _) ?_
  obtain ⟨c9, hrun⟩ := gd_some hrun
  refine V_bd (pc := 19) C hL rfl hrun (fun rr1 e1 => Z_runI (rest := [rv q5, rv x0]) C hH (m_J2_init hl9 e1) wI_X13_20 (hH.pos c9) rfl ⟨by decide, by decide⟩ rfl (by simp [csum, rv_cat, cat_i, cat_l, cat_f, cat_d]) hl.1 dX13_init_19) (fun _ h8 H locs cells slots hH hL hrun => ?_)
  obtain ⟨c10, hrun⟩ := gd_some hrun
  refine V_putR (pc := 22) C hH hL fl_X13_21 dX13_init_22 c10 (fok_o _ _) rfl (fun _ => hin) hrun (fun h11 H locs hH hL hrun => ?_)
  exact V_vret (pc := 25) C hH hL hrun dX13_init_25

theorem m_X13_init {l : Launch} {D : va_G} {Hs : Heap} {h : Hp} {rr : (Unit ⊕ Ex) × Hp} (hl9 : l.stackTraces = false) {x0 : Nat} (hrun : f_X13_init x0 h = some rr) : CM l yX13_init (ws_ yX13_init cX13_init 1 none) 4 80 iV [rv x0] D Hs h rr := by
  refine CM.of (lv := [(0, rv x0)]) (plainFor_of_name (by decide)) hl9 (by simp [lv_args, rv_cat, cat_i, cat_l, cat_f, cat_d]) (by simp [lg_sl, rv_cat, cat_i, cat_l, cat_f, cat_d]) ?_
  intro p e R s m args below meth c H ls C hH hl hin
  exact b_X13_init C hin x0 _ H [] _ _ ls hH (fun _ q => nomatch q) (lv_sub hl [0] rfl) hrun

/-! MassclaimModel$Claim.lawyer()I -/
def f_X13_lawyer  (x0 : Nat) (h : Hp) : Rt Int32 :=
  gd (kC h x0 = 13) <| gd (kC h (kR h 1209 x0) = 18) <| bd (f_J2_size (kR h 1209 x0) h) fun v2 h3 => gd (kC h3 (kR h 1209 x0) = 18) <| bd (f_J2_get (kR h 1209 x0) (v2 - (1 : Int32)) h3) fun v5 h6 => gd (kC h6 v5 = 101) <| gd (kC h6 v5 = 101 ∧ ixo (0 : Int32) (kN h6 v5)) <| some (.inl (jI h6 v5 ((0 : Int32)).toNatClampNeg), h6)
theorem b_X13_lawyer {rr : (Int32 ⊕ Ex) × Hp}  (C : CX p l R s m args meth c D Hs cX13_lawyer "MassclaimModel$Claim" 1 (some .int) [] 4 64)  : ∀ (x0 : Nat) (h : Hp) (H : Heap) (locs : List Loc) (cells slots : Nat) (ls : Array Slot), HP D Hs h H → LO Hs locs → lv_has ls 1 [(0, rv x0)] → f_X13_lawyer x0 h = some rr → W p l e R s m args below meth c H locs cells slots (ZM D Hs iI rr below args s) (F0 m 0 ls []) := by
  obtain ⟨⟨hx, hb, hml, hown, hts⟩, -⟩ := id C
  have hl9 := C.2.1.2.2.1
  intro x0 h H locs cells slots ls hH hL hl hrun
  unfold f_X13_lawyer at hrun
  refine V_aload_n (pc := 0) hx hb dX13_lawyer_0 rfl (lv_at hl 0 rfl) ?_
  obtain ⟨c1, hrun⟩ := gd_some hrun
  refine V_getR (pc := 1) C hH fr_X13_21 dX13_lawyer_1 c1 rfl ?_
  refine V_aload_n (pc := 4) hx hb dX13_lawyer_4 rfl (lv_at hl 0 rfl) ?_
  refine V_getR (pc := 5) C hH fr_X13_21 dX13_lawyer_5 c1 rfl ?_
  obtain ⟨c4, hrun⟩ := gd_some hrun
  refine V_bd (pc := 8) C hL rfl hrun (fun rr1 e1 => Z_runV (rest := [rv (kR h 1209 x0)]) C hH (m_J2_size hl9 e1) wV_X13_25 c4 rfl (by decide) rfl rfl ⟨by decide, by decide⟩ rfl (by simp [csum, rv_cat, cat_i, cat_l, cat_f, cat_d]) hl.1 dX13_lawyer_8) (fun v2 h3 H locs cells slots hH hL hrun => ?_)
  refine lv_iconst (v := (1 : Int32)) (pc := 11) hx hb dX13_lawyer_11 (by decide) ?_
  refine lv_isub (pc := 12) hx hb dX13_lawyer_12 ?_
  obtain ⟨c7, hrun⟩ := gd_some hrun
  refine V_bd (pc := 13) C hL rfl hrun (fun rr1 e1 => Z_runV (rest := []) C hH (m_J2_get hl9 e1) wV_X13_29 c7 rfl (by decide) rfl rfl ⟨by decide, by decide⟩ rfl (Nat.le_of_ble_eq_true rfl) hl.1 dX13_lawyer_13) (fun v5 h6 H locs cells slots hH hL hrun => ?_)
  obtain ⟨c8, hrun⟩ := gd_some hrun
  refine V_castI (pc := 16) C hH q2363 dX13_lawyer_16 c8 ?_
  refine lv_iconst (v := (0 : Int32)) (pc := 19) hx hb dX13_lawyer_19 (by decide) ?_
  obtain ⟨c9, hrun⟩ := gd_some hrun
  refine V_iald (pc := 20) C hH dX13_lawyer_20 c9 ?_
  exact V_iret (pc := 21) C hH hL hrun dX13_lawyer_21

theorem m_X13_lawyer {l : Launch} {D : va_G} {Hs : Heap} {h : Hp} {rr : (Int32 ⊕ Ex) × Hp} (hl9 : l.stackTraces = false) {x0 : Nat} (hrun : f_X13_lawyer x0 h = some rr) : CM l yX13_lawyer (ws_ yX13_lawyer cX13_lawyer 1 (some .int)) 4 64 iI [rv x0] D Hs h rr := by
  refine CM.of (lv := [(0, rv x0)]) (plainFor_of_name (by decide)) hl9 (by simp [lv_args, rv_cat, cat_i, cat_l, cat_f, cat_d]) (by simp [lg_sl, rv_cat, cat_i, cat_l, cat_f, cat_d]) ?_
  intro p e R s m args below meth c H ls C hH hl hin
  exact b_X13_lawyer C x0 _ H [] _ _ ls hH (fun _ q => nomatch q) (lv_sub hl [0] rfl) hrun

/-! MassclaimModel.isAlike(LMassclaimModel$Claim;LMassclaimModel$Claim;)Z -/
def f_X4_isAlike_97  (y0 : Int32) (h : Hp) : Rt Int32 :=
  gd (b01 y0) <| some (.inl y0, h)
def f_X4_isAlike_96  (h : Hp) : Rt Int32 :=
  f_X4_isAlike_97 (0 : Int32) h
def f_X4_isAlike_30  (x0 : Nat) (x1 : Nat) (y0 : Int32) (h : Hp) : Rt Int32 :=
  if y0 = 0 then
  (f_X4_isAlike_96  h)
  else
  (gd (kC h x0 = 13) <| gd (kC h (kR h 1200 x0) = 6) <| gd (kC h x1 = 13) <| gd (kC h (kR h 1200 x1) = 6) <| if (kI h 504 (kR h 1200 x0)) = (kI h 504 (kR h 1200 x1)) then
  (if (kI h 501 (kR h 1200 x0)) = (kI h 501 (kR h 1200 x1)) then
  (if ((kI h 503 (kR h 1200 x0)) / (12 : Int32)) = ((kI h 503 (kR h 1200 x1)) / (12 : Int32)) then
  (f_X4_isAlike_97 (1 : Int32) h)
  else
  (f_X4_isAlike_96  h))
  else
  (f_X4_isAlike_96  h))
  else
  (f_X4_isAlike_96  h))
def f_X4_isAlike_29  (x0 : Nat) (x1 : Nat) (h : Hp) : Rt Int32 :=
  f_X4_isAlike_30 x0 x1 (0 : Int32) h
def f_X4_isAlike  (x0 : Nat) (x1 : Nat) (h : Hp) : Rt Int32 :=
  gd (kC h x1 = 13) <| if (kI h 1203 x1) = 0 then
  (if (kI h 1204 x1) = 0 then
  (gd (kC h x0 = 13) <| bd (f_X13_lawyer x0 h) fun v7 h8 => gd (kC h8 x1 = 13) <| bd (f_X13_lawyer x1 h8) fun v10 h11 => if v7 = v10 then
  (f_X4_isAlike_30 x0 x1 (1 : Int32) h11)
  else
  (f_X4_isAlike_29 x0 x1 h11))
  else
  (f_X4_isAlike_29 x0 x1 h))
  else
  (f_X4_isAlike_29 x0 x1 h)
theorem b_X4_isAlike_97 {rr : (Int32 ⊕ Ex) × Hp}  (C : CX p l R s m args meth c D Hs cX4_isAlike "MassclaimModel" 3 (some .boolean) [] 5 84)  : ∀ (y0 : Int32) (h : Hp) (H : Heap) (locs : List Loc) (cells slots : Nat) (ls : Array Slot), HP D Hs h H → LO Hs locs → lv_has ls 3 [] → f_X4_isAlike_97 y0 h = some rr → W p l e R s m args below meth c H locs cells slots (ZM D Hs iI rr below args s) (F0 m 97 ls [.int y0]) := by
  obtain ⟨⟨hx, hb, hml, hown, hts⟩, -⟩ := id C
  have hl9 := C.2.1.2.2.1
  intro y0 h H locs cells slots ls hH hL hl hrun
  unfold f_X4_isAlike_97 at hrun
  obtain ⟨c1, hrun⟩ := gd_some hrun
  exact V_zret (pc := 97) C hH hL c1 hrun dX4_isAlike_97

theorem b_X4_isAlike_96 {rr : (Int32 ⊕ Ex) × Hp}  (C : CX p l R s m args meth c D Hs cX4_isAlike "MassclaimModel" 3 (some .boolean) [] 5 84)  : ∀ (h : Hp) (H : Heap) (locs : List Loc) (cells slots : Nat) (ls : Array Slot), HP D Hs h H → LO Hs locs → lv_has ls 3 [] → f_X4_isAlike_96 h = some rr → W p l e R s m args below meth c H locs cells slots (ZM D Hs iI rr below args s) (F0 m 96 ls []) := by
  obtain ⟨⟨hx, hb, hml, hown, hts⟩, -⟩ := id C
  have hl9 := C.2.1.2.2.1
  intro h H locs cells slots ls hH hL hl hrun
  unfold f_X4_isAlike_96 at hrun
  refine lv_iconst (v := (0 : Int32)) (pc := 96) hx hb dX4_isAlike_96 (by decide) ?_
  exact b_X4_isAlike_97 C (0 : Int32) h H locs cells slots ls hH hL (lv_sub hl [] rfl) hrun

theorem b_X4_isAlike_30 {rr : (Int32 ⊕ Ex) × Hp}  (C : CX p l R s m args meth c D Hs cX4_isAlike "MassclaimModel" 3 (some .boolean) [] 5 84)  : ∀ (x0 : Nat) (x1 : Nat) (y0 : Int32) (h : Hp) (H : Heap) (locs : List Loc) (cells slots : Nat) (ls : Array Slot), HP D Hs h H → LO Hs locs → lv_has ls 3 [(0, rv x0), (1, rv x1)] → f_X4_isAlike_30 x0 x1 y0 h = some rr → W p l e R s m args below meth c H locs cells slots (ZM D Hs iI rr below args s) (F0 m 30 ls [.int y0]) := by
  obtain ⟨⟨hx, hb, hml, hown, hts⟩, -⟩ := id C
  have hl9 := C.2.1.2.2.1
  intro x0 x1 y0 h H locs cells slots ls hH hL hl hrun
  unfold f_X4_isAlike_30 at hrun
  refine lv_istore_n (i := 2) (lv' := [(2, .int y0), (0, rv x0), (1, rv x1)]) (pc := 30) hx hb dX4_isAlike_30 rfl hl (by decide) (by simp [rv_cat, cat_i, cat_l, cat_f, cat_d]) (fun ls hl => ?_)
  refine lv_iload_n (pc := 31) hx hb dX4_isAlike_31 rfl (lv_at hl 0 rfl) ?_
  refine lv_if_eq (tgt := 96) (pc := 32) hx hb dX4_isAlike_32 (by decide) (fun c_ => ?_) (fun c_ => ?_)
  · have hrun := ite_t hrun c_
    exact b_X4_isAlike_96 C h H locs cells slots ls hH hL (lv_sub hl [] rfl) hrun
  · have hrun := ite_f hrun c_
    refine V_aload_n (pc := 35) hx hb dX4_isAlike_35 rfl (lv_at hl 1 rfl) ?_
    obtain ⟨c2, hrun⟩ := gd_some hrun
    refine V_getR (pc := 36) C hH fr_X4_368 dX4_isAlike_36 c2 rfl ?_
    obtain ⟨c3, hrun⟩ := gd_some hrun
    refine V_getI (pc := 39) C hH fr_X4_117 dX4_isAlike_39 c3 rfl ?_
    refine V_aload_n (pc := 42) hx hb dX4_isAlike_42 rfl (lv_at hl 2 rfl) ?_
    obtain ⟨c4, hrun⟩ := gd_some hrun
    refine V_getR (pc := 43) C hH fr_X4_368 dX4_isAlike_43 c4 rfl ?_
    obtain ⟨c5, hrun⟩ := gd_some hrun
    refine V_getI (pc := 46) C hH fr_X4_117 dX4_isAlike_46 c5 rfl ?_
    refine lv_icmp_ne (tgt := 96) (pc := 49) hx hb dX4_isAlike_49 (by decide) (fun c_ => ?_) (fun c_ => ?_)
    · have hrun := ite_f hrun c_
      exact b_X4_isAlike_96 C h H locs cells slots ls hH hL (lv_sub hl [] rfl) hrun
    · have hrun := ite_t hrun c_
      refine V_aload_n (pc := 52) hx hb dX4_isAlike_52 rfl (lv_at hl 1 rfl) ?_
      refine V_getR (pc := 53) C hH fr_X4_368 dX4_isAlike_53 c2 rfl ?_
      refine V_getI (pc := 56) C hH fr_X4_179 dX4_isAlike_56 c3 rfl ?_
      refine V_aload_n (pc := 59) hx hb dX4_isAlike_59 rfl (lv_at hl 2 rfl) ?_
      refine V_getR (pc := 60) C hH fr_X4_368 dX4_isAlike_60 c4 rfl ?_
      refine V_getI (pc := 63) C hH fr_X4_179 dX4_isAlike_63 c5 rfl ?_
      refine lv_icmp_ne (tgt := 96) (pc := 66) hx hb dX4_isAlike_66 (by decide) (fun c_ => ?_) (fun c_ => ?_)
      · have hrun := ite_f hrun c_
        exact b_X4_isAlike_96 C h H locs cells slots ls hH hL (lv_sub hl [] rfl) hrun
      · have hrun := ite_t hrun c_
        refine V_aload_n (pc := 69) hx hb dX4_isAlike_69 rfl (lv_at hl 1 rfl) ?_
        refine V_getR (pc := 70) C hH fr_X4_368 dX4_isAlike_70 c2 rfl ?_
        refine V_getI (pc := 73) C hH fr_X4_183 dX4_isAlike_73 c3 rfl ?_
        refine lv_bipush (v := (12 : Int32)) (pc := 76) hx hb dX4_isAlike_76 (by decide) ?_
        refine lv_idiv (pc := 78) hx hb dX4_isAlike_78 (by decide) ?_
        refine V_aload_n (pc := 79) hx hb dX4_isAlike_79 rfl (lv_at hl 2 rfl) ?_
        refine V_getR (pc := 80) C hH fr_X4_368 dX4_isAlike_80 c4 rfl ?_
        refine V_getI (pc := 83) C hH fr_X4_183 dX4_isAlike_83 c5 rfl ?_
        refine lv_bipush (v := (12 : Int32)) (pc := 86) hx hb dX4_isAlike_86 (by decide) ?_
        refine lv_idiv (pc := 88) hx hb dX4_isAlike_88 (by decide) ?_
        refine lv_icmp_ne (tgt := 96) (pc := 89) hx hb dX4_isAlike_89 (by decide) (fun c_ => ?_) (fun c_ => ?_)
        · have hrun := ite_f hrun c_
          exact b_X4_isAlike_96 C h H locs cells slots ls hH hL (lv_sub hl [] rfl) hrun
        · have hrun := ite_t hrun c_
          refine lv_iconst (v := (1 : Int32)) (pc := 92) hx hb dX4_isAlike_92 (by decide) ?_
          refine lv_goto (tgt := 97) (pc := 93) hx hb dX4_isAlike_93 (by decide) ?_
          exact b_X4_isAlike_97 C (1 : Int32) h H locs cells slots ls hH hL (lv_sub hl [] rfl) hrun

theorem b_X4_isAlike_29 {rr : (Int32 ⊕ Ex) × Hp}  (C : CX p l R s m args meth c D Hs cX4_isAlike "MassclaimModel" 3 (some .boolean) [] 5 84)  : ∀ (x0 : Nat) (x1 : Nat) (h : Hp) (H : Heap) (locs : List Loc) (cells slots : Nat) (ls : Array Slot), HP D Hs h H → LO Hs locs → lv_has ls 3 [(0, rv x0), (1, rv x1)] → f_X4_isAlike_29 x0 x1 h = some rr → W p l e R s m args below meth c H locs cells slots (ZM D Hs iI rr below args s) (F0 m 29 ls []) := by
  obtain ⟨⟨hx, hb, hml, hown, hts⟩, -⟩ := id C
  have hl9 := C.2.1.2.2.1
  intro x0 x1 h H locs cells slots ls hH hL hl hrun
  unfold f_X4_isAlike_29 at hrun
  refine lv_iconst (v := (0 : Int32)) (pc := 29) hx hb dX4_isAlike_29 (by decide) ?_
  exact b_X4_isAlike_30 C x0 x1 (0 : Int32) h H locs cells slots ls hH hL (lv_sub hl [0, 1] rfl) hrun

theorem b_X4_isAlike {rr : (Int32 ⊕ Ex) × Hp}  (C : CX p l R s m args meth c D Hs cX4_isAlike "MassclaimModel" 3 (some .boolean) [] 5 84)  : ∀ (x0 : Nat) (x1 : Nat) (h : Hp) (H : Heap) (locs : List Loc) (cells slots : Nat) (ls : Array Slot), HP D Hs h H → LO Hs locs → lv_has ls 3 [(0, rv x0), (1, rv x1)] → f_X4_isAlike x0 x1 h = some rr → W p l e R s m args below meth c H locs cells slots (ZM D Hs iI rr below args s) (F0 m 0 ls []) := by
  obtain ⟨⟨hx, hb, hml, hown, hts⟩, -⟩ := id C
  have hl9 := C.2.1.2.2.1
  intro x0 x1 h H locs cells slots ls hH hL hl hrun
  unfold f_X4_isAlike at hrun
  refine V_aload_n (pc := 0) hx hb dX4_isAlike_0 rfl (lv_at hl 1 rfl) ?_
  obtain ⟨c6, hrun⟩ := gd_some hrun
  refine V_getI (pc := 1) C hH fr_X4_126 dX4_isAlike_1 c6 rfl ?_
  refine lv_if_ne (tgt := 29) (pc := 4) hx hb dX4_isAlike_4 (by decide) (fun c_ => ?_) (fun c_ => ?_)
  · have hrun := ite_f hrun c_
    exact b_X4_isAlike_29 C x0 x1 h H locs cells slots ls hH hL (lv_sub hl [0, 1] rfl) hrun
  · have hrun := ite_t hrun c_
    refine V_aload_n (pc := 7) hx hb dX4_isAlike_7 rfl (lv_at hl 1 rfl) ?_
    refine V_getI (pc := 8) C hH fr_X4_392 dX4_isAlike_8 c6 rfl ?_
    refine lv_if_ne (tgt := 29) (pc := 11) hx hb dX4_isAlike_11 (by decide) (fun c_ => ?_) (fun c_ => ?_)
    · have hrun := ite_f hrun c_
      exact b_X4_isAlike_29 C x0 x1 h H locs cells slots ls hH hL (lv_sub hl [0, 1] rfl) hrun
    · have hrun := ite_t hrun c_
      refine V_aload_n (pc := 14) hx hb dX4_isAlike_14 rfl (lv_at hl 0 rfl) ?_
      obtain ⟨c9, hrun⟩ := gd_some hrun
      refine V_bd (pc := 15) C hL rfl hrun (fun rr1 e1 => Z_runV (rest := []) C hH (m_X13_lawyer hl9 e1) wV_X4_395 c9 rfl (by decide) rfl rfl ⟨by decide, by decide⟩ rfl (Nat.le_of_ble_eq_true rfl) hl.1 dX4_isAlike_15) (fun v7 h8 H locs cells slots hH hL hrun => ?_)
      refine V_aload_n (pc := 18) hx hb dX4_isAlike_18 rfl (lv_at hl 1 rfl) ?_
      obtain ⟨c12, hrun⟩ := gd_some hrun
      refine V_bd (pc := 19) C hL rfl hrun (fun rr1 e1 => Z_runV (rest := [.int v7]) C hH (m_X13_lawyer hl9 e1) wV_X4_395 c12 rfl (by decide) rfl rfl ⟨by decide, by decide⟩ rfl (Nat.le_of_ble_eq_true rfl) hl.1 dX4_isAlike_19) (fun v10 h11 H locs cells slots hH hL hrun => ?_)
      refine lv_icmp_ne (tgt := 29) (pc := 22) hx hb dX4_isAlike_22 (by decide) (fun c_ => ?_) (fun c_ => ?_)
      · have hrun := ite_f hrun c_
        exact b_X4_isAlike_29 C x0 x1 h11 H locs cells slots ls hH hL (lv_sub hl [0, 1] rfl) hrun
      · have hrun := ite_t hrun c_
        refine lv_iconst (v := (1 : Int32)) (pc := 25) hx hb dX4_isAlike_25 (by decide) ?_
        refine lv_goto (tgt := 30) (pc := 26) hx hb dX4_isAlike_26 (by decide) ?_
        exact b_X4_isAlike_30 C x0 x1 (1 : Int32) h11 H locs cells slots ls hH hL (lv_sub hl [0, 1] rfl) hrun

theorem m_X4_isAlike {l : Launch} {D : va_G} {Hs : Heap} {h : Hp} {rr : (Int32 ⊕ Ex) × Hp} (hl9 : l.stackTraces = false) {x0 : Nat} {x1 : Nat} (hrun : f_X4_isAlike x0 x1 h = some rr) : CM l yX4_isAlike (ws_ yX4_isAlike cX4_isAlike 3 (some .boolean)) 5 84 iI [rv x0, rv x1] D Hs h rr := by
  refine CM.of (lv := [(0, rv x0), (1, rv x1)]) (plainFor_of_name (by decide)) hl9 (by simp [lv_args, rv_cat, cat_i, cat_l, cat_f, cat_d]) (by simp [lg_sl, rv_cat, cat_i, cat_l, cat_f, cat_d]) ?_
  intro p e R s m args below meth c H ls C hH hl hin
  exact b_X4_isAlike C x0 x1 _ H [] _ _ ls hH (fun _ q => nomatch q) (lv_sub hl [0, 1] rfl) hrun

/-! MassclaimModel.ring(LMassclaimModel$Claim;)V -/
def f_X4_ring_121  (h : Hp) : Rt Unit :=
  some (.inl (), h)
def f_X4_ring_112 (k49 : Nat → Nat → Int32 → Int32 → Hp → Rt Unit) (x0 : Nat) (x1 : Nat) (x2 : Int32) (x3 : Int32) (y0 : Nat) (y1 : Int32) (h : Hp) : Rt Unit :=
  gd (kC h y0 = 13) <| vl (sI h 1203 y0 y1) fun h2 => vl (x3 + (1 : Int32)) fun v3 => k49 x0 x1 x2 v3 h2
def f_X4_ring_49  : Nat → Nat → Nat → Int32 → Int32 → Hp → Rt Unit
  | 0, _, _, _, _, _ => none
  | n + 1, x0, x1, x2, x3, h => gd (kC h x0 = 4) <| gd (kC h (kR h 320 x0) = 18) <| bd (f_J2_size (kR h 320 x0) h) fun v5 h6 => if v5 ≤ x3 then
  (f_X4_ring_121  h6)
  else
  (if x2 < (3 : Int32) then
  (f_X4_ring_121  h6)
  else
  (gd (kC h6 x0 = 4) <| gd (kC h6 (kR h6 320 x0) = 18) <| bd (f_J2_get (kR h6 320 x0) x3 h6) fun v9 h10 => gd (v9 = 0 ∨ kC h10 v9 = 13) <| gd (kC h10 x0 = 4) <| gd (kC h10 (kR h10 320 x0) = 18) <| bd (f_J2_get (kR h10 320 x0) x3 h10) fun v14 h15 => gd (v14 = 0 ∨ kC h15 v14 = 13) <| bd (f_X4_isAlike x1 v14 h15) fun v18 h19 => if v18 = 0 then
  (gd (kC h19 x0 = 4) <| gd (kC h19 (kR h19 320 x0) = 18) <| bd (f_J2_get (kR h19 320 x0) x3 h19) fun v21 h22 => gd (v21 = 0 ∨ kC h22 v21 = 13) <| gd (kC h22 v21 = 13) <| f_X4_ring_112 (f_X4_ring_49 n) x0 x1 x2 x3 v9 (kI h22 1203 v21) h22)
  else
  (f_X4_ring_112 (f_X4_ring_49 n) x0 x1 x2 x3 v9 (2 : Int32) h19)))
def f_X4_ring_39 (k4 : Nat → Nat → Int32 → Int32 → Hp → Rt Unit) (x0 : Nat) (x1 : Nat) (x3 : Int32) (y0 : Int32) (y1 : Int32) (h : Hp) : Rt Unit :=
  vl (y0 + y1) fun v26 => vl (x3 + (1 : Int32)) fun v27 => k4 x0 x1 v26 v27 h
def f_X4_ring_4  : Nat → Nat → Nat → Int32 → Int32 → Hp → Rt Unit
  | 0, _, _, _, _, _ => none
  | n + 1, x0, x1, x2, x3, h => gd (kC h x0 = 4) <| gd (kC h (kR h 320 x0) = 18) <| bd (f_J2_size (kR h 320 x0) h) fun v29 h30 => if v29 ≤ x3 then
  (f_X4_ring_49 FU x0 x1 x2 (0 : Int32) h30)
  else
  (gd (kC h30 x0 = 4) <| gd (kC h30 (kR h30 320 x0) = 18) <| bd (f_J2_get (kR h30 320 x0) x3 h30) fun v33 h34 => gd (v33 = 0 ∨ kC h34 v33 = 13) <| bd (f_X4_isAlike x1 v33 h34) fun v37 h38 => if v37 = 0 then
  (f_X4_ring_39 (f_X4_ring_4 n) x0 x1 x3 x2 (0 : Int32) h38)
  else
  (f_X4_ring_39 (f_X4_ring_4 n) x0 x1 x3 x2 (1 : Int32) h38))
def f_X4_ring  (x0 : Nat) (x1 : Nat) (h : Hp) : Rt Unit :=
  f_X4_ring_4 FU x0 x1 (0 : Int32) (0 : Int32) h
theorem b_X4_ring_121 {rr : (Unit ⊕ Ex) × Hp}  (C : CX p l R s m args meth c D Hs cX4_ring "MassclaimModel" 4 none [] 6 106)  : ∀ (h : Hp) (H : Heap) (locs : List Loc) (cells slots : Nat) (ls : Array Slot), HP D Hs h H → LO Hs locs → lv_has ls 4 [] → f_X4_ring_121 h = some rr → W p l e R s m args below meth c H locs cells slots (ZM D Hs iV rr below args s) (F0 m 121 ls []) := by
  obtain ⟨⟨hx, hb, hml, hown, hts⟩, -⟩ := id C
  have hl9 := C.2.1.2.2.1
  intro h H locs cells slots ls hH hL hl hrun
  unfold f_X4_ring_121 at hrun
  exact V_vret (pc := 121) C hH hL hrun dX4_ring_121

theorem b_X4_ring_112 {rr : (Unit ⊕ Ex) × Hp} {k49 : Nat → Nat → Int32 → Int32 → Hp → Rt Unit} (C : CX p l R s m args meth c D Hs cX4_ring "MassclaimModel" 4 none [] 6 106) (K49 : ∀ (x0 : Nat) (x1 : Nat) (x2 : Int32) (x3 : Int32) (h : Hp) (H : Heap) (locs : List Loc) (cells slots : Nat) (ls : Array Slot), HP D Hs h H → LO Hs locs → lv_has ls 4 [(0, rv x0), (1, rv x1), (2, .int x2), (3, .int x3)] → k49 x0 x1 x2 x3 h = some rr → W p l e R s m args below meth c H locs cells slots (ZM D Hs iV rr below args s) (F0 m 49 ls [])) : ∀ (x0 : Nat) (x1 : Nat) (x2 : Int32) (x3 : Int32) (y0 : Nat) (y1 : Int32) (h : Hp) (H : Heap) (locs : List Loc) (cells slots : Nat) (ls : Array Slot), HP D Hs h H → LO Hs locs → lv_has ls 4 [(0, rv x0), (1, rv x1), (2, .int x2), (3, .int x3)] → f_X4_ring_112 k49 x0 x1 x2 x3 y0 y1 h = some rr → W p l e R s m args below meth c H locs cells slots (ZM D Hs iV rr below args s) (F0 m 112 ls [.int y1, rv y0]) := by
  obtain ⟨⟨hx, hb, hml, hown, hts⟩, -⟩ := id C
  have hl9 := C.2.1.2.2.1
  intro x0 x1 x2 x3 y0 y1 h H locs cells slots ls hH hL hl hrun
  unfold f_X4_ring_112 at hrun
  obtain ⟨c1, hrun⟩ := gd_some hrun
  refine V_putI (pc := 112) C hH hL fl_X4_126 dX4_ring_112 c1 (fok_i _) rfl (fun q => Bool.noConfusion q) hrun (fun h2 H locs hH hL hrun => ?_)
  obtain ⟨v3, ev3⟩ : ∃ y : Int32, y = x3 + (1 : Int32) := ⟨_, rfl⟩
  have hrun := vl_at hrun v3 ev3
  refine lv_iinc (v := v3) (lv' := [(3, .int v3), (0, rv x0), (1, rv x1), (2, .int x2)]) (pc := 115) hx hb dX4_ring_115 hl (k := 3) rfl (by rw [ev3]; rfl) (by decide) (by first | rfl | simp [rv_cat, cat_i, cat_l, cat_f, cat_d]) (fun ls hl => ?_)
  refine lv_goto (tgt := 49) (pc := 118) hx hb dX4_ring_118 (by decide) ?_
  exact K49 x0 x1 x2 v3 h2 H locs cells slots ls hH hL (lv_sub hl [1, 2, 3, 0] rfl) hrun

theorem b_X4_ring_49 {rr : (Unit ⊕ Ex) × Hp}  (C : CX p l R s m args meth c D Hs cX4_ring "MassclaimModel" 4 none [] 6 106)  : ∀ (n : Nat) (x0 : Nat) (x1 : Nat) (x2 : Int32) (x3 : Int32) (h : Hp) (H : Heap) (locs : List Loc) (cells slots : Nat) (ls : Array Slot), HP D Hs h H → LO Hs locs → lv_has ls 4 [(0, rv x0), (1, rv x1), (2, .int x2), (3, .int x3)] → f_X4_ring_49 n x0 x1 x2 x3 h = some rr → W p l e R s m args below meth c H locs cells slots (ZM D Hs iV rr below args s) (F0 m 49 ls []) := by
  obtain ⟨⟨hx, hb, hml, hown, hts⟩, -⟩ := id C
  have hl9 := C.2.1.2.2.1
  intro n
  induction n with
  | zero =>
    intro x0 x1 x2 x3 h H locs cells slots ls hH hL hl hrun
    cases (show (none : Option _) = some rr from hrun)
  | succ n ih =>
    intro x0 x1 x2 x3 h H locs cells slots ls hH hL hl hrun
    rw [f_X4_ring_49] at hrun
    refine lv_iload_n (pc := 49) hx hb dX4_ring_49 rfl (lv_at hl 3 rfl) ?_
    refine V_aload_n (pc := 50) hx hb dX4_ring_50 rfl (lv_at hl 0 rfl) ?_
    obtain ⟨c4, hrun⟩ := gd_some hrun
    refine V_getR (pc := 51) C hH fr_X4_30 dX4_ring_51 c4 rfl ?_
    obtain ⟨c7, hrun⟩ := gd_some hrun
    refine V_bd (pc := 54) C hL rfl hrun (fun rr1 e1 => Z_runV (rest := [.int x3]) C hH (m_J2_size hl9 e1) wV_X4_94 c7 rfl (by decide) rfl rfl ⟨by decide, by decide⟩ rfl (Nat.le_of_ble_eq_true rfl) hl.1 dX4_ring_54) (fun v5 h6 H locs cells slots hH hL hrun => ?_)
    refine lv_icmp_ge (tgt := 121) (pc := 57) hx hb dX4_ring_57 (by decide) (fun c_ => ?_) (fun c_ => ?_)
    · have hrun := ite_t hrun c_
      exact b_X4_ring_121 C h6 H locs cells slots ls hH hL (lv_sub hl [] rfl) hrun
    · have hrun := ite_f hrun c_
      refine lv_iload_n (pc := 60) hx hb dX4_ring_60 rfl (lv_at hl 2 rfl) ?_
      refine lv_iconst (v := (3 : Int32)) (pc := 61) hx hb dX4_ring_61 (by decide) ?_
      refine lv_icmp_lt (tgt := 121) (pc := 62) hx hb dX4_ring_62 (by decide) (fun c_ => ?_) (fun c_ => ?_)
      · have hrun := ite_t hrun c_
        exact b_X4_ring_121 C h6 H locs cells slots ls hH hL (lv_sub hl [] rfl) hrun
      · have hrun := ite_f hrun c_
        refine V_aload_n (pc := 65) hx hb dX4_ring_65 rfl (lv_at hl 0 rfl) ?_
        obtain ⟨c8, hrun⟩ := gd_some hrun
        refine V_getR (pc := 66) C hH fr_X4_30 dX4_ring_66 c8 rfl ?_
        refine lv_iload_n (pc := 69) hx hb dX4_ring_69 rfl (lv_at hl 3 rfl) ?_
        obtain ⟨c11, hrun⟩ := gd_some hrun
        refine V_bd (pc := 70) C hL rfl hrun (fun rr1 e1 => Z_runV (rest := []) C hH (m_J2_get hl9 e1) wV_X4_108 c11 rfl (by decide) rfl rfl ⟨by decide, by decide⟩ rfl (Nat.le_of_ble_eq_true rfl) hl.1 dX4_ring_70) (fun v9 h10 H locs cells slots hH hL hrun => ?_)
        obtain ⟨c12, hrun⟩ := gd_some hrun
        refine V_castX (pc := 73) (ci := 12) C hH rfl (by decide) q1955 dX4_ring_73 c12 ?_
        refine V_aload_n (pc := 76) hx hb dX4_ring_76 rfl (lv_at hl 1 rfl) ?_
        refine V_aload_n (pc := 77) hx hb dX4_ring_77 rfl (lv_at hl 0 rfl) ?_
        obtain ⟨c13, hrun⟩ := gd_some hrun
        refine V_getR (pc := 78) C hH fr_X4_30 dX4_ring_78 c13 rfl ?_
        refine lv_iload_n (pc := 81) hx hb dX4_ring_81 rfl (lv_at hl 3 rfl) ?_
        obtain ⟨c16, hrun⟩ := gd_some hrun
        refine V_bd (pc := 82) C hL rfl hrun (fun rr1 e1 => Z_runV (rest := [rv x1, rv v9]) C hH (m_J2_get hl9 e1) wV_X4_108 c16 rfl (by decide) rfl rfl ⟨by decide, by decide⟩ rfl (by simp [csum, rv_cat, cat_i, cat_l, cat_f, cat_d]) hl.1 dX4_ring_82) (fun v14 h15 H locs cells slots hH hL hrun => ?_)
        obtain ⟨c17, hrun⟩ := gd_some hrun
        refine V_castX (pc := 85) (ci := 12) C hH rfl (by decide) q1955 dX4_ring_85 c17 ?_
        refine V_bd (pc := 88) C hL rfl hrun (fun rr1 e1 => Z_runS (rest := [rv v9]) C hH (m_X4_isAlike hl9 e1) wS_X4_398 rfl ⟨by decide, by decide⟩ rfl (by simp [csum, rv_cat, cat_i, cat_l, cat_f, cat_d]) hl.1 dX4_ring_88) (fun v18 h19 H locs cells slots hH hL hrun => ?_)
        refine lv_if_eq (tgt := 98) (pc := 91) hx hb dX4_ring_91 (by decide) (fun c_ => ?_) (fun c_ => ?_)
        · have hrun := ite_t hrun c_
          refine V_aload_n (pc := 98) hx hb dX4_ring_98 rfl (lv_at hl 0 rfl) ?_
          obtain ⟨c20, hrun⟩ := gd_some hrun
          refine V_getR (pc := 99) C hH fr_X4_30 dX4_ring_99 c20 rfl ?_
          refine lv_iload_n (pc := 102) hx hb dX4_ring_102 rfl (lv_at hl 3 rfl) ?_
          obtain ⟨c23, hrun⟩ := gd_some hrun
          refine V_bd (pc := 103) C hL rfl hrun (fun rr1 e1 => Z_runV (rest := [rv v9]) C hH (m_J2_get hl9 e1) wV_X4_108 c23 rfl (by decide) rfl rfl ⟨by decide, by decide⟩ rfl (by simp [csum, rv_cat, cat_i, cat_l, cat_f, cat_d]) hl.1 dX4_ring_103) (fun v21 h22 H locs cells slots hH hL hrun => ?_)
          obtain ⟨c24, hrun⟩ := gd_some hrun
          refine V_castX (pc := 106) (ci := 12) C hH rfl (by decide) q1955 dX4_ring_106 c24 ?_
          obtain ⟨c25, hrun⟩ := gd_some hrun
          refine V_getI (pc := 109) C hH fr_X4_126 dX4_ring_109 c25 rfl ?_
          exact b_X4_ring_112 C ih x0 x1 x2 x3 v9 (kI h22 1203 v21) h22 H locs cells slots ls hH hL (lv_sub hl [0, 1, 2, 3] rfl) hrun
        · have hrun := ite_f hrun c_
          refine lv_iconst (v := (2 : Int32)) (pc := 94) hx hb dX4_ring_94 (by decide) ?_
          refine lv_goto (tgt := 112) (pc := 95) hx hb dX4_ring_95 (by decide) ?_
          exact b_X4_ring_112 C ih x0 x1 x2 x3 v9 (2 : Int32) h19 H locs cells slots ls hH hL (lv_sub hl [0, 1, 2, 3] rfl) hrun

theorem b_X4_ring_39 {rr : (Unit ⊕ Ex) × Hp} {k4 : Nat → Nat → Int32 → Int32 → Hp → Rt Unit} (C : CX p l R s m args meth c D Hs cX4_ring "MassclaimModel" 4 none [] 6 106) (K4 : ∀ (x0 : Nat) (x1 : Nat) (x2 : Int32) (x3 : Int32) (h : Hp) (H : Heap) (locs : List Loc) (cells slots : Nat) (ls : Array Slot), HP D Hs h H → LO Hs locs → lv_has ls 4 [(0, rv x0), (1, rv x1), (2, .int x2), (3, .int x3)] → k4 x0 x1 x2 x3 h = some rr → W p l e R s m args below meth c H locs cells slots (ZM D Hs iV rr below args s) (F0 m 4 ls [])) : ∀ (x0 : Nat) (x1 : Nat) (x3 : Int32) (y0 : Int32) (y1 : Int32) (h : Hp) (H : Heap) (locs : List Loc) (cells slots : Nat) (ls : Array Slot), HP D Hs h H → LO Hs locs → lv_has ls 4 [(0, rv x0), (1, rv x1), (3, .int x3)] → f_X4_ring_39 k4 x0 x1 x3 y0 y1 h = some rr → W p l e R s m args below meth c H locs cells slots (ZM D Hs iV rr below args s) (F0 m 39 ls [.int y1, .int y0]) := by
  obtain ⟨⟨hx, hb, hml, hown, hts⟩, -⟩ := id C
  have hl9 := C.2.1.2.2.1
  intro x0 x1 x3 y0 y1 h H locs cells slots ls hH hL hl hrun
  unfold f_X4_ring_39 at hrun
  refine lv_iadd (pc := 39) hx hb dX4_ring_39 ?_
  refine lv_topi (fun v26 ev26 => ?_)
  have hrun := vl_at hrun v26 ev26
  refine lv_istore_n (i := 2) (lv' := [(2, .int v26), (0, rv x0), (1, rv x1), (3, .int x3)]) (pc := 40) hx hb dX4_ring_40 rfl hl (by decide) (by simp [rv_cat, cat_i, cat_l, cat_f, cat_d]) (fun ls hl => ?_)
  obtain ⟨v27, ev27⟩ : ∃ y : Int32, y = x3 + (1 : Int32) := ⟨_, rfl⟩
  have hrun := vl_at hrun v27 ev27
  refine lv_iinc (v := v27) (lv' := [(3, .int v27), (2, .int v26), (0, rv x0), (1, rv x1)]) (pc := 41) hx hb dX4_ring_41 hl (k := 3) rfl (by rw [ev27]; rfl) (by decide) (by first | rfl | simp [rv_cat, cat_i, cat_l, cat_f, cat_d]) (fun ls hl => ?_)
  refine lv_goto (tgt := 4) (pc := 44) hx hb dX4_ring_44 (by decide) ?_
  exact K4 x0 x1 v26 v27 h H locs cells slots ls hH hL (lv_sub hl [2, 3, 1, 0] rfl) hrun

theorem b_X4_ring_4 {rr : (Unit ⊕ Ex) × Hp}  (C : CX p l R s m args meth c D Hs cX4_ring "MassclaimModel" 4 none [] 6 106)  : ∀ (n : Nat) (x0 : Nat) (x1 : Nat) (x2 : Int32) (x3 : Int32) (h : Hp) (H : Heap) (locs : List Loc) (cells slots : Nat) (ls : Array Slot), HP D Hs h H → LO Hs locs → lv_has ls 4 [(0, rv x0), (1, rv x1), (2, .int x2), (3, .int x3)] → f_X4_ring_4 n x0 x1 x2 x3 h = some rr → W p l e R s m args below meth c H locs cells slots (ZM D Hs iV rr below args s) (F0 m 4 ls []) := by
  obtain ⟨⟨hx, hb, hml, hown, hts⟩, -⟩ := id C
  have hl9 := C.2.1.2.2.1
  intro n
  induction n with
  | zero =>
    intro x0 x1 x2 x3 h H locs cells slots ls hH hL hl hrun
    cases (show (none : Option _) = some rr from hrun)
  | succ n ih =>
    intro x0 x1 x2 x3 h H locs cells slots ls hH hL hl hrun
    rw [f_X4_ring_4] at hrun
    refine lv_iload_n (pc := 4) hx hb dX4_ring_4 rfl (lv_at hl 3 rfl) ?_
    refine V_aload_n (pc := 5) hx hb dX4_ring_5 rfl (lv_at hl 0 rfl) ?_
    obtain ⟨c28, hrun⟩ := gd_some hrun
    refine V_getR (pc := 6) C hH fr_X4_30 dX4_ring_6 c28 rfl ?_
    obtain ⟨c31, hrun⟩ := gd_some hrun
    refine V_bd (pc := 9) C hL rfl hrun (fun rr1 e1 => Z_runV (rest := [.int x3]) C hH (m_J2_size hl9 e1) wV_X4_94 c31 rfl (by decide) rfl rfl ⟨by decide, by decide⟩ rfl (Nat.le_of_ble_eq_true rfl) hl.1 dX4_ring_9) (fun v29 h30 H locs cells slots hH hL hrun => ?_)
    refine lv_icmp_ge (tgt := 47) (pc := 12) hx hb dX4_ring_12 (by decide) (fun c_ => ?_) (fun c_ => ?_)
    · have hrun := ite_t hrun c_
      refine lv_iconst (v := (0 : Int32)) (pc := 47) hx hb dX4_ring_47 (by decide) ?_
      refine lv_istore_n (i := 3) (lv' := [(3, .int (0 : Int32)), (0, rv x0), (1, rv x1), (2, .int x2)]) (pc := 48) hx hb dX4_ring_48 rfl hl (by decide) rfl (fun ls hl => ?_)
      exact b_X4_ring_49 C FU x0 x1 x2 (0 : Int32) h30 H locs cells slots ls hH hL (lv_sub hl [1, 2, 3, 0] rfl) hrun
    · have hrun := ite_f hrun c_
      refine lv_iload_n (pc := 15) hx hb dX4_ring_15 rfl (lv_at hl 2 rfl) ?_
      refine V_aload_n (pc := 16) hx hb dX4_ring_16 rfl (lv_at hl 1 rfl) ?_
      refine V_aload_n (pc := 17) hx hb dX4_ring_17 rfl (lv_at hl 0 rfl) ?_
      obtain ⟨c32, hrun⟩ := gd_some hrun
      refine V_getR (pc := 18) C hH fr_X4_30 dX4_ring_18 c32 rfl ?_
      refine lv_iload_n (pc := 21) hx hb dX4_ring_21 rfl (lv_at hl 3 rfl) ?_
      obtain ⟨c35, hrun⟩ := gd_some hrun
      refine V_bd (pc := 22) C hL rfl hrun (fun rr1 e1 => Z_runV (rest := [rv x1, .int x2]) C hH (m_J2_get hl9 e1) wV_X4_108 c35 rfl (by decide) rfl rfl ⟨by decide, by decide⟩ rfl (by simp [csum, rv_cat, cat_i, cat_l, cat_f, cat_d]) hl.1 dX4_ring_22) (fun v33 h34 H locs cells slots hH hL hrun => ?_)
      obtain ⟨c36, hrun⟩ := gd_some hrun
      refine V_castX (pc := 25) (ci := 12) C hH rfl (by decide) q1955 dX4_ring_25 c36 ?_
      refine V_bd (pc := 28) C hL rfl hrun (fun rr1 e1 => Z_runS (rest := [.int x2]) C hH (m_X4_isAlike hl9 e1) wS_X4_398 rfl ⟨by decide, by decide⟩ rfl (Nat.le_of_ble_eq_true rfl) hl.1 dX4_ring_28) (fun v37 h38 H locs cells slots hH hL hrun => ?_)
      refine lv_if_eq (tgt := 38) (pc := 31) hx hb dX4_ring_31 (by decide) (fun c_ => ?_) (fun c_ => ?_)
      · have hrun := ite_t hrun c_
        refine lv_iconst (v := (0 : Int32)) (pc := 38) hx hb dX4_ring_38 (by decide) ?_
        exact b_X4_ring_39 C ih x0 x1 x3 x2 (0 : Int32) h38 H locs cells slots ls hH hL (lv_sub hl [0, 1, 3] rfl) hrun
      · have hrun := ite_f hrun c_
        refine lv_iconst (v := (1 : Int32)) (pc := 34) hx hb dX4_ring_34 (by decide) ?_
        refine lv_goto (tgt := 39) (pc := 35) hx hb dX4_ring_35 (by decide) ?_
        exact b_X4_ring_39 C ih x0 x1 x3 x2 (1 : Int32) h38 H locs cells slots ls hH hL (lv_sub hl [0, 1, 3] rfl) hrun

theorem b_X4_ring {rr : (Unit ⊕ Ex) × Hp}  (C : CX p l R s m args meth c D Hs cX4_ring "MassclaimModel" 4 none [] 6 106)  : ∀ (x0 : Nat) (x1 : Nat) (h : Hp) (H : Heap) (locs : List Loc) (cells slots : Nat) (ls : Array Slot), HP D Hs h H → LO Hs locs → lv_has ls 4 [(0, rv x0), (1, rv x1)] → f_X4_ring x0 x1 h = some rr → W p l e R s m args below meth c H locs cells slots (ZM D Hs iV rr below args s) (F0 m 0 ls []) := by
  obtain ⟨⟨hx, hb, hml, hown, hts⟩, -⟩ := id C
  have hl9 := C.2.1.2.2.1
  intro x0 x1 h H locs cells slots ls hH hL hl hrun
  unfold f_X4_ring at hrun
  refine lv_iconst (v := (0 : Int32)) (pc := 0) hx hb dX4_ring_0 (by decide) ?_
  refine lv_istore_n (i := 2) (lv' := [(2, .int (0 : Int32)), (0, rv x0), (1, rv x1)]) (pc := 1) hx hb dX4_ring_1 rfl hl (by decide) (by simp [rv_cat, cat_i, cat_l, cat_f, cat_d]) (fun ls hl => ?_)
  refine lv_iconst (v := (0 : Int32)) (pc := 2) hx hb dX4_ring_2 (by decide) ?_
  refine lv_istore_n (i := 3) (lv' := [(3, .int (0 : Int32)), (2, .int (0 : Int32)), (0, rv x0), (1, rv x1)]) (pc := 3) hx hb dX4_ring_3 rfl hl (by decide) rfl (fun ls hl => ?_)
  exact b_X4_ring_4 C FU x0 x1 (0 : Int32) (0 : Int32) h H locs cells slots ls hH hL (lv_sub hl [2, 3, 1, 0] rfl) hrun

theorem m_X4_ring {l : Launch} {D : va_G} {Hs : Heap} {h : Hp} {rr : (Unit ⊕ Ex) × Hp} (hl9 : l.stackTraces = false) {x0 : Nat} {x1 : Nat} (hrun : f_X4_ring x0 x1 h = some rr) : CM l yX4_ring (ws_ yX4_ring cX4_ring 4 none) 6 106 iV [rv x0, rv x1] D Hs h rr := by
  refine CM.of (lv := [(0, rv x0), (1, rv x1)]) (plainFor_of_name (by decide)) hl9 (by simp [lv_args, rv_cat, cat_i, cat_l, cat_f, cat_d]) (by simp [lg_sl, rv_cat, cat_i, cat_l, cat_f, cat_d]) ?_
  intro p e R s m args below meth c H ls C hH hl hin
  exact b_X4_ring C x0 x1 _ H [] _ _ ls hH (fun _ q => nomatch q) (lv_sub hl [0, 1] rfl) hrun
end WK11

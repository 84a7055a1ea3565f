section WK13
variable {p : Program} {l : Launch} {e : Env} {R : Room} {s : State} {m : MethodId} {args : Array Value} {below : List Frame} {meth : Method} {c : Code} {D : va_G} {Hs : Heap} {F X : Nat}
/-! MassclaimModel.takeOver(II)I -/
def f_X4_takeOver_84  (h : Hp) : Rt Int32 :=
  some (.inl (0 : Int32), h)
def f_X4_takeOver_77  (x0 : Nat) (x2 : Int32) (x3 : Nat) (y0 : Nat) (y1 : Int32) (h : Hp) : Rt Int32 :=
  gd (kC h y0 = 4) <| bd (f_X4_isGood y0 y1 (3 : Int32) h) fun v1 h2 => if v1 = 0 then
  (f_X4_takeOver_84  h2)
  else
  (gd (kC h2 x3 = 13) <| bd (f_X13_lawyer x3 h2) fun v4 h5 => gd (kC h5 x3 = 13) <| na h5 101 (2 : Int32) fun q8 h9 => gd (kC h9 q8 = 101 ∧ ixo (0 : Int32) (kN h9 q8)) <| vl (tI h9 q8 ((0 : Int32)).toNatClampNeg x2) fun h11 => gd (kC h11 x0 = 4) <| gd (kC h11 q8 = 101 ∧ ixo (1 : Int32) (kN h11 q8)) <| vl (tI h11 q8 ((1 : Int32)).toNatClampNeg (kI h11 301 x0)) fun h14 => gd (kC h14 (kR h5 1209 x3) = 18) <| bd (f_J2_add (kR h5 1209 x3) q8 h14) fun v15 h16 => some (.inl v4, h16))
def f_X4_takeOver_53  (x0 : Nat) (x2 : Int32) (x3 : Nat) (y0 : Nat) (y1 : Int32) (h : Hp) : Rt Int32 :=
  gd (kC h y0 = 4) <| bd (f_X4_isGood y0 y1 (2 : Int32) h) fun v18 h19 => if v18 = 0 then
  (f_X4_takeOver_84  h19)
  else
  (gd (kC h19 x3 = 13) <| gd (kC h19 (kR h19 1209 x3) = 18) <| bd (f_J2_size (kR h19 1209 x3) h19) fun v22 h23 => if (4 : Int32) ≤ v22 then
  (f_X4_takeOver_77 x0 x2 x3 x0 (0 : Int32) h23)
  else
  (f_X4_takeOver_77 x0 x2 x3 x0 (1 : Int32) h23))
def f_X4_takeOver_52  (x0 : Nat) (x2 : Int32) (x3 : Nat) (y0 : Nat) (h : Hp) : Rt Int32 :=
  f_X4_takeOver_53 x0 x2 x3 y0 (0 : Int32) h
def f_X4_takeOver  (x0 : Nat) (x1 : Int32) (x2 : Int32) (h : Hp) : Rt Int32 :=
  gd (kC h x0 = 4) <| bd (f_X4_isClaim x0 x1 h) fun v25 h26 => gd (kC h26 x0 = 4) <| bd (f_X4_isGood x0 v25 (1 : Int32) h26) fun v28 h29 => if v28 = 0 then
  (some (.inl (0 : Int32), h29))
  else
  (gd (kC h29 x0 = 4) <| gd (kC h29 (kR h29 320 x0) = 18) <| bd (f_J2_get (kR h29 320 x0) x1 h29) fun v32 h33 => gd (v32 = 0 ∨ kC h33 v32 = 13) <| bd (f_X4_isWithin (x2.toInt64) (0 : Int64) (5 : Int64) h33) fun v36 h37 => if v36 = 0 then
  (f_X4_takeOver_52 x0 x2 v32 x0 h37)
  else
  (gd (kC h37 v32 = 13) <| bd (f_X13_lawyer v32 h37) fun v38 h39 => if x2 = v38 then
  (f_X4_takeOver_52 x0 x2 v32 x0 h39)
  else
  (f_X4_takeOver_53 x0 x2 v32 x0 (1 : Int32) h39)))
theorem b_X4_takeOver_84 {rr : (Int32 ⊕ Ex) × Hp}  (C : CX p l R s m args meth c D Hs cX4_takeOver "MassclaimModel" 5 (some .int) [] 8 331)  : ∀ (h : Hp) (H : Heap) (locs : List Loc) (cells slots : Nat) (ls : Array Slot), HP D Hs h H → LO Hs locs → lv_has ls 5 [] → f_X4_takeOver_84 h = some rr → W p l e R s m args below meth c H locs cells slots (ZM D Hs iI rr below args s) (F0 m 84 ls []) := by
  obtain ⟨⟨hx, hb, hml, hown, hts⟩, -⟩ := id C
  have hl9 := C.2.1.2.2.1
  intro h H locs cells slots ls hH hL hl hrun
  unfold f_X4_takeOver_84 at hrun
  refine lv_iconst (v := (0 : Int32)) (pc := 84) hx hb dX4_takeOver_84 (by decide) ?_
  exact V_iret (pc := 85) C hH hL hrun dX4_takeOver_85

theorem b_X4_takeOver_77 {rr : (Int32 ⊕ Ex) × Hp}  (C : CX p l R s m args meth c D Hs cX4_takeOver "MassclaimModel" 5 (some .int) [] 8 331)  : ∀ (x0 : Nat) (x2 : Int32) (x3 : Nat) (y0 : Nat) (y1 : Int32) (h : Hp) (H : Heap) (locs : List Loc) (cells slots : Nat) (ls : Array Slot), HP D Hs h H → LO Hs locs → lv_has ls 5 [(0, rv x0), (2, .int x2), (3, rv x3)] → f_X4_takeOver_77 x0 x2 x3 y0 y1 h = some rr → W p l e R s m args below meth c H locs cells slots (ZM D Hs iI rr below args s) (F0 m 77 ls [.int y1, rv y0]) := by
  obtain ⟨⟨hx, hb, hml, hown, hts⟩, -⟩ := id C
  have hl9 := C.2.1.2.2.1
  intro x0 x2 x3 y0 y1 h H locs cells slots ls hH hL hl hrun
  unfold f_X4_takeOver_77 at hrun
  refine lv_iconst (v := (3 : Int32)) (pc := 77) hx hb dX4_takeOver_77 (by decide) ?_
  obtain ⟨c3, hrun⟩ := gd_some hrun
  refine V_bd (pc := 78) C hL rfl hrun (fun rr1 e1 => Z_runV (rest := []) C hH (m_X4_isGood hl9 e1) wV_X4_104 c3 rfl (by decide) rfl rfl ⟨by decide, by decide⟩ rfl (Nat.le_of_ble_eq_true rfl) hl.1 dX4_takeOver_78) (fun v1 h2 H locs cells slots hH hL hrun => ?_)
  refine lv_if_ne (tgt := 86) (pc := 81) hx hb dX4_takeOver_81 (by decide) (fun c_ => ?_) (fun c_ => ?_)
  · have hrun := ite_f hrun c_
    refine V_aload_n (pc := 86) hx hb dX4_takeOver_86 rfl (lv_at hl 2 rfl) ?_
    obtain ⟨c6, hrun⟩ := gd_some hrun
    refine V_bd (pc := 87) C hL rfl hrun (fun rr1 e1 => Z_runV (rest := []) C hH (m_X13_lawyer hl9 e1) wV_X4_395 c6 rfl (by decide) rfl rfl ⟨by decide, by decide⟩ rfl (Nat.le_of_ble_eq_true rfl) hl.1 dX4_takeOver_87) (fun v4 h5 H locs cells slots hH hL hrun => ?_)
    refine lv_istore (i := 4) (lv' := [(4, .int v4), (0, rv x0), (2, .int x2), (3, rv x3)]) (pc := 90) hx hb dX4_takeOver_90 hl (by decide) (by simp [rv_cat, cat_i, cat_l, cat_f, cat_d]) (fun ls hl => ?_)
    refine V_aload_n (pc := 92) hx hb dX4_takeOver_92 rfl (lv_at hl 3 rfl) ?_
    obtain ⟨c7, hrun⟩ := gd_some hrun
    refine V_getR (pc := 93) C hH fr_X4_386 dX4_takeOver_93 c7 rfl ?_
    refine lv_iconst (v := (2 : Int32)) (pc := 96) hx hb dX4_takeOver_96 (by decide) ?_
    refine V_newa (at_ := .int) (pc := 97) C hH (Or.inl ⟨rfl, rfl⟩) q194 dX4_takeOver_97 hrun (fun q8 h9 H cells slots hH hrun => ?_)
    refine lv_dup (pc := 99) hx hb dX4_takeOver_99 (rv_cat _) ?_
    refine lv_iconst (v := (0 : Int32)) (pc := 100) hx hb dX4_takeOver_100 (by decide) ?_
    refine lv_iload_n (pc := 101) hx hb dX4_takeOver_101 rfl (lv_at hl 2 rfl) ?_
    obtain ⟨c10, hrun⟩ := gd_some hrun
    refine V_iast (pc := 102) C hH hL dX4_takeOver_102 c10 hrun (fun h11 H locs hH hL hrun => ?_)
    refine lv_dup (pc := 103) hx hb dX4_takeOver_103 (rv_cat _) ?_
    refine lv_iconst (v := (1 : Int32)) (pc := 104) hx hb dX4_takeOver_104 (by decide) ?_
    refine V_aload_n (pc := 105) hx hb dX4_takeOver_105 rfl (lv_at hl 1 rfl) ?_
    obtain ⟨c12, hrun⟩ := gd_some hrun
    refine V_getI (pc := 106) C hH fr_X4_43 dX4_takeOver_106 c12 rfl ?_
    obtain ⟨c13, hrun⟩ := gd_some hrun
    refine V_iast (pc := 109) C hH hL dX4_takeOver_109 c13 hrun (fun h14 H locs hH hL hrun => ?_)
    obtain ⟨c17, hrun⟩ := gd_some hrun
    refine V_bd (pc := 110) C hL rfl hrun (fun rr1 e1 => Z_runV (rest := []) C hH (m_J2_add hl9 e1) wV_X4_186 c17 rfl (by decide) rfl rfl ⟨by decide, by decide⟩ rfl (Nat.le_of_ble_eq_true rfl) hl.1 dX4_takeOver_110) (fun v15 h16 H locs cells slots hH hL hrun => ?_)
    refine lv_pop (pc := 113) hx hb dX4_takeOver_113 rfl ?_
    refine lv_iload (pc := 114) hx hb dX4_takeOver_114 (lv_at hl 0 rfl) ?_
    exact V_iret (pc := 116) C hH hL hrun dX4_takeOver_116
  · have hrun := ite_t hrun c_
    exact b_X4_takeOver_84 C h2 H locs cells slots ls hH hL (lv_sub hl [] rfl) hrun

theorem b_X4_takeOver_53 {rr : (Int32 ⊕ Ex) × Hp}  (C : CX p l R s m args meth c D Hs cX4_takeOver "MassclaimModel" 5 (some .int) [] 8 331)  : ∀ (x0 : Nat) (x2 : Int32) (x3 : Nat) (y0 : Nat) (y1 : Int32) (h : Hp) (H : Heap) (locs : List Loc) (cells slots : Nat) (ls : Array Slot), HP D Hs h H → LO Hs locs → lv_has ls 5 [(0, rv x0), (2, .int x2), (3, rv x3)] → f_X4_takeOver_53 x0 x2 x3 y0 y1 h = some rr → W p l e R s m args below meth c H locs cells slots (ZM D Hs iI rr below args s) (F0 m 53 ls [.int y1, rv y0]) := by
  obtain ⟨⟨hx, hb, hml, hown, hts⟩, -⟩ := id C
  have hl9 := C.2.1.2.2.1
  intro x0 x2 x3 y0 y1 h H locs cells slots ls hH hL hl hrun
  unfold f_X4_takeOver_53 at hrun
  refine lv_iconst (v := (2 : Int32)) (pc := 53) hx hb dX4_takeOver_53 (by decide) ?_
  obtain ⟨c20, hrun⟩ := gd_some hrun
  refine V_bd (pc := 54) C hL rfl hrun (fun rr1 e1 => Z_runV (rest := []) C hH (m_X4_isGood hl9 e1) wV_X4_104 c20 rfl (by decide) rfl rfl ⟨by decide, by decide⟩ rfl (Nat.le_of_ble_eq_true rfl) hl.1 dX4_takeOver_54) (fun v18 h19 H locs cells slots hH hL hrun => ?_)
  refine lv_if_eq (tgt := 84) (pc := 57) hx hb dX4_takeOver_57 (by decide) (fun c_ => ?_) (fun c_ => ?_)
  · have hrun := ite_t hrun c_
    exact b_X4_takeOver_84 C h19 H locs cells slots ls hH hL (lv_sub hl [] rfl) hrun
  · have hrun := ite_f hrun c_
    refine V_aload_n (pc := 60) hx hb dX4_takeOver_60 rfl (lv_at hl 0 rfl) ?_
    refine V_aload_n (pc := 61) hx hb dX4_takeOver_61 rfl (lv_at hl 2 rfl) ?_
    obtain ⟨c21, hrun⟩ := gd_some hrun
    refine V_getR (pc := 62) C hH fr_X4_386 dX4_takeOver_62 c21 rfl ?_
    obtain ⟨c24, hrun⟩ := gd_some hrun
    refine V_bd (pc := 65) C hL rfl hrun (fun rr1 e1 => Z_runV (rest := [rv x0]) C hH (m_J2_size hl9 e1) wV_X4_94 c24 rfl (by decide) rfl rfl ⟨by decide, by decide⟩ rfl (by simp [csum, rv_cat, cat_i, cat_l, cat_f, cat_d]) hl.1 dX4_takeOver_65) (fun v22 h23 H locs cells slots hH hL hrun => ?_)
    refine lv_iconst (v := (4 : Int32)) (pc := 68) hx hb dX4_takeOver_68 (by decide) ?_
    refine lv_icmp_ge (tgt := 76) (pc := 69) hx hb dX4_takeOver_69 (by decide) (fun c_ => ?_) (fun c_ => ?_)
    · have hrun := ite_t hrun c_
      refine lv_iconst (v := (0 : Int32)) (pc := 76) hx hb dX4_takeOver_76 (by decide) ?_
      exact b_X4_takeOver_77 C x0 x2 x3 x0 (0 : Int32) h23 H locs cells slots ls hH hL (lv_sub hl [0, 1, 2] rfl) hrun
    · have hrun := ite_f hrun c_
      refine lv_iconst (v := (1 : Int32)) (pc := 72) hx hb dX4_takeOver_72 (by decide) ?_
      refine lv_goto (tgt := 77) (pc := 73) hx hb dX4_takeOver_73 (by decide) ?_
      exact b_X4_takeOver_77 C x0 x2 x3 x0 (1 : Int32) h23 H locs cells slots ls hH hL (lv_sub hl [0, 1, 2] rfl) hrun

theorem b_X4_takeOver_52 {rr : (Int32 ⊕ Ex) × Hp}  (C : CX p l R s m args meth c D Hs cX4_takeOver "MassclaimModel" 5 (some .int) [] 8 331)  : ∀ (x0 : Nat) (x2 : Int32) (x3 : Nat) (y0 : Nat) (h : Hp) (H : Heap) (locs : List Loc) (cells slots : Nat) (ls : Array Slot), HP D Hs h H → LO Hs locs → lv_has ls 5 [(0, rv x0), (2, .int x2), (3, rv x3)] → f_X4_takeOver_52 x0 x2 x3 y0 h = some rr → W p l e R s m args below meth c H locs cells slots (ZM D Hs iI rr below args s) (F0 m 52 ls [rv y0]) := by
  obtain ⟨⟨hx, hb, hml, hown, hts⟩, -⟩ := id C
  have hl9 := C.2.1.2.2.1
  intro x0 x2 x3 y0 h H locs cells slots ls hH hL hl hrun
  unfold f_X4_takeOver_52 at hrun
  refine lv_iconst (v := (0 : Int32)) (pc := 52) hx hb dX4_takeOver_52 (by decide) ?_
  exact b_X4_takeOver_53 C x0 x2 x3 y0 (0 : Int32) h H locs cells slots ls hH hL (lv_sub hl [0, 1, 2] rfl) hrun

theorem b_X4_takeOver {rr : (Int32 ⊕ Ex) × Hp}  (C : CX p l R s m args meth c D Hs cX4_takeOver "MassclaimModel" 5 (some .int) [] 8 331)  : ∀ (x0 : Nat) (x1 : Int32) (x2 : Int32) (h : Hp) (H : Heap) (locs : List Loc) (cells slots : Nat) (ls : Array Slot), HP D Hs h H → LO Hs locs → lv_has ls 5 [(0, rv x0), (1, .int x1), (2, .int x2)] → f_X4_takeOver x0 x1 x2 h = some rr → W p l e R s m args below meth c H locs cells slots (ZM D Hs iI rr below args s) (F0 m 0 ls []) := by
  obtain ⟨⟨hx, hb, hml, hown, hts⟩, -⟩ := id C
  have hl9 := C.2.1.2.2.1
  intro x0 x1 x2 h H locs cells slots ls hH hL hl hrun
  unfold f_X4_takeOver at hrun
  refine V_aload_n (pc := 0) hx hb dX4_takeOver_0 rfl (lv_at hl 0 rfl) ?_
  refine V_aload_n (pc := 1) hx hb dX4_takeOver_1 rfl (lv_at hl 0 rfl) ?_
  refine lv_iload_n (pc := 2) hx hb dX4_takeOver_2 rfl (lv_at hl 1 rfl) ?_
  obtain ⟨c27, hrun⟩ := gd_some hrun
  refine V_bd (pc := 3) C hL rfl hrun (fun rr1 e1 => Z_runV (rest := [rv x0]) C hH (m_X4_isClaim hl9 e1) wV_X4_416 c27 rfl (by decide) rfl rfl ⟨by decide, by decide⟩ rfl (by simp [csum, rv_cat, cat_i, cat_l, cat_f, cat_d]) hl.1 dX4_takeOver_3) (fun v25 h26 H locs cells slots hH hL hrun => ?_)
  refine lv_iconst (v := (1 : Int32)) (pc := 6) hx hb dX4_takeOver_6 (by decide) ?_
  obtain ⟨c30, hrun⟩ := gd_some hrun
  refine V_bd (pc := 7) C hL rfl hrun (fun rr1 e1 => Z_runV (rest := []) C hH (m_X4_isGood hl9 e1) wV_X4_104 c30 rfl (by decide) rfl rfl ⟨by decide, by decide⟩ rfl (Nat.le_of_ble_eq_true rfl) hl.1 dX4_takeOver_7) (fun v28 h29 H locs cells slots hH hL hrun => ?_)
  refine lv_if_ne (tgt := 15) (pc := 10) hx hb dX4_takeOver_10 (by decide) (fun c_ => ?_) (fun c_ => ?_)
  · have hrun := ite_f hrun c_
    refine V_aload_n (pc := 15) hx hb dX4_takeOver_15 rfl (lv_at hl 0 rfl) ?_
    obtain ⟨c31, hrun⟩ := gd_some hrun
    refine V_getR (pc := 16) C hH fr_X4_30 dX4_takeOver_16 c31 rfl ?_
    refine lv_iload_n (pc := 19) hx hb dX4_takeOver_19 rfl (lv_at hl 1 rfl) ?_
    obtain ⟨c34, hrun⟩ := gd_some hrun
    refine V_bd (pc := 20) C hL rfl hrun (fun rr1 e1 => Z_runV (rest := []) C hH (m_J2_get hl9 e1) wV_X4_108 c34 rfl (by decide) rfl rfl ⟨by decide, by decide⟩ rfl (Nat.le_of_ble_eq_true rfl) hl.1 dX4_takeOver_20) (fun v32 h33 H locs cells slots hH hL hrun => ?_)
    obtain ⟨c35, hrun⟩ := gd_some hrun
    refine V_castX (pc := 23) (ci := 12) C hH rfl (by decide) q1955 dX4_takeOver_23 c35 ?_
    refine V_astore_n (i := 3) (lv' := [(3, rv v32), (0, rv x0), (1, .int x1), (2, .int x2)]) (pc := 26) hx hb dX4_takeOver_26 rfl hl (by decide) rfl (fun ls hl => ?_)
    refine V_aload_n (pc := 27) hx hb dX4_takeOver_27 rfl (lv_at hl 1 rfl) ?_
    refine lv_iload_n (pc := 28) hx hb dX4_takeOver_28 rfl (lv_at hl 3 rfl) ?_
    refine lv_i2l (pc := 29) hx hb dX4_takeOver_29 rfl ?_
    refine lv_lconst (v := (0 : Int64)) (pc := 30) hx hb dX4_takeOver_30 (by decide) ?_
    refine lv_ldc2 (pc := 31) hx hb hown (hts _ q2071) dX4_takeOver_31 ?_
    refine V_bd (pc := 34) C hL rfl hrun (fun rr1 e1 => Z_runS (rest := [rv x0]) C hH (m_X4_isWithin hl9 e1) wS_X4_100 rfl ⟨by decide, by decide⟩ rfl (by simp [csum, rv_cat, cat_i, cat_l, cat_f, cat_d]) hl.1 dX4_takeOver_34) (fun v36 h37 H locs cells slots hH hL hrun => ?_)
    refine lv_if_eq (tgt := 52) (pc := 37) hx hb dX4_takeOver_37 (by decide) (fun c_ => ?_) (fun c_ => ?_)
    · have hrun := ite_t hrun c_
      exact b_X4_takeOver_52 C x0 x2 v32 x0 h37 H locs cells slots ls hH hL (lv_sub hl [1, 3, 0] rfl) hrun
    · have hrun := ite_f hrun c_
      refine lv_iload_n (pc := 40) hx hb dX4_takeOver_40 rfl (lv_at hl 3 rfl) ?_
      refine V_aload_n (pc := 41) hx hb dX4_takeOver_41 rfl (lv_at hl 0 rfl) ?_
      obtain ⟨c40, hrun⟩ := gd_some hrun
      refine V_bd (pc := 42) C hL rfl hrun (fun rr1 e1 => Z_runV (rest := [.int x2, rv x0]) C hH (m_X13_lawyer hl9 e1) wV_X4_395 c40 rfl (by decide) rfl rfl ⟨by decide, by decide⟩ rfl (by simp [csum, rv_cat, cat_i, cat_l, cat_f, cat_d]) hl.1 dX4_takeOver_42) (fun v38 h39 H locs cells slots hH hL hrun => ?_)
      refine lv_icmp_eq (tgt := 52) (pc := 45) hx hb dX4_takeOver_45 (by decide) (fun c_ => ?_) (fun c_ => ?_)
      · have hrun := ite_t hrun c_
        exact b_X4_takeOver_52 C x0 x2 v32 x0 h39 H locs cells slots ls hH hL (lv_sub hl [1, 3, 0] rfl) hrun
      · have hrun := ite_f hrun c_
        refine lv_iconst (v := (1 : Int32)) (pc := 48) hx hb dX4_takeOver_48 (by decide) ?_
        refine lv_goto (tgt := 53) (pc := 49) hx hb dX4_takeOver_49 (by decide) ?_
        exact b_X4_takeOver_53 C x0 x2 v32 x0 (1 : Int32) h39 H locs cells slots ls hH hL (lv_sub hl [1, 3, 0] rfl) hrun
  · have hrun := ite_t hrun c_
    refine lv_iconst (v := (0 : Int32)) (pc := 13) hx hb dX4_takeOver_13 (by decide) ?_
    exact V_iret (pc := 14) C hH hL hrun dX4_takeOver_14

theorem m_X4_takeOver {l : Launch} {D : va_G} {Hs : Heap} {h : Hp} {rr : (Int32 ⊕ Ex) × Hp} (hl9 : l.stackTraces = false) {x0 : Nat} {x1 : Int32} {x2 : Int32} (hrun : f_X4_takeOver x0 x1 x2 h = some rr) : CM l yX4_takeOver (ws_ yX4_takeOver cX4_takeOver 5 (some .int)) 8 331 iI [rv x0, .int x1, .int x2] D Hs h rr := by
  refine CM.of (lv := [(0, rv x0), (1, .int x1), (2, .int x2)]) (plainFor_of_name (by decide)) hl9 (by simp [lv_args, rv_cat, cat_i, cat_l, cat_f, cat_d]) (by simp [lg_sl, rv_cat, cat_i, cat_l, cat_f, cat_d]) ?_
  intro p e R s m args below meth c H ls C hH hl hin
  exact b_X4_takeOver C x0 x1 x2 _ H [] _ _ ls hH (fun _ q => nomatch q) (lv_sub hl [0, 1, 2] rfl) hrun

/-! Massclaim.parts(II)I -/
def f_X1_parts  (x0 : Nat) (x1 : Int32) (x2 : Int32) (h : Hp) : Rt Int32 :=
  gd (kC h x0 = 1) <| gd (kC h (kR h 3 x0) = 2) <| bd (f_X2_at (kR h 3 x0) x1 h) fun v2 h3 => gd (v2 = 0 ∨ kC h3 v2 = 12) <| bd (f_X1_isIn (x2.toInt64) (1 : Int64) (20 : Int64) h3) fun v6 h7 => bd (f_X1_requireArgument v6 h7) fun _ h9 => gd (kC h9 v2 = 12) <| vl (kI h9 1105 v2) fun v11 => vl (sI h9 1105 v2 x2) fun h12 => some (.inl v11, h12)
theorem b_X1_parts {rr : (Int32 ⊕ Ex) × Hp}  (C : CX p l R s m args meth c D Hs cX1_parts "Massclaim" 5 (some .int) [] 8 131)  : ∀ (x0 : Nat) (x1 : Int32) (x2 : Int32) (h : Hp) (H : Heap) (locs : List Loc) (cells slots : Nat) (ls : Array Slot), HP D Hs h H → LO Hs locs → lv_has ls 5 [(0, rv x0), (1, .int x1), (2, .int x2)] → f_X1_parts x0 x1 x2 h = some rr → W p l e R s m args below meth c H locs cells slots (ZM D Hs iI rr below args s) (F0 m 0 ls []) := by
  obtain ⟨⟨hx, hb, hml, hown, hts⟩, -⟩ := id C
  have hl9 := C.2.1.2.2.1
  intro x0 x1 x2 h H locs cells slots ls hH hL hl hrun
  unfold f_X1_parts at hrun
  refine V_aload_n (pc := 0) hx hb dX1_parts_0 rfl (lv_at hl 0 rfl) ?_
  obtain ⟨c1, hrun⟩ := gd_some hrun
  refine V_getR (pc := 1) C hH fr_X1_52 dX1_parts_1 c1 rfl ?_
  refine lv_iload_n (pc := 4) hx hb dX1_parts_4 rfl (lv_at hl 1 rfl) ?_
  obtain ⟨c4, hrun⟩ := gd_some hrun
  refine V_bd (pc := 5) C hL rfl hrun (fun rr1 e1 => Z_runV (rest := []) C hH (m_X2_at hl9 e1) wV_X1_136 c4 rfl (by decide) rfl rfl ⟨by decide, by decide⟩ rfl (Nat.le_of_ble_eq_true rfl) hl.1 dX1_parts_5) (fun v2 h3 H locs cells slots hH hL hrun => ?_)
  obtain ⟨c5, hrun⟩ := gd_some hrun
  refine V_castX (pc := 8) (ci := 11) C hH rfl (by decide) q403 dX1_parts_8 c5 ?_
  refine V_astore_n (i := 3) (lv' := [(3, rv v2), (0, rv x0), (1, .int x1), (2, .int x2)]) (pc := 11) hx hb dX1_parts_11 rfl hl (by decide) rfl (fun ls hl => ?_)
  refine lv_iload_n (pc := 12) hx hb dX1_parts_12 rfl (lv_at hl 3 rfl) ?_
  refine lv_i2l (pc := 13) hx hb dX1_parts_13 rfl ?_
  refine lv_lconst (v := (1 : Int64)) (pc := 14) hx hb dX1_parts_14 (by decide) ?_
  refine lv_ldc2 (pc := 15) hx hb hown (hts _ q1641) dX1_parts_15 ?_
  refine V_bd (pc := 18) C hL rfl hrun (fun rr1 e1 => Z_runS (rest := []) C hH (m_X1_isIn hl9 e1) wS_X1_127 rfl ⟨by decide, by decide⟩ rfl (Nat.le_of_ble_eq_true rfl) hl.1 dX1_parts_18) (fun v6 h7 H locs cells slots hH hL hrun => ?_)
  refine V_bd (pc := 21) C hL rfl hrun (fun rr1 e1 => Z_runS (rest := []) C hH (m_X1_requireArgument hl9 e1) wS_X1_131 rfl ⟨by decide, by decide⟩ rfl (Nat.le_of_ble_eq_true rfl) hl.1 dX1_parts_21) (fun _ h9 H locs cells slots hH hL hrun => ?_)
  refine V_aload_n (pc := 24) hx hb dX1_parts_24 rfl (lv_at hl 0 rfl) ?_
  obtain ⟨c10, hrun⟩ := gd_some hrun
  refine V_getNI (pc := 25) C hH fn_X1_462 dX1_parts_25 c10 rfl ?_
  refine lv_topi (fun v11 ev11 => ?_)
  have hrun := vl_at hrun v11 ev11
  refine lv_istore (i := 4) (lv' := [(4, .int v11), (3, rv v2), (0, rv x0), (1, .int x1), (2, .int x2)]) (pc := 28) hx hb dX1_parts_28 hl (by decide) (by simp [rv_cat, cat_i, cat_l, cat_f, cat_d]) (fun ls hl => ?_)
  refine V_aload_n (pc := 30) hx hb dX1_parts_30 rfl (lv_at hl 1 rfl) ?_
  refine lv_iload_n (pc := 31) hx hb dX1_parts_31 rfl (lv_at hl 4 rfl) ?_
  refine V_putNI (pc := 32) C hH hL fn_X1_462 dX1_parts_32 c10 (fok_i _) rfl hrun (fun h12 H locs hH hL hrun => ?_)
  refine lv_iload (pc := 35) hx hb dX1_parts_35 (lv_at hl 0 rfl) ?_
  exact V_iret (pc := 37) C hH hL hrun dX1_parts_37

theorem m_X1_parts {l : Launch} {D : va_G} {Hs : Heap} {h : Hp} {rr : (Int32 ⊕ Ex) × Hp} (hl9 : l.stackTraces = false) {x0 : Nat} {x1 : Int32} {x2 : Int32} (hrun : f_X1_parts x0 x1 x2 h = some rr) : CM l yX1_parts (ws_ yX1_parts cX1_parts 5 (some .int)) 8 131 iI [rv x0, .int x1, .int x2] D Hs h rr := by
  refine CM.of (lv := [(0, rv x0), (1, .int x1), (2, .int x2)]) (plainFor_of_name (by decide)) hl9 (by simp [lv_args, rv_cat, cat_i, cat_l, cat_f, cat_d]) (by simp [lg_sl, rv_cat, cat_i, cat_l, cat_f, cat_d]) ?_
  intro p e R s m args below meth c H ls C hH hl hin
  exact b_X1_parts C x0 x1 x2 _ H [] _ _ ls hH (fun _ q => nomatch q) (lv_sub hl [0, 1, 2] rfl) hrun

/-! MassclaimLaw.parts(LMassclaim;II[J)I -/
def f_X0_parts_13  (y0 : Nat) (h : Hp) : Rt Int32 :=
  some (.inl (1 : Int32), h)
def f_X0_parts_17  (y0 : Nat) (h : Hp) : Rt Int32 :=
  some (.inl (2 : Int32), h)
def f_X0_parts  (x0 : Nat) (x1 : Int32) (x2 : Int32) (x3 : Nat) (h : Hp) : Rt Int32 :=
  gd (kC h x0 = 1) <| bdH (f_X1_parts x0 x1 x2 h)
  (fun v1 h2 => gd (kC h2 x3 = 102 ∧ ixo (0 : Int32) (kN h2 x3)) <| vl (tL h2 x3 ((0 : Int32)).toNatClampNeg (v1.toInt64)) fun h5 => some (.inl (0 : Int32), h5))
  (fun ex6 h7 => if ex6.1 = 901 then
  (f_X0_parts_13 ex6.2 h7)
  else
  if ex6.1 = 902 then
  (f_X0_parts_17 ex6.2 h7)
  else
  none)
theorem b_X0_parts_13 {rr : (Int32 ⊕ Ex) × Hp}  (C : CX p l R s m args meth c D Hs cX0_parts "MassclaimLaw" 5 (some .int) [(0, 10, 13, 25), (0, 10, 17, 13)] 9 155)  : ∀ (y0 : Nat) (h : Hp) (H : Heap) (locs : List Loc) (cells slots : Nat) (ls : Array Slot), HP D Hs h H → LO Hs locs → lv_has ls 5 [] → f_X0_parts_13 y0 h = some rr → W p l e R s m args below meth c H locs cells slots (ZM D Hs iI rr below args s) (F0 m 13 ls [rv y0]) := by
  obtain ⟨⟨hx, hb, hml, hown, hts⟩, -⟩ := id C
  have hl9 := C.2.1.2.2.1
  intro y0 h H locs cells slots ls hH hL hl hrun
  unfold f_X0_parts_13 at hrun
  refine V_astore (i := 4) (lv' := [(4, rv y0)]) (pc := 13) hx hb dX0_parts_13 hl (by decide) rfl (fun ls hl => ?_)
  refine lv_iconst (v := (1 : Int32)) (pc := 15) hx hb dX0_parts_15 (by decide) ?_
  exact V_iret (pc := 16) C hH hL hrun dX0_parts_16

theorem b_X0_parts_17 {rr : (Int32 ⊕ Ex) × Hp}  (C : CX p l R s m args meth c D Hs cX0_parts "MassclaimLaw" 5 (some .int) [(0, 10, 13, 25), (0, 10, 17, 13)] 9 155)  : ∀ (y0 : Nat) (h : Hp) (H : Heap) (locs : List Loc) (cells slots : Nat) (ls : Array Slot), HP D Hs h H → LO Hs locs → lv_has ls 5 [] → f_X0_parts_17 y0 h = some rr → W p l e R s m args below meth c H locs cells slots (ZM D Hs iI rr below args s) (F0 m 17 ls [rv y0]) := by
  obtain ⟨⟨hx, hb, hml, hown, hts⟩, -⟩ := id C
  have hl9 := C.2.1.2.2.1
  intro y0 h H locs cells slots ls hH hL hl hrun
  unfold f_X0_parts_17 at hrun
  refine V_astore (i := 4) (lv' := [(4, rv y0)]) (pc := 17) hx hb dX0_parts_17 hl (by decide) rfl (fun ls hl => ?_)
  refine lv_iconst (v := (2 : Int32)) (pc := 19) hx hb dX0_parts_19 (by decide) ?_
  exact V_iret (pc := 20) C hH hL hrun dX0_parts_20

theorem b_X0_parts {rr : (Int32 ⊕ Ex) × Hp}  (C : CX p l R s m args meth c D Hs cX0_parts "MassclaimLaw" 5 (some .int) [(0, 10, 13, 25), (0, 10, 17, 13)] 9 155)  : ∀ (x0 : Nat) (x1 : Int32) (x2 : Int32) (x3 : Nat) (h : Hp) (H : Heap) (locs : List Loc) (cells slots : Nat) (ls : Array Slot), HP D Hs h H → LO Hs locs → lv_has ls 5 [(0, rv x0), (1, .int x1), (2, .int x2), (3, rv x3)] → f_X0_parts x0 x1 x2 x3 h = some rr → W p l e R s m args below meth c H locs cells slots (ZM D Hs iI rr below args s) (F0 m 0 ls []) := by
  obtain ⟨⟨hx, hb, hml, hown, hts⟩, -⟩ := id C
  have hl9 := C.2.1.2.2.1
  intro x0 x1 x2 x3 h H locs cells slots ls hH hL hl hrun
  unfold f_X0_parts at hrun
  refine V_aload_n (pc := 0) hx hb dX0_parts_0 rfl (lv_at hl 3 rfl) ?_
  refine lv_iconst (v := (0 : Int32)) (pc := 1) hx hb dX0_parts_1 (by decide) ?_
  refine V_aload_n (pc := 2) hx hb dX0_parts_2 rfl (lv_at hl 0 rfl) ?_
  refine lv_iload_n (pc := 3) hx hb dX0_parts_3 rfl (lv_at hl 1 rfl) ?_
  refine lv_iload_n (pc := 4) hx hb dX0_parts_4 rfl (lv_at hl 2 rfl) ?_
  obtain ⟨c3, hrun⟩ := gd_some hrun
  refine V_bdH (pc := 5) hL hrun (fun rr1 e1 => Z_runV (rest := [.int (0 : Int32), rv x3]) C hH (m_X1_parts hl9 e1) wV_X0_116 c3 rfl (by decide) rfl rfl ⟨by decide, by decide⟩ rfl (by simp [csum, rv_cat, cat_i, cat_l, cat_f, cat_d]) hl.1 dX0_parts_5) (fun v1 h2 H locs cells slots hH hL hrun => ?_) (fun x_ q_ ce_ h7 H locs cells slots hH hL hrun hc_ hv_ hcl_ => ?_)
  · refine lv_i2l (pc := 8) hx hb dX0_parts_8 rfl ?_
    obtain ⟨c4, hrun⟩ := gd_some hrun
    refine V_last (pc := 9) C hH hL dX0_parts_9 c4 hrun (fun h5 H locs hH hL hrun => ?_)
    refine lv_goto (tgt := 21) (pc := 10) hx hb dX0_parts_10 (by decide) ?_
    refine lv_iconst (v := (0 : Int32)) (pc := 21) hx hb dX0_parts_21 (by decide) ?_
    exact V_iret (pc := 22) C hH hL hrun dX0_parts_22
  · by_cases n901 : x_ = 901
    · subst n901
      have hrun := ite_t hrun rfl
      refine vx_catch (E := "java/lang/IndexOutOfBoundsException") (name := "java/lang/IndexOutOfBoundsException") hown (tableOf []) ⟨0, 10, 13, 25⟩ (tableOf [(0, 10, 17, 13)]) (by rw [C.2.1.2.2.2.2]; rfl) (fun z hz => nomatch hz) (by decide) (by decide) (hts _ q829) (va_Nw.use rfl (C.2.1.2.2.2.1.2.1 _ q537 rfl)) hc_ hv_ hcl_ ?_
      exact b_X0_parts_13 C (q_ + 1) h7 H locs cells slots ls hH hL (lv_sub hl [] rfl) hrun
    have hrun := ite_f hrun n901
    by_cases n902 : x_ = 902
    · subst n902
      have hrun := ite_t hrun rfl
      refine vx_catch (E := "java/lang/IllegalArgumentException") (name := "java/lang/IllegalArgumentException") hown (tableOf [(0, 10, 13, 25)]) ⟨0, 10, 17, 13⟩ (tableOf []) (by rw [C.2.1.2.2.2.2]; rfl) (fun z hz => by simp only [tableOf, List.map, List.mem_cons, List.not_mem_nil, or_false] at hz; rcases hz with rfl <;> first | exact Or.inr ⟨by decide, "java/lang/IndexOutOfBoundsException", hts _ q829, nc_at C (by decide)⟩) (by decide) (by decide) (hts _ q449) (va_Nw.use rfl (C.2.1.2.2.2.1.2.1 _ q463 rfl)) hc_ hv_ hcl_ ?_
      exact b_X0_parts_17 C (q_ + 1) h7 H locs cells slots ls hH hL (lv_sub hl [] rfl) hrun
    have hrun := ite_f hrun n902
    cases hrun

theorem m_X0_parts {l : Launch} {D : va_G} {Hs : Heap} {h : Hp} {rr : (Int32 ⊕ Ex) × Hp} (hl9 : l.stackTraces = false) {x0 : Nat} {x1 : Int32} {x2 : Int32} {x3 : Nat} (hrun : f_X0_parts x0 x1 x2 x3 h = some rr) : CM l yX0_parts (wsW_ yX0_parts cX0_parts 5 (some .int) [(0, 10, 13, 25), (0, 10, 17, 13)]) 9 155 iI [rv x0, .int x1, .int x2, rv x3] D Hs h rr := by
  refine CM.ofH (lv := [(0, rv x0), (1, .int x1), (2, .int x2), (3, rv x3)]) (plainFor_of_name (by decide)) hl9 (by simp [lv_args, rv_cat, cat_i, cat_l, cat_f, cat_d]) (by simp [lg_sl, rv_cat, cat_i, cat_l, cat_f, cat_d]) ?_
  intro p e R s m args below meth c H ls C hH hl hin
  exact b_X0_parts C x0 x1 x2 x3 _ H [] _ _ ls hH (fun _ q => nomatch q) (lv_sub hl [0, 1, 2, 3] rfl) hrun

/-! MassclaimModel.parts(II)I -/
def f_X4_parts_30  (h : Hp) : Rt Int32 :=
  some (.inl (0 : Int32), h)
def f_X4_parts  (x0 : Nat) (x1 : Int32) (x2 : Int32) (h : Hp) : Rt Int32 :=
  gd (kC h x0 = 4) <| bd (f_X4_isClaim x0 x1 h) fun v1 h2 => gd (kC h2 x0 = 4) <| bd (f_X4_isGood x0 v1 (1 : Int32) h2) fun v4 h5 => if v4 = 0 then
  (f_X4_parts_30  h5)
  else
  (bd (f_X4_isWithin (x2.toInt64) (1 : Int64) (20 : Int64) h5) fun v7 h8 => gd (kC h8 x0 = 4) <| bd (f_X4_isGood x0 v7 (2 : Int32) h8) fun v9 h10 => if v9 = 0 then
  (f_X4_parts_30  h10)
  else
  (gd (kC h10 x0 = 4) <| gd (kC h10 (kR h10 320 x0) = 18) <| bd (f_J2_get (kR h10 320 x0) x1 h10) fun v13 h14 => gd (v13 = 0 ∨ kC h14 v13 = 13) <| gd (kC h14 v13 = 13) <| vl (kI h14 1207 v13) fun v18 => gd (kC h14 x0 = 4) <| gd (kC h14 (kR h14 320 x0) = 18) <| bd (f_J2_get (kR h14 320 x0) x1 h14) fun v20 h21 => gd (v20 = 0 ∨ kC h21 v20 = 13) <| gd (kC h21 v20 = 13) <| vl (sI h21 1207 v20 x2) fun h25 => some (.inl v18, h25)))
theorem b_X4_parts_30 {rr : (Int32 ⊕ Ex) × Hp}  (C : CX p l R s m args meth c D Hs cX4_parts "MassclaimModel" 4 (some .int) [] 4 64)  : ∀ (h : Hp) (H : Heap) (locs : List Loc) (cells slots : Nat) (ls : Array Slot), HP D Hs h H → LO Hs locs → lv_has ls 4 [] → f_X4_parts_30 h = some rr → W p l e R s m args below meth c H locs cells slots (ZM D Hs iI rr below args s) (F0 m 30 ls []) := by
  obtain ⟨⟨hx, hb, hml, hown, hts⟩, -⟩ := id C
  have hl9 := C.2.1.2.2.1
  intro h H locs cells slots ls hH hL hl hrun
  unfold f_X4_parts_30 at hrun
  refine lv_iconst (v := (0 : Int32)) (pc := 30) hx hb dX4_parts_30 (by decide) ?_
  exact V_iret (pc := 31) C hH hL hrun dX4_parts_31

theorem b_X4_parts {rr : (Int32 ⊕ Ex) × Hp}  (C : CX p l R s m args meth c D Hs cX4_parts "MassclaimModel" 4 (some .int) [] 4 64)  : ∀ (x0 : Nat) (x1 : Int32) (x2 : Int32) (h : Hp) (H : Heap) (locs : List Loc) (cells slots : Nat) (ls : Array Slot), HP D Hs h H → LO Hs locs → lv_has ls 4 [(0, rv x0), (1, .int x1), (2, .int x2)] → f_X4_parts x0 x1 x2 h = some rr → W p l e R s m args below meth c H locs cells slots (ZM D Hs iI rr below args s) (F0 m 0 ls []) := by
  obtain ⟨⟨hx, hb, hml, hown, hts⟩, -⟩ := id C
  have hl9 := C.2.1.2.2.1
  intro x0 x1 x2 h H locs cells slots ls hH hL hl hrun
  unfold f_X4_parts at hrun
  refine V_aload_n (pc := 0) hx hb dX4_parts_0 rfl (lv_at hl 0 rfl) ?_
  refine V_aload_n (pc := 1) hx hb dX4_parts_1 rfl (lv_at hl 0 rfl) ?_
  refine lv_iload_n (pc := 2) hx hb dX4_parts_2 rfl (lv_at hl 1 rfl) ?_
  obtain ⟨c3, hrun⟩ := gd_some hrun
  refine V_bd (pc := 3) C hL rfl hrun (fun rr1 e1 => Z_runV (rest := [rv x0]) C hH (m_X4_isClaim hl9 e1) wV_X4_416 c3 rfl (by decide) rfl rfl ⟨by decide, by decide⟩ rfl (by simp [csum, rv_cat, cat_i, cat_l, cat_f, cat_d]) hl.1 dX4_parts_3) (fun v1 h2 H locs cells slots hH hL hrun => ?_)
  refine lv_iconst (v := (1 : Int32)) (pc := 6) hx hb dX4_parts_6 (by decide) ?_
  obtain ⟨c6, hrun⟩ := gd_some hrun
  refine V_bd (pc := 7) C hL rfl hrun (fun rr1 e1 => Z_runV (rest := []) C hH (m_X4_isGood hl9 e1) wV_X4_104 c6 rfl (by decide) rfl rfl ⟨by decide, by decide⟩ rfl (Nat.le_of_ble_eq_true rfl) hl.1 dX4_parts_7) (fun v4 h5 H locs cells slots hH hL hrun => ?_)
  refine lv_if_eq (tgt := 30) (pc := 10) hx hb dX4_parts_10 (by decide) (fun c_ => ?_) (fun c_ => ?_)
  · have hrun := ite_t hrun c_
    exact b_X4_parts_30 C h5 H locs cells slots ls hH hL (lv_sub hl [] rfl) hrun
  · have hrun := ite_f hrun c_
    refine V_aload_n (pc := 13) hx hb dX4_parts_13 rfl (lv_at hl 0 rfl) ?_
    refine lv_iload_n (pc := 14) hx hb dX4_parts_14 rfl (lv_at hl 2 rfl) ?_
    refine lv_i2l (pc := 15) hx hb dX4_parts_15 rfl ?_
    refine lv_lconst (v := (1 : Int64)) (pc := 16) hx hb dX4_parts_16 (by decide) ?_
    refine lv_ldc2 (pc := 17) hx hb hown (hts _ q2395) dX4_parts_17 ?_
    refine V_bd (pc := 20) C hL rfl hrun (fun rr1 e1 => Z_runS (rest := [rv x0]) C hH (m_X4_isWithin hl9 e1) wS_X4_100 rfl ⟨by decide, by decide⟩ rfl (by simp [csum, rv_cat, cat_i, cat_l, cat_f, cat_d]) hl.1 dX4_parts_20) (fun v7 h8 H locs cells slots hH hL hrun => ?_)
    refine lv_iconst (v := (2 : Int32)) (pc := 23) hx hb dX4_parts_23 (by decide) ?_
    obtain ⟨c11, hrun⟩ := gd_some hrun
    refine V_bd (pc := 24) C hL rfl hrun (fun rr1 e1 => Z_runV (rest := []) C hH (m_X4_isGood hl9 e1) wV_X4_104 c11 rfl (by decide) rfl rfl ⟨by decide, by decide⟩ rfl (Nat.le_of_ble_eq_true rfl) hl.1 dX4_parts_24) (fun v9 h10 H locs cells slots hH hL hrun => ?_)
    refine lv_if_ne (tgt := 32) (pc := 27) hx hb dX4_parts_27 (by decide) (fun c_ => ?_) (fun c_ => ?_)
    · have hrun := ite_f hrun c_
      refine V_aload_n (pc := 32) hx hb dX4_parts_32 rfl (lv_at hl 0 rfl) ?_
      obtain ⟨c12, hrun⟩ := gd_some hrun
      refine V_getR (pc := 33) C hH fr_X4_30 dX4_parts_33 c12 rfl ?_
      refine lv_iload_n (pc := 36) hx hb dX4_parts_36 rfl (lv_at hl 1 rfl) ?_
      obtain ⟨c15, hrun⟩ := gd_some hrun
      refine V_bd (pc := 37) C hL rfl hrun (fun rr1 e1 => Z_runV (rest := []) C hH (m_J2_get hl9 e1) wV_X4_108 c15 rfl (by decide) rfl rfl ⟨by decide, by decide⟩ rfl (Nat.le_of_ble_eq_true rfl) hl.1 dX4_parts_37) (fun v13 h14 H locs cells slots hH hL hrun => ?_)
      obtain ⟨c16, hrun⟩ := gd_some hrun
      refine V_castX (pc := 40) (ci := 12) C hH rfl (by decide) q1955 dX4_parts_40 c16 ?_
      obtain ⟨c17, hrun⟩ := gd_some hrun
      refine V_getI (pc := 43) C hH fr_X4_423 dX4_parts_43 c17 rfl ?_
      refine lv_topi (fun v18 ev18 => ?_)
      have hrun := vl_at hrun v18 ev18
      refine lv_istore_n (i := 3) (lv' := [(3, .int v18), (0, rv x0), (1, .int x1), (2, .int x2)]) (pc := 46) hx hb dX4_parts_46 rfl hl (by decide) rfl (fun ls hl => ?_)
      refine V_aload_n (pc := 47) hx hb dX4_parts_47 rfl (lv_at hl 1 rfl) ?_
      obtain ⟨c19, hrun⟩ := gd_some hrun
      refine V_getR (pc := 48) C hH fr_X4_30 dX4_parts_48 c19 rfl ?_
      refine lv_iload_n (pc := 51) hx hb dX4_parts_51 rfl (lv_at hl 2 rfl) ?_
      obtain ⟨c22, hrun⟩ := gd_some hrun
      refine V_bd (pc := 52) C hL rfl hrun (fun rr1 e1 => Z_runV (rest := []) C hH (m_J2_get hl9 e1) wV_X4_108 c22 rfl (by decide) rfl rfl ⟨by decide, by decide⟩ rfl (Nat.le_of_ble_eq_true rfl) hl.1 dX4_parts_52) (fun v20 h21 H locs cells slots hH hL hrun => ?_)
      obtain ⟨c23, hrun⟩ := gd_some hrun
      refine V_castX (pc := 55) (ci := 12) C hH rfl (by decide) q1955 dX4_parts_55 c23 ?_
      refine lv_iload_n (pc := 58) hx hb dX4_parts_58 rfl (lv_at hl 3 rfl) ?_
      obtain ⟨c24, hrun⟩ := gd_some hrun
      refine V_putI (pc := 59) C hH hL fl_X4_423 dX4_parts_59 c24 (fok_i _) rfl (fun q => Bool.noConfusion q) hrun (fun h25 H locs hH hL hrun => ?_)
      refine lv_iload_n (pc := 62) hx hb dX4_parts_62 rfl (lv_at hl 0 rfl) ?_
      exact V_iret (pc := 63) C hH hL hrun dX4_parts_63
    · have hrun := ite_t hrun c_
      exact b_X4_parts_30 C h10 H locs cells slots ls hH hL (lv_sub hl [] rfl) hrun

theorem m_X4_parts {l : Launch} {D : va_G} {Hs : Heap} {h : Hp} {rr : (Int32 ⊕ Ex) × Hp} (hl9 : l.stackTraces = false) {x0 : Nat} {x1 : Int32} {x2 : Int32} (hrun : f_X4_parts x0 x1 x2 h = some rr) : CM l yX4_parts (ws_ yX4_parts cX4_parts 4 (some .int)) 4 64 iI [rv x0, .int x1, .int x2] D Hs h rr := by
  refine CM.of (lv := [(0, rv x0), (1, .int x1), (2, .int x2)]) (plainFor_of_name (by decide)) hl9 (by simp [lv_args, rv_cat, cat_i, cat_l, cat_f, cat_d]) (by simp [lg_sl, rv_cat, cat_i, cat_l, cat_f, cat_d]) ?_
  intro p e R s m args below meth c H ls C hH hl hin
  exact b_X4_parts C x0 x1 x2 _ H [] _ _ ls hH (fun _ q => nomatch q) (lv_sub hl [0, 1, 2] rfl) hrun

/-! Massclaim.cure(II)I -/
def f_X1_cure_93  (x3 : Nat) (y0 : Nat) (y1 : Int32) (h : Hp) : Rt Int32 :=
  gd (kC h y0 = 12) <| vl (sI h 1102 y0 y1) fun h2 => gd (kC h2 x3 = 12) <| some (.inl (kI h2 1104 x3), h2)
def f_X1_cure_68  (x0 : Nat) (x2 : Int32) (x3 : Nat) (y0 : Nat) (y1 : Int32) (h : Hp) : Rt Int32 :=
  gd (kC h y0 = 12) <| vl (sI h 1104 y0 y1) fun h5 => gd (kC h5 x0 = 1) <| gd (kC h5 x3 = 12) <| vl (sI h5 1108 x3 (kI h5 18 x0)) fun h8 => if x2 = (-1 : Int32) then
  (gd (kC h8 x3 = 12) <| f_X1_cure_93 x3 x3 (kI h8 1102 x3) h8)
  else
  (f_X1_cure_93 x3 x3 x2 h8)
def f_X1_cure_54  (x0 : Nat) (x2 : Int32) (x3 : Nat) (y0 : Int32) (h : Hp) : Rt Int32 :=
  bd (f_X1_requireState y0 h) fun _ h11 => if x2 = (-1 : Int32) then
  (f_X1_cure_68 x0 x2 x3 x3 (1 : Int32) h11)
  else
  (f_X1_cure_68 x0 x2 x3 x3 (0 : Int32) h11)
def f_X1_cure_46  (x0 : Nat) (x2 : Int32) (x3 : Nat) (y0 : Int32) (y1 : Int32) (h : Hp) : Rt Int32 :=
  if y0 = y1 then
  (f_X1_cure_54 x0 x2 x3 (1 : Int32) h)
  else
  (f_X1_cure_54 x0 x2 x3 (0 : Int32) h)
def f_X1_cure_29  (x0 : Nat) (x2 : Int32) (x3 : Nat) (y0 : Int32) (h : Hp) : Rt Int32 :=
  bd (f_X1_requireArgument y0 h) fun _ h13 => gd (kC h13 x3 = 12) <| if x2 = (-1 : Int32) then
  (f_X1_cure_46 x0 x2 x3 (kI h13 1104 x3) (0 : Int32) h13)
  else
  (f_X1_cure_46 x0 x2 x3 (kI h13 1104 x3) (1 : Int32) h13)
def f_X1_cure_24  (x0 : Nat) (x2 : Int32) (x3 : Nat) (h : Hp) : Rt Int32 :=
  f_X1_cure_29 x0 x2 x3 (1 : Int32) h
def f_X1_cure  (x0 : Nat) (x1 : Int32) (x2 : Int32) (h : Hp) : Rt Int32 :=
  gd (kC h x0 = 1) <| gd (kC h (kR h 3 x0) = 2) <| bd (f_X2_at (kR h 3 x0) x1 h) fun v16 h17 => gd (v16 = 0 ∨ kC h17 v16 = 12) <| if x2 = (-1 : Int32) then
  (f_X1_cure_24 x0 x2 v16 h17)
  else
  (bd (f_X1_isGrade x2 h17) fun v20 h21 => if v20 = 0 then
  (f_X1_cure_29 x0 x2 v16 (0 : Int32) h21)
  else
  (f_X1_cure_24 x0 x2 v16 h21))
theorem b_X1_cure_93 {rr : (Int32 ⊕ Ex) × Hp}  (C : CX p l R s m args meth c D Hs cX1_cure "Massclaim" 4 (some .int) [] 8 131)  : ∀ (x3 : Nat) (y0 : Nat) (y1 : Int32) (h : Hp) (H : Heap) (locs : List Loc) (cells slots : Nat) (ls : Array Slot), HP D Hs h H → LO Hs locs → lv_has ls 4 [(3, rv x3)] → f_X1_cure_93 x3 y0 y1 h = some rr → W p l e R s m args below meth c H locs cells slots (ZM D Hs iI rr below args s) (F0 m 93 ls [.int y1, rv y0]) := by
  obtain ⟨⟨hx, hb, hml, hown, hts⟩, -⟩ := id C
  have hl9 := C.2.1.2.2.1
  intro x3 y0 y1 h H locs cells slots ls hH hL hl hrun
  unfold f_X1_cure_93 at hrun
  obtain ⟨c1, hrun⟩ := gd_some hrun
  refine V_putNI (pc := 93) C hH hL fn_X1_447 dX1_cure_93 c1 (fok_i _) rfl hrun (fun h2 H locs hH hL hrun => ?_)
  refine V_aload_n (pc := 96) hx hb dX1_cure_96 rfl (lv_at hl 0 rfl) ?_
  obtain ⟨c3, hrun⟩ := gd_some hrun
  refine V_getNI (pc := 97) C hH fn_X1_157 dX1_cure_97 c3 rfl ?_
  exact V_iret (pc := 100) C hH hL hrun dX1_cure_100

theorem b_X1_cure_68 {rr : (Int32 ⊕ Ex) × Hp}  (C : CX p l R s m args meth c D Hs cX1_cure "Massclaim" 4 (some .int) [] 8 131)  : ∀ (x0 : Nat) (x2 : Int32) (x3 : Nat) (y0 : Nat) (y1 : Int32) (h : Hp) (H : Heap) (locs : List Loc) (cells slots : Nat) (ls : Array Slot), HP D Hs h H → LO Hs locs → lv_has ls 4 [(0, rv x0), (2, .int x2), (3, rv x3)] → f_X1_cure_68 x0 x2 x3 y0 y1 h = some rr → W p l e R s m args below meth c H locs cells slots (ZM D Hs iI rr below args s) (F0 m 68 ls [.int y1, rv y0]) := by
  obtain ⟨⟨hx, hb, hml, hown, hts⟩, -⟩ := id C
  have hl9 := C.2.1.2.2.1
  intro x0 x2 x3 y0 y1 h H locs cells slots ls hH hL hl hrun
  unfold f_X1_cure_68 at hrun
  obtain ⟨c4, hrun⟩ := gd_some hrun
  refine V_putNI (pc := 68) C hH hL fn_X1_157 dX1_cure_68 c4 (fok_i _) rfl hrun (fun h5 H locs hH hL hrun => ?_)
  refine V_aload_n (pc := 71) hx hb dX1_cure_71 rfl (lv_at hl 2 rfl) ?_
  refine V_aload_n (pc := 72) hx hb dX1_cure_72 rfl (lv_at hl 0 rfl) ?_
  obtain ⟨c6, hrun⟩ := gd_some hrun
  refine V_getI (pc := 73) C hH fr_X1_115 dX1_cure_73 c6 rfl ?_
  obtain ⟨c7, hrun⟩ := gd_some hrun
  refine V_putNI (pc := 76) C hH hL fn_X1_160 dX1_cure_76 c7 (fok_i _) rfl hrun (fun h8 H locs hH hL hrun => ?_)
  refine V_aload_n (pc := 79) hx hb dX1_cure_79 rfl (lv_at hl 2 rfl) ?_
  refine lv_iload_n (pc := 80) hx hb dX1_cure_80 rfl (lv_at hl 1 rfl) ?_
  refine lv_iconst (v := (-1 : Int32)) (pc := 81) hx hb dX1_cure_81 (by decide) ?_
  refine lv_icmp_ne (tgt := 92) (pc := 82) hx hb dX1_cure_82 (by decide) (fun c_ => ?_) (fun c_ => ?_)
  · have hrun := ite_f hrun c_
    refine lv_iload_n (pc := 92) hx hb dX1_cure_92 rfl (lv_at hl 1 rfl) ?_
    exact b_X1_cure_93 C x3 x3 x2 h8 H locs cells slots ls hH hL (lv_sub hl [2] rfl) hrun
  · have hrun := ite_t hrun c_
    refine V_aload_n (pc := 85) hx hb dX1_cure_85 rfl (lv_at hl 2 rfl) ?_
    obtain ⟨c9, hrun⟩ := gd_some hrun
    refine V_getNI (pc := 86) C hH fn_X1_447 dX1_cure_86 c9 rfl ?_
    refine lv_goto (tgt := 93) (pc := 89) hx hb dX1_cure_89 (by decide) ?_
    exact b_X1_cure_93 C x3 x3 (kI h8 1102 x3) h8 H locs cells slots ls hH hL (lv_sub hl [2] rfl) hrun

theorem b_X1_cure_54 {rr : (Int32 ⊕ Ex) × Hp}  (C : CX p l R s m args meth c D Hs cX1_cure "Massclaim" 4 (some .int) [] 8 131)  : ∀ (x0 : Nat) (x2 : Int32) (x3 : Nat) (y0 : Int32) (h : Hp) (H : Heap) (locs : List Loc) (cells slots : Nat) (ls : Array Slot), HP D Hs h H → LO Hs locs → lv_has ls 4 [(0, rv x0), (2, .int x2), (3, rv x3)] → f_X1_cure_54 x0 x2 x3 y0 h = some rr → W p l e R s m args below meth c H locs cells slots (ZM D Hs iI rr below args s) (F0 m 54 ls [.int y0]) := by
  obtain ⟨⟨hx, hb, hml, hown, hts⟩, -⟩ := id C
  have hl9 := C.2.1.2.2.1
  intro x0 x2 x3 y0 h H locs cells slots ls hH hL hl hrun
  unfold f_X1_cure_54 at hrun
  refine V_bd (pc := 54) C hL rfl hrun (fun rr1 e1 => Z_runS (rest := []) C hH (m_X1_requireState hl9 e1) wS_X1_182 rfl ⟨by decide, by decide⟩ rfl (Nat.le_of_ble_eq_true rfl) hl.1 dX1_cure_54) (fun _ h11 H locs cells slots hH hL hrun => ?_)
  refine V_aload_n (pc := 57) hx hb dX1_cure_57 rfl (lv_at hl 2 rfl) ?_
  refine lv_iload_n (pc := 58) hx hb dX1_cure_58 rfl (lv_at hl 1 rfl) ?_
  refine lv_iconst (v := (-1 : Int32)) (pc := 59) hx hb dX1_cure_59 (by decide) ?_
  refine lv_icmp_ne (tgt := 67) (pc := 60) hx hb dX1_cure_60 (by decide) (fun c_ => ?_) (fun c_ => ?_)
  · have hrun := ite_f hrun c_
    refine lv_iconst (v := (0 : Int32)) (pc := 67) hx hb dX1_cure_67 (by decide) ?_
    exact b_X1_cure_68 C x0 x2 x3 x3 (0 : Int32) h11 H locs cells slots ls hH hL (lv_sub hl [0, 1, 2] rfl) hrun
  · have hrun := ite_t hrun c_
    refine lv_iconst (v := (1 : Int32)) (pc := 63) hx hb dX1_cure_63 (by decide) ?_
    refine lv_goto (tgt := 68) (pc := 64) hx hb dX1_cure_64 (by decide) ?_
    exact b_X1_cure_68 C x0 x2 x3 x3 (1 : Int32) h11 H locs cells slots ls hH hL (lv_sub hl [0, 1, 2] rfl) hrun

theorem b_X1_cure_46 {rr : (Int32 ⊕ Ex) × Hp}  (C : CX p l R s m args meth c D Hs cX1_cure "Massclaim" 4 (some .int) [] 8 131)  : ∀ (x0 : Nat) (x2 : Int32) (x3 : Nat) (y0 : Int32) (y1 : Int32) (h : Hp) (H : Heap) (locs : List Loc) (cells slots : Nat) (ls : Array Slot), HP D Hs h H → LO Hs locs → lv_has ls 4 [(0, rv x0), (2, .int x2), (3, rv x3)] → f_X1_cure_46 x0 x2 x3 y0 y1 h = some rr → W p l e R s m args below meth c H locs cells slots (ZM D Hs iI rr below args s) (F0 m 46 ls [.int y1, .int y0]) := by
  obtain ⟨⟨hx, hb, hml, hown, hts⟩, -⟩ := id C
  have hl9 := C.2.1.2.2.1
  intro x0 x2 x3 y0 y1 h H locs cells slots ls hH hL hl hrun
  unfold f_X1_cure_46 at hrun
  refine lv_icmp_ne (tgt := 53) (pc := 46) hx hb dX1_cure_46 (by decide) (fun c_ => ?_) (fun c_ => ?_)
  · have hrun := ite_f hrun c_
    refine lv_iconst (v := (0 : Int32)) (pc := 53) hx hb dX1_cure_53 (by decide) ?_
    exact b_X1_cure_54 C x0 x2 x3 (0 : Int32) h H locs cells slots ls hH hL (lv_sub hl [0, 1, 2] rfl) hrun
  · have hrun := ite_t hrun c_
    refine lv_iconst (v := (1 : Int32)) (pc := 49) hx hb dX1_cure_49 (by decide) ?_
    refine lv_goto (tgt := 54) (pc := 50) hx hb dX1_cure_50 (by decide) ?_
    exact b_X1_cure_54 C x0 x2 x3 (1 : Int32) h H locs cells slots ls hH hL (lv_sub hl [0, 1, 2] rfl) hrun

theorem b_X1_cure_29 {rr : (Int32 ⊕ Ex) × Hp}  (C : CX p l R s m args meth c D Hs cX1_cure "Massclaim" 4 (some .int) [] 8 131)  : ∀ (x0 : Nat) (x2 : Int32) (x3 : Nat) (y0 : Int32) (h : Hp) (H : Heap) (locs : List Loc) (cells slots : Nat) (ls : Array Slot), HP D Hs h H → LO Hs locs → lv_has ls 4 [(0, rv x0), (2, .int x2), (3, rv x3)] → f_X1_cure_29 x0 x2 x3 y0 h = some rr → W p l e R s m args below meth c H locs cells slots (ZM D Hs iI rr below args s) (F0 m 29 ls [.int y0]) := by
  obtain ⟨⟨hx, hb, hml, hown, hts⟩, -⟩ := id C
  have hl9 := C.2.1.2.2.1
  intro x0 x2 x3 y0 h H locs cells slots ls hH hL hl hrun
  unfold f_X1_cure_29 at hrun
  refine V_bd (pc := 29) C hL rfl hrun (fun rr1 e1 => Z_runS (rest := []) C hH (m_X1_requireArgument hl9 e1) wS_X1_131 rfl ⟨by decide, by decide⟩ rfl (Nat.le_of_ble_eq_true rfl) hl.1 dX1_cure_29) (fun _ h13 H locs cells slots hH hL hrun => ?_)
  refine V_aload_n (pc := 32) hx hb dX1_cure_32 rfl (lv_at hl 2 rfl) ?_
  obtain ⟨c14, hrun⟩ := gd_some hrun
  refine V_getNI (pc := 33) C hH fn_X1_157 dX1_cure_33 c14 rfl ?_
  refine lv_iload_n (pc := 36) hx hb dX1_cure_36 rfl (lv_at hl 1 rfl) ?_
  refine lv_iconst (v := (-1 : Int32)) (pc := 37) hx hb dX1_cure_37 (by decide) ?_
  refine lv_icmp_ne (tgt := 45) (pc := 38) hx hb dX1_cure_38 (by decide) (fun c_ => ?_) (fun c_ => ?_)
  · have hrun := ite_f hrun c_
    refine lv_iconst (v := (1 : Int32)) (pc := 45) hx hb dX1_cure_45 (by decide) ?_
    exact b_X1_cure_46 C x0 x2 x3 (kI h13 1104 x3) (1 : Int32) h13 H locs cells slots ls hH hL (lv_sub hl [0, 1, 2] rfl) hrun
  · have hrun := ite_t hrun c_
    refine lv_iconst (v := (0 : Int32)) (pc := 41) hx hb dX1_cure_41 (by decide) ?_
    refine lv_goto (tgt := 46) (pc := 42) hx hb dX1_cure_42 (by decide) ?_
    exact b_X1_cure_46 C x0 x2 x3 (kI h13 1104 x3) (0 : Int32) h13 H locs cells slots ls hH hL (lv_sub hl [0, 1, 2] rfl) hrun

theorem b_X1_cure_24 {rr : (Int32 ⊕ Ex) × Hp}  (C : CX p l R s m args meth c D Hs cX1_cure "Massclaim" 4 (some .int) [] 8 131)  : ∀ (x0 : Nat) (x2 : Int32) (x3 : Nat) (h : Hp) (H : Heap) (locs : List Loc) (cells slots : Nat) (ls : Array Slot), HP D Hs h H → LO Hs locs → lv_has ls 4 [(0, rv x0), (2, .int x2), (3, rv x3)] → f_X1_cure_24 x0 x2 x3 h = some rr → W p l e R s m args below meth c H locs cells slots (ZM D Hs iI rr below args s) (F0 m 24 ls []) := by
  obtain ⟨⟨hx, hb, hml, hown, hts⟩, -⟩ := id C
  have hl9 := C.2.1.2.2.1
  intro x0 x2 x3 h H locs cells slots ls hH hL hl hrun
  unfold f_X1_cure_24 at hrun
  refine lv_iconst (v := (1 : Int32)) (pc := 24) hx hb dX1_cure_24 (by decide) ?_
  refine lv_goto (tgt := 29) (pc := 25) hx hb dX1_cure_25 (by decide) ?_
  exact b_X1_cure_29 C x0 x2 x3 (1 : Int32) h H locs cells slots ls hH hL (lv_sub hl [0, 1, 2] rfl) hrun

theorem b_X1_cure {rr : (Int32 ⊕ Ex) × Hp}  (C : CX p l R s m args meth c D Hs cX1_cure "Massclaim" 4 (some .int) [] 8 131)  : ∀ (x0 : Nat) (x1 : Int32) (x2 : Int32) (h : Hp) (H : Heap) (locs : List Loc) (cells slots : Nat) (ls : Array Slot), HP D Hs h H → LO Hs locs → lv_has ls 4 [(0, rv x0), (1, .int x1), (2, .int x2)] → f_X1_cure x0 x1 x2 h = some rr → W p l e R s m args below meth c H locs cells slots (ZM D Hs iI rr below args s) (F0 m 0 ls []) := by
  obtain ⟨⟨hx, hb, hml, hown, hts⟩, -⟩ := id C
  have hl9 := C.2.1.2.2.1
  intro x0 x1 x2 h H locs cells slots ls hH hL hl hrun
  unfold f_X1_cure at hrun
  refine V_aload_n (pc := 0) hx hb dX1_cure_0 rfl (lv_at hl 0 rfl) ?_
  obtain ⟨c15, hrun⟩ := gd_some hrun
  refine V_getR (pc := 1) C hH fr_X1_52 dX1_cure_1 c15 rfl ?_
  refine lv_iload_n (pc := 4) hx hb dX1_cure_4 rfl (lv_at hl 1 rfl) ?_
  obtain ⟨c18, hrun⟩ := gd_some hrun
  refine V_bd (pc := 5) C hL rfl hrun (fun rr1 e1 => Z_runV (rest := []) C hH (m_X2_at hl9 e1) wV_X1_136 c18 rfl (by decide) rfl rfl ⟨by decide, by decide⟩ rfl (Nat.le_of_ble_eq_true rfl) hl.1 dX1_cure_5) (fun v16 h17 H locs cells slots hH hL hrun => ?_)
  obtain ⟨c19, hrun⟩ := gd_some hrun
  refine V_castX (pc := 8) (ci := 11) C hH rfl (by decide) q403 dX1_cure_8 c19 ?_
  refine V_astore_n (i := 3) (lv' := [(3, rv v16), (0, rv x0), (1, .int x1), (2, .int x2)]) (pc := 11) hx hb dX1_cure_11 rfl hl (by decide) rfl (fun ls hl => ?_)
  refine lv_iload_n (pc := 12) hx hb dX1_cure_12 rfl (lv_at hl 3 rfl) ?_
  refine lv_iconst (v := (-1 : Int32)) (pc := 13) hx hb dX1_cure_13 (by decide) ?_
  refine lv_icmp_eq (tgt := 24) (pc := 14) hx hb dX1_cure_14 (by decide) (fun c_ => ?_) (fun c_ => ?_)
  · have hrun := ite_t hrun c_
    exact b_X1_cure_24 C x0 x2 v16 h17 H locs cells slots ls hH hL (lv_sub hl [1, 3, 0] rfl) hrun
  · have hrun := ite_f hrun c_
    refine lv_iload_n (pc := 17) hx hb dX1_cure_17 rfl (lv_at hl 3 rfl) ?_
    refine V_bd (pc := 18) C hL rfl hrun (fun rr1 e1 => Z_runS (rest := []) C hH (m_X1_isGrade hl9 e1) wS_X1_414 rfl ⟨by decide, by decide⟩ rfl (Nat.le_of_ble_eq_true rfl) hl.1 dX1_cure_18) (fun v20 h21 H locs cells slots hH hL hrun => ?_)
    refine lv_if_eq (tgt := 28) (pc := 21) hx hb dX1_cure_21 (by decide) (fun c_ => ?_) (fun c_ => ?_)
    · have hrun := ite_t hrun c_
      refine lv_iconst (v := (0 : Int32)) (pc := 28) hx hb dX1_cure_28 (by decide) ?_
      exact b_X1_cure_29 C x0 x2 v16 (0 : Int32) h21 H locs cells slots ls hH hL (lv_sub hl [1, 3, 0] rfl) hrun
    · have hrun := ite_f hrun c_
      exact b_X1_cure_24 C x0 x2 v16 h21 H locs cells slots ls hH hL (lv_sub hl [1, 3, 0] rfl) hrun

theorem m_X1_cure {l : Launch} {D : va_G} {Hs : Heap} {h : Hp} {rr : (Int32 ⊕ Ex) × Hp} (hl9 : l.stackTraces = false) {x0 : Nat} {x1 : Int32} {x2 : Int32} (hrun : f_X1_cure x0 x1 x2 h = some rr) : CM l yX1_cure (ws_ yX1_cure cX1_cure 4 (some .int)) 8 131 iI [rv x0, .int x1, .int x2] D Hs h rr := by
  refine CM.of (lv := [(0, rv x0), (1, .int x1), (2, .int x2)]) (plainFor_of_name (by decide)) hl9 (by simp [lv_args, rv_cat, cat_i, cat_l, cat_f, cat_d]) (by simp [lg_sl, rv_cat, cat_i, cat_l, cat_f, cat_d]) ?_
  intro p e R s m args below meth c H ls C hH hl hin
  exact b_X1_cure C x0 x1 x2 _ H [] _ _ ls hH (fun _ q => nomatch q) (lv_sub hl [0, 1, 2] rfl) hrun

/-! MassclaimLaw.cure(LMassclaim;II[J)I -/
def f_X0_cure_13  (y0 : Nat) (h : Hp) : Rt Int32 :=
  some (.inl (1 : Int32), h)
def f_X0_cure_17  (y0 : Nat) (h : Hp) : Rt Int32 :=
  some (.inl (2 : Int32), h)
def f_X0_cure_21  (y0 : Nat) (h : Hp) : Rt Int32 :=
  some (.inl (3 : Int32), h)
def f_X0_cure  (x0 : Nat) (x1 : Int32) (x2 : Int32) (x3 : Nat) (h : Hp) : Rt Int32 :=
  gd (kC h x0 = 1) <| bdH (f_X1_cure x0 x1 x2 h)
  (fun v1 h2 => gd (kC h2 x3 = 102 ∧ ixo (0 : Int32) (kN h2 x3)) <| vl (tL h2 x3 ((0 : Int32)).toNatClampNeg (v1.toInt64)) fun h5 => some (.inl (0 : Int32), h5))
  (fun ex6 h7 => if ex6.1 = 901 then
  (f_X0_cure_13 ex6.2 h7)
  else
  if ex6.1 = 902 then
  (f_X0_cure_17 ex6.2 h7)
  else
  if ex6.1 = 903 then
  (f_X0_cure_21 ex6.2 h7)
  else
  none)
theorem b_X0_cure_13 {rr : (Int32 ⊕ Ex) × Hp}  (C : CX p l R s m args meth c D Hs cX0_cure "MassclaimLaw" 5 (some .int) [(0, 10, 13, 25), (0, 10, 17, 13), (0, 10, 21, 19)] 9 154)  : ∀ (y0 : Nat) (h : Hp) (H : Heap) (locs : List Loc) (cells slots : Nat) (ls : Array Slot), HP D Hs h H → LO Hs locs → lv_has ls 5 [] → f_X0_cure_13 y0 h = some rr → W p l e R s m args below meth c H locs cells slots (ZM D Hs iI rr below args s) (F0 m 13 ls [rv y0]) := by
  obtain ⟨⟨hx, hb, hml, hown, hts⟩, -⟩ := id C
  have hl9 := C.2.1.2.2.1
  intro y0 h H locs cells slots ls hH hL hl hrun
  unfold f_X0_cure_13 at hrun
  refine V_astore (i := 4) (lv' := [(4, rv y0)]) (pc := 13) hx hb dX0_cure_13 hl (by decide) rfl (fun ls hl => ?_)
  refine lv_iconst (v := (1 : Int32)) (pc := 15) hx hb dX0_cure_15 (by decide) ?_
  exact V_iret (pc := 16) C hH hL hrun dX0_cure_16

theorem b_X0_cure_17 {rr : (Int32 ⊕ Ex) × Hp}  (C : CX p l R s m args meth c D Hs cX0_cure "MassclaimLaw" 5 (some .int) [(0, 10, 13, 25), (0, 10, 17, 13), (0, 10, 21, 19)] 9 154)  : ∀ (y0 : Nat) (h : Hp) (H : Heap) (locs : List Loc) (cells slots : Nat) (ls : Array Slot), HP D Hs h H → LO Hs locs → lv_has ls 5 [] → f_X0_cure_17 y0 h = some rr → W p l e R s m args below meth c H locs cells slots (ZM D Hs iI rr below args s) (F0 m 17 ls [rv y0]) := by
  obtain ⟨⟨hx, hb, hml, hown, hts⟩, -⟩ := id C
  have hl9 := C.2.1.2.2.1
  intro y0 h H locs cells slots ls hH hL hl hrun
  unfold f_X0_cure_17 at hrun
  refine V_astore (i := 4) (lv' := [(4, rv y0)]) (pc := 17) hx hb dX0_cure_17 hl (by decide) rfl (fun ls hl => ?_)
  refine lv_iconst (v := (2 : Int32)) (pc := 19) hx hb dX0_cure_19 (by decide) ?_
  exact V_iret (pc := 20) C hH hL hrun dX0_cure_20

theorem b_X0_cure_21 {rr : (Int32 ⊕ Ex) × Hp}  (C : CX p l R s m args meth c D Hs cX0_cure "MassclaimLaw" 5 (some .int) [(0, 10, 13, 25), (0, 10, 17, 13), (0, 10, 21, 19)] 9 154)  : ∀ (y0 : Nat) (h : Hp) (H : Heap) (locs : List Loc) (cells slots : Nat) (ls : Array Slot), HP D Hs h H → LO Hs locs → lv_has ls 5 [] → f_X0_cure_21 y0 h = some rr → W p l e R s m args below meth c H locs cells slots (ZM D Hs iI rr below args s) (F0 m 21 ls [rv y0]) := by
  obtain ⟨⟨hx, hb, hml, hown, hts⟩, -⟩ := id C
  have hl9 := C.2.1.2.2.1
  intro y0 h H locs cells slots ls hH hL hl hrun
  unfold f_X0_cure_21 at hrun
  refine V_astore (i := 4) (lv' := [(4, rv y0)]) (pc := 21) hx hb dX0_cure_21 hl (by decide) rfl (fun ls hl => ?_)
  refine lv_iconst (v := (3 : Int32)) (pc := 23) hx hb dX0_cure_23 (by decide) ?_
  exact V_iret (pc := 24) C hH hL hrun dX0_cure_24

theorem b_X0_cure {rr : (Int32 ⊕ Ex) × Hp}  (C : CX p l R s m args meth c D Hs cX0_cure "MassclaimLaw" 5 (some .int) [(0, 10, 13, 25), (0, 10, 17, 13), (0, 10, 21, 19)] 9 154)  : ∀ (x0 : Nat) (x1 : Int32) (x2 : Int32) (x3 : Nat) (h : Hp) (H : Heap) (locs : List Loc) (cells slots : Nat) (ls : Array Slot), HP D Hs h H → LO Hs locs → lv_has ls 5 [(0, rv x0), (1, .int x1), (2, .int x2), (3, rv x3)] → f_X0_cure x0 x1 x2 x3 h = some rr → W p l e R s m args below meth c H locs cells slots (ZM D Hs iI rr below args s) (F0 m 0 ls []) := by
  obtain ⟨⟨hx, hb, hml, hown, hts⟩, -⟩ := id C
  have hl9 := C.2.1.2.2.1
  intro x0 x1 x2 x3 h H locs cells slots ls hH hL hl hrun
  unfold f_X0_cure at hrun
  refine V_aload_n (pc := 0) hx hb dX0_cure_0 rfl (lv_at hl 3 rfl) ?_
  refine lv_iconst (v := (0 : Int32)) (pc := 1) hx hb dX0_cure_1 (by decide) ?_
  refine V_aload_n (pc := 2) hx hb dX0_cure_2 rfl (lv_at hl 0 rfl) ?_
  refine lv_iload_n (pc := 3) hx hb dX0_cure_3 rfl (lv_at hl 1 rfl) ?_
  refine lv_iload_n (pc := 4) hx hb dX0_cure_4 rfl (lv_at hl 2 rfl) ?_
  obtain ⟨c3, hrun⟩ := gd_some hrun
  refine V_bdH (pc := 5) hL hrun (fun rr1 e1 => Z_runV (rest := [.int (0 : Int32), rv x3]) C hH (m_X1_cure hl9 e1) wV_X0_119 c3 rfl (by decide) rfl rfl ⟨by decide, by decide⟩ rfl (by simp [csum, rv_cat, cat_i, cat_l, cat_f, cat_d]) hl.1 dX0_cure_5) (fun v1 h2 H locs cells slots hH hL hrun => ?_) (fun x_ q_ ce_ h7 H locs cells slots hH hL hrun hc_ hv_ hcl_ => ?_)
  · refine lv_i2l (pc := 8) hx hb dX0_cure_8 rfl ?_
    obtain ⟨c4, hrun⟩ := gd_some hrun
    refine V_last (pc := 9) C hH hL dX0_cure_9 c4 hrun (fun h5 H locs hH hL hrun => ?_)
    refine lv_goto (tgt := 25) (pc := 10) hx hb dX0_cure_10 (by decide) ?_
    refine lv_iconst (v := (0 : Int32)) (pc := 25) hx hb dX0_cure_25 (by decide) ?_
    exact V_iret (pc := 26) C hH hL hrun dX0_cure_26
  · by_cases n901 : x_ = 901
    · subst n901
      have hrun := ite_t hrun rfl
      refine vx_catch (E := "java/lang/IndexOutOfBoundsException") (name := "java/lang/IndexOutOfBoundsException") hown (tableOf []) ⟨0, 10, 13, 25⟩ (tableOf [(0, 10, 17, 13), (0, 10, 21, 19)]) (by rw [C.2.1.2.2.2.2]; rfl) (fun z hz => nomatch hz) (by decide) (by decide) (hts _ q829) (va_Nw.use rfl (C.2.1.2.2.2.1.2.1 _ q537 rfl)) hc_ hv_ hcl_ ?_
      exact b_X0_cure_13 C (q_ + 1) h7 H locs cells slots ls hH hL (lv_sub hl [] rfl) hrun
    have hrun := ite_f hrun n901
    by_cases n902 : x_ = 902
    · subst n902
      have hrun := ite_t hrun rfl
      refine vx_catch (E := "java/lang/IllegalArgumentException") (name := "java/lang/IllegalArgumentException") hown (tableOf [(0, 10, 13, 25)]) ⟨0, 10, 17, 13⟩ (tableOf [(0, 10, 21, 19)]) (by rw [C.2.1.2.2.2.2]; rfl) (fun z hz => by simp only [tableOf, List.map, List.mem_cons, List.not_mem_nil, or_false] at hz; rcases hz with rfl <;> first | exact Or.inr ⟨by decide, "java/lang/IndexOutOfBoundsException", hts _ q829, nc_at C (by decide)⟩) (by decide) (by decide) (hts _ q449) (va_Nw.use rfl (C.2.1.2.2.2.1.2.1 _ q463 rfl)) hc_ hv_ hcl_ ?_
      exact b_X0_cure_17 C (q_ + 1) h7 H locs cells slots ls hH hL (lv_sub hl [] rfl) hrun
    have hrun := ite_f hrun n902
    by_cases n903 : x_ = 903
    · subst n903
      have hrun := ite_t hrun rfl
      refine vx_catch (E := "java/lang/IllegalStateException") (name := "java/lang/IllegalStateException") hown (tableOf [(0, 10, 13, 25), (0, 10, 17, 13)]) ⟨0, 10, 21, 19⟩ (tableOf []) (by rw [C.2.1.2.2.2.2]; rfl) (fun z hz => by simp only [tableOf, List.map, List.mem_cons, List.not_mem_nil, or_false] at hz; rcases hz with rfl | rfl <;> first | exact Or.inr ⟨by decide, "java/lang/IndexOutOfBoundsException", hts _ q829, nc_at C (by decide)⟩ | exact Or.inr ⟨by decide, "java/lang/IllegalArgumentException", hts _ q449, nc_at C (by decide)⟩) (by decide) (by decide) (hts _ q585) (va_Nw.use rfl (C.2.1.2.2.2.1.2.1 _ q702 rfl)) hc_ hv_ hcl_ ?_
      exact b_X0_cure_21 C (q_ + 1) h7 H locs cells slots ls hH hL (lv_sub hl [] rfl) hrun
    have hrun := ite_f hrun n903
    cases hrun

theorem m_X0_cure {l : Launch} {D : va_G} {Hs : Heap} {h : Hp} {rr : (Int32 ⊕ Ex) × Hp} (hl9 : l.stackTraces = false) {x0 : Nat} {x1 : Int32} {x2 : Int32} {x3 : Nat} (hrun : f_X0_cure x0 x1 x2 x3 h = some rr) : CM l yX0_cure (wsW_ yX0_cure cX0_cure 5 (some .int) [(0, 10, 13, 25), (0, 10, 17, 13), (0, 10, 21, 19)]) 9 154 iI [rv x0, .int x1, .int x2, rv x3] D Hs h rr := by
  refine CM.ofH (lv := [(0, rv x0), (1, .int x1), (2, .int x2), (3, rv x3)]) (plainFor_of_name (by decide)) hl9 (by simp [lv_args, rv_cat, cat_i, cat_l, cat_f, cat_d]) (by simp [lg_sl, rv_cat, cat_i, cat_l, cat_f, cat_d]) ?_
  intro p e R s m args below meth c H ls C hH hl hin
  exact b_X0_cure C x0 x1 x2 x3 _ H [] _ _ ls hH (fun _ q => nomatch q) (lv_sub hl [0, 1, 2, 3] rfl) hrun

/-! MassclaimModel.cure(II)I -/
def f_X4_cure_32  (h : Hp) : Rt Int32 :=
  some (.inl (0 : Int32), h)
def f_X4_cure_109  (x3 : Nat) (h : Hp) : Rt Int32 :=
  gd (kC h x3 = 13) <| some (.inl (kI h 1203 x3), h)
def f_X4_cure_69  (x0 : Nat) (x2 : Int32) (x3 : Nat) (y0 : Nat) (y1 : Int32) (h : Hp) : Rt Int32 :=
  gd (kC h y0 = 4) <| bd (f_X4_isGood y0 y1 (3 : Int32) h) fun v2 h3 => if v2 = 0 then
  (some (.inl (0 : Int32), h3))
  else
  (if x2 = (-1 : Int32) then
  (gd (kC h3 x3 = 13) <| vl (sI h3 1203 x3 (1 : Int32)) fun h10 => gd (kC h10 x0 = 4) <| gd (kC h10 x3 = 13) <| vl (sI h10 1206 x3 (kI h10 301 x0)) fun h13 => f_X4_cure_109 x3 h13)
  else
  (gd (kC h3 x3 = 13) <| vl (sI h3 1203 x3 (0 : Int32)) fun h6 => gd (kC h6 x3 = 13) <| vl (sI h6 1201 x3 x2) fun h8 => f_X4_cure_109 x3 h8))
def f_X4_cure_61  (x0 : Nat) (x2 : Int32) (x3 : Nat) (y0 : Nat) (y1 : Int32) (y2 : Int32) (h : Hp) : Rt Int32 :=
  if y1 = y2 then
  (f_X4_cure_69 x0 x2 x3 y0 (1 : Int32) h)
  else
  (f_X4_cure_69 x0 x2 x3 y0 (0 : Int32) h)
def f_X4_cure  (x0 : Nat) (x1 : Int32) (x2 : Int32) (h : Hp) : Rt Int32 :=
  gd (kC h x0 = 4) <| bd (f_X4_isClaim x0 x1 h) fun v14 h15 => gd (kC h15 x0 = 4) <| bd (f_X4_isGood x0 v14 (1 : Int32) h15) fun v17 h18 => if v17 = 0 then
  (f_X4_cure_32  h18)
  else
  (bd (f_X4_isWithin (x2.toInt64) (-1 : Int64) (3 : Int64) h18) fun v20 h21 => gd (kC h21 x0 = 4) <| bd (f_X4_isGood x0 v20 (2 : Int32) h21) fun v22 h23 => if v22 = 0 then
  (f_X4_cure_32  h23)
  else
  (gd (kC h23 x0 = 4) <| gd (kC h23 (kR h23 320 x0) = 18) <| bd (f_J2_get (kR h23 320 x0) x1 h23) fun v26 h27 => gd (v26 = 0 ∨ kC h27 v26 = 13) <| gd (kC h27 v26 = 13) <| if x2 = (-1 : Int32) then
  (f_X4_cure_61 x0 x2 v26 x0 (kI h27 1203 v26) (0 : Int32) h27)
  else
  (f_X4_cure_61 x0 x2 v26 x0 (kI h27 1203 v26) (1 : Int32) h27)))
theorem b_X4_cure_32 {rr : (Int32 ⊕ Ex) × Hp}  (C : CX p l R s m args meth c D Hs cX4_cure "MassclaimModel" 4 (some .int) [] 4 64)  : ∀ (h : Hp) (H : Heap) (locs : List Loc) (cells slots : Nat) (ls : Array Slot), HP D Hs h H → LO Hs locs → lv_has ls 4 [] → f_X4_cure_32 h = some rr → W p l e R s m args below meth c H locs cells slots (ZM D Hs iI rr below args s) (F0 m 32 ls []) := by
  obtain ⟨⟨hx, hb, hml, hown, hts⟩, -⟩ := id C
  have hl9 := C.2.1.2.2.1
  intro h H locs cells slots ls hH hL hl hrun
  unfold f_X4_cure_32 at hrun
  refine lv_iconst (v := (0 : Int32)) (pc := 32) hx hb dX4_cure_32 (by decide) ?_
  exact V_iret (pc := 33) C hH hL hrun dX4_cure_33

theorem b_X4_cure_109 {rr : (Int32 ⊕ Ex) × Hp}  (C : CX p l R s m args meth c D Hs cX4_cure "MassclaimModel" 4 (some .int) [] 4 64)  : ∀ (x3 : Nat) (h : Hp) (H : Heap) (locs : List Loc) (cells slots : Nat) (ls : Array Slot), HP D Hs h H → LO Hs locs → lv_has ls 4 [(3, rv x3)] → f_X4_cure_109 x3 h = some rr → W p l e R s m args below meth c H locs cells slots (ZM D Hs iI rr below args s) (F0 m 109 ls []) := by
  obtain ⟨⟨hx, hb, hml, hown, hts⟩, -⟩ := id C
  have hl9 := C.2.1.2.2.1
  intro x3 h H locs cells slots ls hH hL hl hrun
  unfold f_X4_cure_109 at hrun
  refine V_aload_n (pc := 109) hx hb dX4_cure_109 rfl (lv_at hl 0 rfl) ?_
  obtain ⟨c1, hrun⟩ := gd_some hrun
  refine V_getI (pc := 110) C hH fr_X4_126 dX4_cure_110 c1 rfl ?_
  exact V_iret (pc := 113) C hH hL hrun dX4_cure_113

theorem b_X4_cure_69 {rr : (Int32 ⊕ Ex) × Hp}  (C : CX p l R s m args meth c D Hs cX4_cure "MassclaimModel" 4 (some .int) [] 4 64)  : ∀ (x0 : Nat) (x2 : Int32) (x3 : Nat) (y0 : Nat) (y1 : Int32) (h : Hp) (H : Heap) (locs : List Loc) (cells slots : Nat) (ls : Array Slot), HP D Hs h H → LO Hs locs → lv_has ls 4 [(0, rv x0), (2, .int x2), (3, rv x3)] → f_X4_cure_69 x0 x2 x3 y0 y1 h = some rr → W p l e R s m args below meth c H locs cells slots (ZM D Hs iI rr below args s) (F0 m 69 ls [.int y1, rv y0]) := by
  obtain ⟨⟨hx, hb, hml, hown, hts⟩, -⟩ := id C
  have hl9 := C.2.1.2.2.1
  intro x0 x2 x3 y0 y1 h H locs cells slots ls hH hL hl hrun
  unfold f_X4_cure_69 at hrun
  refine lv_iconst (v := (3 : Int32)) (pc := 69) hx hb dX4_cure_69 (by decide) ?_
  obtain ⟨c4, hrun⟩ := gd_some hrun
  refine V_bd (pc := 70) C hL rfl hrun (fun rr1 e1 => Z_runV (rest := []) C hH (m_X4_isGood hl9 e1) wV_X4_104 c4 rfl (by decide) rfl rfl ⟨by decide, by decide⟩ rfl (Nat.le_of_ble_eq_true rfl) hl.1 dX4_cure_70) (fun v2 h3 H locs cells slots hH hL hrun => ?_)
  refine lv_if_ne (tgt := 78) (pc := 73) hx hb dX4_cure_73 (by decide) (fun c_ => ?_) (fun c_ => ?_)
  · have hrun := ite_f hrun c_
    refine lv_iload_n (pc := 78) hx hb dX4_cure_78 rfl (lv_at hl 1 rfl) ?_
    refine lv_iconst (v := (-1 : Int32)) (pc := 79) hx hb dX4_cure_79 (by decide) ?_
    refine lv_icmp_ne (tgt := 99) (pc := 80) hx hb dX4_cure_80 (by decide) (fun c_ => ?_) (fun c_ => ?_)
    · have hrun := ite_f hrun c_
      refine V_aload_n (pc := 99) hx hb dX4_cure_99 rfl (lv_at hl 2 rfl) ?_
      refine lv_iconst (v := (0 : Int32)) (pc := 100) hx hb dX4_cure_100 (by decide) ?_
      obtain ⟨c5, hrun⟩ := gd_some hrun
      refine V_putI (pc := 101) C hH hL fl_X4_126 dX4_cure_101 c5 (fok_i _) rfl (fun q => Bool.noConfusion q) hrun (fun h6 H locs hH hL hrun => ?_)
      refine V_aload_n (pc := 104) hx hb dX4_cure_104 rfl (lv_at hl 2 rfl) ?_
      refine lv_iload_n (pc := 105) hx hb dX4_cure_105 rfl (lv_at hl 1 rfl) ?_
      obtain ⟨c7, hrun⟩ := gd_some hrun
      refine V_putI (pc := 106) C hH hL fl_X4_373 dX4_cure_106 c7 (fok_i _) rfl (fun q => Bool.noConfusion q) hrun (fun h8 H locs hH hL hrun => ?_)
      exact b_X4_cure_109 C x3 h8 H locs cells slots ls hH hL (lv_sub hl [2] rfl) hrun
    · have hrun := ite_t hrun c_
      refine V_aload_n (pc := 83) hx hb dX4_cure_83 rfl (lv_at hl 2 rfl) ?_
      refine lv_iconst (v := (1 : Int32)) (pc := 84) hx hb dX4_cure_84 (by decide) ?_
      obtain ⟨c9, hrun⟩ := gd_some hrun
      refine V_putI (pc := 85) C hH hL fl_X4_126 dX4_cure_85 c9 (fok_i _) rfl (fun q => Bool.noConfusion q) hrun (fun h10 H locs hH hL hrun => ?_)
      refine V_aload_n (pc := 88) hx hb dX4_cure_88 rfl (lv_at hl 2 rfl) ?_
      refine V_aload_n (pc := 89) hx hb dX4_cure_89 rfl (lv_at hl 0 rfl) ?_
      obtain ⟨c11, hrun⟩ := gd_some hrun
      refine V_getI (pc := 90) C hH fr_X4_43 dX4_cure_90 c11 rfl ?_
      obtain ⟨c12, hrun⟩ := gd_some hrun
      refine V_putI (pc := 93) C hH hL fl_X4_129 dX4_cure_93 c12 (fok_i _) rfl (fun q => Bool.noConfusion q) hrun (fun h13 H locs hH hL hrun => ?_)
      refine lv_goto (tgt := 109) (pc := 96) hx hb dX4_cure_96 (by decide) ?_
      exact b_X4_cure_109 C x3 h13 H locs cells slots ls hH hL (lv_sub hl [2] rfl) hrun
  · have hrun := ite_t hrun c_
    refine lv_iconst (v := (0 : Int32)) (pc := 76) hx hb dX4_cure_76 (by decide) ?_
    exact V_iret (pc := 77) C hH hL hrun dX4_cure_77

theorem b_X4_cure_61 {rr : (Int32 ⊕ Ex) × Hp}  (C : CX p l R s m args meth c D Hs cX4_cure "MassclaimModel" 4 (some .int) [] 4 64)  : ∀ (x0 : Nat) (x2 : Int32) (x3 : Nat) (y0 : Nat) (y1 : Int32) (y2 : Int32) (h : Hp) (H : Heap) (locs : List Loc) (cells slots : Nat) (ls : Array Slot), HP D Hs h H → LO Hs locs → lv_has ls 4 [(0, rv x0), (2, .int x2), (3, rv x3)] → f_X4_cure_61 x0 x2 x3 y0 y1 y2 h = some rr → W p l e R s m args below meth c H locs cells slots (ZM D Hs iI rr below args s) (F0 m 61 ls [.int y2, .int y1, rv y0]) := by
  obtain ⟨⟨hx, hb, hml, hown, hts⟩, -⟩ := id C
  have hl9 := C.2.1.2.2.1
  intro x0 x2 x3 y0 y1 y2 h H locs cells slots ls hH hL hl hrun
  unfold f_X4_cure_61 at hrun
  refine lv_icmp_ne (tgt := 68) (pc := 61) hx hb dX4_cure_61 (by decide) (fun c_ => ?_) (fun c_ => ?_)
  · have hrun := ite_f hrun c_
    refine lv_iconst (v := (0 : Int32)) (pc := 68) hx hb dX4_cure_68 (by decide) ?_
    exact b_X4_cure_69 C x0 x2 x3 y0 (0 : Int32) h H locs cells slots ls hH hL (lv_sub hl [0, 1, 2] rfl) hrun
  · have hrun := ite_t hrun c_
    refine lv_iconst (v := (1 : Int32)) (pc := 64) hx hb dX4_cure_64 (by decide) ?_
    refine lv_goto (tgt := 69) (pc := 65) hx hb dX4_cure_65 (by decide) ?_
    exact b_X4_cure_69 C x0 x2 x3 y0 (1 : Int32) h H locs cells slots ls hH hL (lv_sub hl [0, 1, 2] rfl) hrun

theorem b_X4_cure {rr : (Int32 ⊕ Ex) × Hp}  (C : CX p l R s m args meth c D Hs cX4_cure "MassclaimModel" 4 (some .int) [] 4 64)  : ∀ (x0 : Nat) (x1 : Int32) (x2 : Int32) (h : Hp) (H : Heap) (locs : List Loc) (cells slots : Nat) (ls : Array Slot), HP D Hs h H → LO Hs locs → lv_has ls 4 [(0, rv x0), (1, .int x1), (2, .int x2)] → f_X4_cure x0 x1 x2 h = some rr → W p l e R s m args below meth c H locs cells slots (ZM D Hs iI rr below args s) (F0 m 0 ls []) := by
  obtain ⟨⟨hx, hb, hml, hown, hts⟩, -⟩ := id C
  have hl9 := C.2.1.2.2.1
  intro x0 x1 x2 h H locs cells slots ls hH hL hl hrun
  unfold f_X4_cure at hrun
  refine V_aload_n (pc := 0) hx hb dX4_cure_0 rfl (lv_at hl 0 rfl) ?_
  refine V_aload_n (pc := 1) hx hb dX4_cure_1 rfl (lv_at hl 0 rfl) ?_
  refine lv_iload_n (pc := 2) hx hb dX4_cure_2 rfl (lv_at hl 1 rfl) ?_
  obtain ⟨c16, hrun⟩ := gd_some hrun
  refine V_bd (pc := 3) C hL rfl hrun (fun rr1 e1 => Z_runV (rest := [rv x0]) C hH (m_X4_isClaim hl9 e1) wV_X4_416 c16 rfl (by decide) rfl rfl ⟨by decide, by decide⟩ rfl (by simp [csum, rv_cat, cat_i, cat_l, cat_f, cat_d]) hl.1 dX4_cure_3) (fun v14 h15 H locs cells slots hH hL hrun => ?_)
  refine lv_iconst (v := (1 : Int32)) (pc := 6) hx hb dX4_cure_6 (by decide) ?_
  obtain ⟨c19, hrun⟩ := gd_some hrun
  refine V_bd (pc := 7) C hL rfl hrun (fun rr1 e1 => Z_runV (rest := []) C hH (m_X4_isGood hl9 e1) wV_X4_104 c19 rfl (by decide) rfl rfl ⟨by decide, by decide⟩ rfl (Nat.le_of_ble_eq_true rfl) hl.1 dX4_cure_7) (fun v17 h18 H locs cells slots hH hL hrun => ?_)
  refine lv_if_eq (tgt := 32) (pc := 10) hx hb dX4_cure_10 (by decide) (fun c_ => ?_) (fun c_ => ?_)
  · have hrun := ite_t hrun c_
    exact b_X4_cure_32 C h18 H locs cells slots ls hH hL (lv_sub hl [] rfl) hrun
  · have hrun := ite_f hrun c_
    refine V_aload_n (pc := 13) hx hb dX4_cure_13 rfl (lv_at hl 0 rfl) ?_
    refine lv_iload_n (pc := 14) hx hb dX4_cure_14 rfl (lv_at hl 2 rfl) ?_
    refine lv_i2l (pc := 15) hx hb dX4_cure_15 rfl ?_
    refine lv_ldc2 (pc := 16) hx hb hown (hts _ q2400) dX4_cure_16 ?_
    refine lv_ldc2 (pc := 19) hx hb hown (hts _ q1978) dX4_cure_19 ?_
    refine V_bd (pc := 22) C hL rfl hrun (fun rr1 e1 => Z_runS (rest := [rv x0]) C hH (m_X4_isWithin hl9 e1) wS_X4_100 rfl ⟨by decide, by decide⟩ rfl (by simp [csum, rv_cat, cat_i, cat_l, cat_f, cat_d]) hl.1 dX4_cure_22) (fun v20 h21 H locs cells slots hH hL hrun => ?_)
    refine lv_iconst (v := (2 : Int32)) (pc := 25) hx hb dX4_cure_25 (by decide) ?_
    obtain ⟨c24, hrun⟩ := gd_some hrun
    refine V_bd (pc := 26) C hL rfl hrun (fun rr1 e1 => Z_runV (rest := []) C hH (m_X4_isGood hl9 e1) wV_X4_104 c24 rfl (by decide) rfl rfl ⟨by decide, by decide⟩ rfl (Nat.le_of_ble_eq_true rfl) hl.1 dX4_cure_26) (fun v22 h23 H locs cells slots hH hL hrun => ?_)
    refine lv_if_ne (tgt := 34) (pc := 29) hx hb dX4_cure_29 (by decide) (fun c_ => ?_) (fun c_ => ?_)
    · have hrun := ite_f hrun c_
      refine V_aload_n (pc := 34) hx hb dX4_cure_34 rfl (lv_at hl 0 rfl) ?_
      obtain ⟨c25, hrun⟩ := gd_some hrun
      refine V_getR (pc := 35) C hH fr_X4_30 dX4_cure_35 c25 rfl ?_
      refine lv_iload_n (pc := 38) hx hb dX4_cure_38 rfl (lv_at hl 1 rfl) ?_
      obtain ⟨c28, hrun⟩ := gd_some hrun
      refine V_bd (pc := 39) C hL rfl hrun (fun rr1 e1 => Z_runV (rest := []) C hH (m_J2_get hl9 e1) wV_X4_108 c28 rfl (by decide) rfl rfl ⟨by decide, by decide⟩ rfl (Nat.le_of_ble_eq_true rfl) hl.1 dX4_cure_39) (fun v26 h27 H locs cells slots hH hL hrun => ?_)
      obtain ⟨c29, hrun⟩ := gd_some hrun
      refine V_castX (pc := 42) (ci := 12) C hH rfl (by decide) q1955 dX4_cure_42 c29 ?_
      refine V_astore_n (i := 3) (lv' := [(3, rv v26), (0, rv x0), (1, .int x1), (2, .int x2)]) (pc := 45) hx hb dX4_cure_45 rfl hl (by decide) rfl (fun ls hl => ?_)
      refine V_aload_n (pc := 46) hx hb dX4_cure_46 rfl (lv_at hl 1 rfl) ?_
      refine V_aload_n (pc := 47) hx hb dX4_cure_47 rfl (lv_at hl 0 rfl) ?_
      obtain ⟨c30, hrun⟩ := gd_some hrun
      refine V_getI (pc := 48) C hH fr_X4_126 dX4_cure_48 c30 rfl ?_
      refine lv_iload_n (pc := 51) hx hb dX4_cure_51 rfl (lv_at hl 3 rfl) ?_
      refine lv_iconst (v := (-1 : Int32)) (pc := 52) hx hb dX4_cure_52 (by decide) ?_
      refine lv_icmp_ne (tgt := 60) (pc := 53) hx hb dX4_cure_53 (by decide) (fun c_ => ?_) (fun c_ => ?_)
      · have hrun := ite_f hrun c_
        refine lv_iconst (v := (1 : Int32)) (pc := 60) hx hb dX4_cure_60 (by decide) ?_
        exact b_X4_cure_61 C x0 x2 v26 x0 (kI h27 1203 v26) (1 : Int32) h27 H locs cells slots ls hH hL (lv_sub hl [1, 3, 0] rfl) hrun
      · have hrun := ite_t hrun c_
        refine lv_iconst (v := (0 : Int32)) (pc := 56) hx hb dX4_cure_56 (by decide) ?_
        refine lv_goto (tgt := 61) (pc := 57) hx hb dX4_cure_57 (by decide) ?_
        exact b_X4_cure_61 C x0 x2 v26 x0 (kI h27 1203 v26) (0 : Int32) h27 H locs cells slots ls hH hL (lv_sub hl [1, 3, 0] rfl) hrun
    · have hrun := ite_t hrun c_
      exact b_X4_cure_32 C h23 H locs cells slots ls hH hL (lv_sub hl [] rfl) hrun

theorem m_X4_cure {l : Launch} {D : va_G} {Hs : Heap} {h : Hp} {rr : (Int32 ⊕ Ex) × Hp} (hl9 : l.stackTraces = false) {x0 : Nat} {x1 : Int32} {x2 : Int32} (hrun : f_X4_cure x0 x1 x2 h = some rr) : CM l yX4_cure (ws_ yX4_cure cX4_cure 4 (some .int)) 4 64 iI [rv x0, .int x1, .int x2] D Hs h rr := by
  refine CM.of (lv := [(0, rv x0), (1, .int x1), (2, .int x2)]) (plainFor_of_name (by decide)) hl9 (by simp [lv_args, rv_cat, cat_i, cat_l, cat_f, cat_d]) (by simp [lg_sl, rv_cat, cat_i, cat_l, cat_f, cat_d]) ?_
  intro p e R s m args below meth c H ls C hH hl hin
  exact b_X4_cure C x0 x1 x2 _ H [] _ _ ls hH (fun _ q => nomatch q) (lv_sub hl [0, 1, 2] rfl) hrun

/-! Massclaim.sample(I)I -/
def f_X1_sample_83 (k22 : Nat → Int32 → Int32 → Nat → Hp → Rt Int32) (x0 : Nat) (x1 : Int32) (x2 : Int32) (x3 : Nat) (h : Hp) : Rt Int32 :=
  k22 x0 x1 x2 x3 h
def f_X1_sample_22  : Nat → Nat → Int32 → Int32 → Nat → Hp → Rt Int32
  | 0, _, _, _, _, _ => none
  | n + 1, x0, x1, x2, x3, h => gd (kC h x3 = 19) <| bd (f_J16_hasNext x3 h) fun v1 h2 => if v1 = 0 then
  (some (.inl x2, h2))
  else
  (gd (kC h2 x3 = 19) <| bd (f_J16_next x3 h2) fun v4 h5 => gd (v4 = 0 ∨ kC h5 v4 = 12) <| gd (kC h5 v4 = 12) <| if (kI h5 1104 v4) = 0 then
  (if (kI h5 1109 v4) = 0 then
  (gd (¬ x1 = 0) <| gd (kC h5 x0 = 1) <| gd (¬ x1 = 0) <| if ((kI h5 1100 v4) - (kI h5 1100 v4) / x1 * x1) = ((kI h5 18 x0) - (kI h5 18 x0) / x1 * x1) then
  (vl (sI h5 1104 v4 (2 : Int32)) fun h12 => vl (x2 + (1 : Int32)) fun v13 => f_X1_sample_83 (f_X1_sample_22 n) x0 x1 v13 x3 h12)
  else
  (f_X1_sample_83 (f_X1_sample_22 n) x0 x1 x2 x3 h5))
  else
  (f_X1_sample_83 (f_X1_sample_22 n) x0 x1 x2 x3 h5))
  else
  (f_X1_sample_83 (f_X1_sample_22 n) x0 x1 x2 x3 h5))
def f_X1_sample  (x0 : Nat) (x1 : Int32) (h : Hp) : Rt Int32 :=
  bd (f_X1_isIn (x1.toInt64) (1 : Int64) (50 : Int64) h) fun v14 h15 => bd (f_X1_requireArgument v14 h15) fun _ h17 => gd (kC h17 x0 = 1) <| gd (kC h17 (kR h17 3 x0) = 2) <| bd (f_X2_iterator (kR h17 3 x0) h17) fun v19 h20 => f_X1_sample_22 FU x0 x1 (0 : Int32) v19 h20
theorem b_X1_sample_83 {rr : (Int32 ⊕ Ex) × Hp} {k22 : Nat → Int32 → Int32 → Nat → Hp → Rt Int32} (C : CX p l R s m args meth c D Hs cX1_sample "Massclaim" 5 (some .int) [] 7 110) (K22 : ∀ (x0 : Nat) (x1 : Int32) (x2 : Int32) (x3 : Nat) (h : Hp) (H : Heap) (locs : List Loc) (cells slots : Nat) (ls : Array Slot), HP D Hs h H → LO Hs locs → lv_has ls 5 [(0, rv x0), (1, .int x1), (2, .int x2), (3, rv x3)] → k22 x0 x1 x2 x3 h = some rr → W p l e R s m args below meth c H locs cells slots (ZM D Hs iI rr below args s) (F0 m 22 ls [])) : ∀ (x0 : Nat) (x1 : Int32) (x2 : Int32) (x3 : Nat) (h : Hp) (H : Heap) (locs : List Loc) (cells slots : Nat) (ls : Array Slot), HP D Hs h H → LO Hs locs → lv_has ls 5 [(0, rv x0), (1, .int x1), (2, .int x2), (3, rv x3)] → f_X1_sample_83 k22 x0 x1 x2 x3 h = some rr → W p l e R s m args below meth c H locs cells slots (ZM D Hs iI rr below args s) (F0 m 83 ls []) := by
  obtain ⟨⟨hx, hb, hml, hown, hts⟩, -⟩ := id C
  have hl9 := C.2.1.2.2.1
  intro x0 x1 x2 x3 h H locs cells slots ls hH hL hl hrun
  unfold f_X1_sample_83 at hrun
  refine lv_goto (tgt := 22) (pc := 83) hx hb dX1_sample_83 (by decide) ?_
  exact K22 x0 x1 x2 x3 h H locs cells slots ls hH hL (lv_sub hl [0, 1, 2, 3] rfl) hrun

theorem b_X1_sample_22 {rr : (Int32 ⊕ Ex) × Hp}  (C : CX p l R s m args meth c D Hs cX1_sample "Massclaim" 5 (some .int) [] 7 110)  : ∀ (n : Nat) (x0 : Nat) (x1 : Int32) (x2 : Int32) (x3 : Nat) (h : Hp) (H : Heap) (locs : List Loc) (cells slots : Nat) (ls : Array Slot), HP D Hs h H → LO Hs locs → lv_has ls 5 [(0, rv x0), (1, .int x1), (2, .int x2), (3, rv x3)] → f_X1_sample_22 n x0 x1 x2 x3 h = some rr → W p l e R s m args below meth c H locs cells slots (ZM D Hs iI rr below args s) (F0 m 22 ls []) := by
  obtain ⟨⟨hx, hb, hml, hown, hts⟩, -⟩ := id C
  have hl9 := C.2.1.2.2.1
  intro n
  induction n with
  | zero =>
    intro x0 x1 x2 x3 h H locs cells slots ls hH hL hl hrun
    cases (show (none : Option _) = some rr from hrun)
  | succ n ih =>
    intro x0 x1 x2 x3 h H locs cells slots ls hH hL hl hrun
    rw [f_X1_sample_22] at hrun
    refine V_aload_n (pc := 22) hx hb dX1_sample_22 rfl (lv_at hl 3 rfl) ?_
    obtain ⟨c3, hrun⟩ := gd_some hrun
    refine V_bd5 (pc := 23) C hL rfl hrun (fun rr1 e1 => Z_runF (rest := []) C hH (m_J16_hasNext hl9 e1) rfl wF_X1_212_J16 c3 (by decide) rfl ⟨by decide, by decide⟩ rfl (Nat.le_of_ble_eq_true rfl) hl.1 dX1_sample_23) (fun v1 h2 H locs cells slots hH hL hrun => ?_)
    refine lv_if_eq (tgt := 86) (pc := 28) hx hb dX1_sample_28 (by decide) (fun c_ => ?_) (fun c_ => ?_)
    · have hrun := ite_t hrun c_
      refine lv_iload_n (pc := 86) hx hb dX1_sample_86 rfl (lv_at hl 2 rfl) ?_
      exact V_iret (pc := 87) C hH hL hrun dX1_sample_87
    · have hrun := ite_f hrun c_
      refine V_aload_n (pc := 31) hx hb dX1_sample_31 rfl (lv_at hl 3 rfl) ?_
      obtain ⟨c6, hrun⟩ := gd_some hrun
      refine V_bd5 (pc := 32) C hL rfl hrun (fun rr1 e1 => Z_runF (rest := []) C hH (m_J16_next hl9 e1) rfl wF_X1_217_J16 c6 (by decide) rfl ⟨by decide, by decide⟩ rfl (Nat.le_of_ble_eq_true rfl) hl.1 dX1_sample_32) (fun v4 h5 H locs cells slots hH hL hrun => ?_)
      obtain ⟨c7, hrun⟩ := gd_some hrun
      refine V_castX (pc := 37) (ci := 11) C hH rfl (by decide) q403 dX1_sample_37 c7 ?_
      refine V_astore (i := 4) (lv' := [(4, rv v4), (0, rv x0), (1, .int x1), (2, .int x2), (3, rv x3)]) (pc := 40) hx hb dX1_sample_40 hl (by decide) (by simp [rv_cat, cat_i, cat_l, cat_f, cat_d]) (fun ls hl => ?_)
      refine V_aload (pc := 42) hx hb dX1_sample_42 (lv_at hl 0 rfl) ?_
      obtain ⟨c8, hrun⟩ := gd_some hrun
      refine V_getNI (pc := 44) C hH fn_X1_157 dX1_sample_44 c8 rfl ?_
      refine lv_if_ne (tgt := 83) (pc := 47) hx hb dX1_sample_47 (by decide) (fun c_ => ?_) (fun c_ => ?_)
      · have hrun := ite_f hrun c_
        exact b_X1_sample_83 C ih x0 x1 x2 x3 h5 H locs cells slots ls hH hL (lv_sub hl [1, 2, 3, 4] rfl) hrun
      · have hrun := ite_t hrun c_
        refine V_aload (pc := 50) hx hb dX1_sample_50 (lv_at hl 0 rfl) ?_
        refine V_getNI (pc := 52) C hH fn_X1_428 dX1_sample_52 c8 rfl ?_
        refine lv_if_ne (tgt := 83) (pc := 55) hx hb dX1_sample_55 (by decide) (fun c_ => ?_) (fun c_ => ?_)
        · have hrun := ite_f hrun c_
          exact b_X1_sample_83 C ih x0 x1 x2 x3 h5 H locs cells slots ls hH hL (lv_sub hl [1, 2, 3, 4] rfl) hrun
        · have hrun := ite_t hrun c_
          refine V_aload (pc := 58) hx hb dX1_sample_58 (lv_at hl 0 rfl) ?_
          refine V_getNI (pc := 60) C hH fn_X1_255 dX1_sample_60 c8 rfl ?_
          refine lv_iload_n (pc := 63) hx hb dX1_sample_63 rfl (lv_at hl 2 rfl) ?_
          obtain ⟨c9, hrun⟩ := gd_some hrun
          refine lv_irem (pc := 64) hx hb dX1_sample_64 c9 ?_
          refine V_aload_n (pc := 65) hx hb dX1_sample_65 rfl (lv_at hl 1 rfl) ?_
          obtain ⟨c10, hrun⟩ := gd_some hrun
          refine V_getI (pc := 66) C hH fr_X1_115 dX1_sample_66 c10 rfl ?_
          refine lv_iload_n (pc := 69) hx hb dX1_sample_69 rfl (lv_at hl 2 rfl) ?_
          obtain ⟨c11, hrun⟩ := gd_some hrun
          refine lv_irem (pc := 70) hx hb dX1_sample_70 c11 ?_
          refine lv_icmp_ne (tgt := 83) (pc := 71) hx hb dX1_sample_71 (by decide) (fun c_ => ?_) (fun c_ => ?_)
          · have hrun := ite_f hrun c_
            exact b_X1_sample_83 C ih x0 x1 x2 x3 h5 H locs cells slots ls hH hL (lv_sub hl [1, 2, 3, 4] rfl) hrun
          · have hrun := ite_t hrun c_
            refine V_aload (pc := 74) hx hb dX1_sample_74 (lv_at hl 0 rfl) ?_
            refine lv_iconst (v := (2 : Int32)) (pc := 76) hx hb dX1_sample_76 (by decide) ?_
            refine V_putNI (pc := 77) C hH hL fn_X1_157 dX1_sample_77 c8 (fok_i _) rfl hrun (fun h12 H locs hH hL hrun => ?_)
            obtain ⟨v13, ev13⟩ : ∃ y : Int32, y = x2 + (1 : Int32) := ⟨_, rfl⟩
            have hrun := vl_at hrun v13 ev13
            refine lv_iinc (v := v13) (lv' := [(2, .int v13), (4, rv v4), (0, rv x0), (1, .int x1), (3, rv x3)]) (pc := 80) hx hb dX1_sample_80 hl (k := 3) rfl (by rw [ev13]; rfl) (by decide) (by first | rfl | simp [rv_cat, cat_i, cat_l, cat_f, cat_d]) (fun ls hl => ?_)
            exact b_X1_sample_83 C ih x0 x1 v13 x3 h12 H locs cells slots ls hH hL (lv_sub hl [2, 3, 0, 4] rfl) hrun

theorem b_X1_sample {rr : (Int32 ⊕ Ex) × Hp}  (C : CX p l R s m args meth c D Hs cX1_sample "Massclaim" 5 (some .int) [] 7 110)  : ∀ (x0 : Nat) (x1 : Int32) (h : Hp) (H : Heap) (locs : List Loc) (cells slots : Nat) (ls : Array Slot), HP D Hs h H → LO Hs locs → lv_has ls 5 [(0, rv x0), (1, .int x1)] → f_X1_sample x0 x1 h = some rr → W p l e R s m args below meth c H locs cells slots (ZM D Hs iI rr below args s) (F0 m 0 ls []) := by
  obtain ⟨⟨hx, hb, hml, hown, hts⟩, -⟩ := id C
  have hl9 := C.2.1.2.2.1
  intro x0 x1 h H locs cells slots ls hH hL hl hrun
  unfold f_X1_sample at hrun
  refine lv_iload_n (pc := 0) hx hb dX1_sample_0 rfl (lv_at hl 1 rfl) ?_
  refine lv_i2l (pc := 1) hx hb dX1_sample_1 rfl ?_
  refine lv_lconst (v := (1 : Int64)) (pc := 2) hx hb dX1_sample_2 (by decide) ?_
  refine lv_ldc2 (pc := 3) hx hb hown (hts _ q1391) dX1_sample_3 ?_
  refine V_bd (pc := 6) C hL rfl hrun (fun rr1 e1 => Z_runS (rest := []) C hH (m_X1_isIn hl9 e1) wS_X1_127 rfl ⟨by decide, by decide⟩ rfl (Nat.le_of_ble_eq_true rfl) hl.1 dX1_sample_6) (fun v14 h15 H locs cells slots hH hL hrun => ?_)
  refine V_bd (pc := 9) C hL rfl hrun (fun rr1 e1 => Z_runS (rest := []) C hH (m_X1_requireArgument hl9 e1) wS_X1_131 rfl ⟨by decide, by decide⟩ rfl (Nat.le_of_ble_eq_true rfl) hl.1 dX1_sample_9) (fun _ h17 H locs cells slots hH hL hrun => ?_)
  refine lv_iconst (v := (0 : Int32)) (pc := 12) hx hb dX1_sample_12 (by decide) ?_
  refine lv_istore_n (i := 2) (lv' := [(2, .int (0 : Int32)), (0, rv x0), (1, .int x1)]) (pc := 13) hx hb dX1_sample_13 rfl hl (by decide) rfl (fun ls hl => ?_)
  refine V_aload_n (pc := 14) hx hb dX1_sample_14 rfl (lv_at hl 1 rfl) ?_
  obtain ⟨c18, hrun⟩ := gd_some hrun
  refine V_getR (pc := 15) C hH fr_X1_52 dX1_sample_15 c18 rfl ?_
  obtain ⟨c21, hrun⟩ := gd_some hrun
  refine V_bd (pc := 18) C hL rfl hrun (fun rr1 e1 => Z_runV (rest := []) C hH (m_X2_iterator hl9 e1) wV_X1_208 c21 rfl (by decide) rfl rfl ⟨by decide, by decide⟩ rfl (Nat.le_of_ble_eq_true rfl) hl.1 dX1_sample_18) (fun v19 h20 H locs cells slots hH hL hrun => ?_)
  refine V_astore_n (i := 3) (lv' := [(3, rv v19), (2, .int (0 : Int32)), (0, rv x0), (1, .int x1)]) (pc := 21) hx hb dX1_sample_21 rfl hl (by decide) rfl (fun ls hl => ?_)
  exact b_X1_sample_22 C FU x0 x1 (0 : Int32) v19 h20 H locs cells slots ls hH hL (lv_sub hl [2, 3, 1, 0] rfl) hrun

theorem m_X1_sample {l : Launch} {D : va_G} {Hs : Heap} {h : Hp} {rr : (Int32 ⊕ Ex) × Hp} (hl9 : l.stackTraces = false) {x0 : Nat} {x1 : Int32} (hrun : f_X1_sample x0 x1 h = some rr) : CM l yX1_sample (ws_ yX1_sample cX1_sample 5 (some .int)) 7 110 iI [rv x0, .int x1] D Hs h rr := by
  refine CM.of (lv := [(0, rv x0), (1, .int x1)]) (plainFor_of_name (by decide)) hl9 (by simp [lv_args, rv_cat, cat_i, cat_l, cat_f, cat_d]) (by simp [lg_sl, rv_cat, cat_i, cat_l, cat_f, cat_d]) ?_
  intro p e R s m args below meth c H ls C hH hl hin
  exact b_X1_sample C x0 x1 _ H [] _ _ ls hH (fun _ q => nomatch q) (lv_sub hl [0, 1] rfl) hrun

/-! MassclaimLaw.sample(LMassclaim;I[J)I -/
def f_X0_sample_12  (y0 : Nat) (h : Hp) : Rt Int32 :=
  some (.inl (1 : Int32), h)
def f_X0_sample  (x0 : Nat) (x1 : Int32) (x2 : Nat) (h : Hp) : Rt Int32 :=
  gd (kC h x0 = 1) <| bdH (f_X1_sample x0 x1 h)
  (fun v1 h2 => gd (kC h2 x2 = 102 ∧ ixo (0 : Int32) (kN h2 x2)) <| vl (tL h2 x2 ((0 : Int32)).toNatClampNeg (v1.toInt64)) fun h5 => some (.inl (0 : Int32), h5))
  (fun ex6 h7 => if ex6.1 = 902 then
  (f_X0_sample_12 ex6.2 h7)
  else
  none)
theorem b_X0_sample_12 {rr : (Int32 ⊕ Ex) × Hp}  (C : CX p l R s m args meth c D Hs cX0_sample "MassclaimLaw" 4 (some .int) [(0, 9, 12, 13)] 8 134)  : ∀ (y0 : Nat) (h : Hp) (H : Heap) (locs : List Loc) (cells slots : Nat) (ls : Array Slot), HP D Hs h H → LO Hs locs → lv_has ls 4 [] → f_X0_sample_12 y0 h = some rr → W p l e R s m args below meth c H locs cells slots (ZM D Hs iI rr below args s) (F0 m 12 ls [rv y0]) := by
  obtain ⟨⟨hx, hb, hml, hown, hts⟩, -⟩ := id C
  have hl9 := C.2.1.2.2.1
  intro y0 h H locs cells slots ls hH hL hl hrun
  unfold f_X0_sample_12 at hrun
  refine V_astore_n (i := 3) (lv' := [(3, rv y0)]) (pc := 12) hx hb dX0_sample_12 rfl hl (by decide) rfl (fun ls hl => ?_)
  refine lv_iconst (v := (1 : Int32)) (pc := 13) hx hb dX0_sample_13 (by decide) ?_
  exact V_iret (pc := 14) C hH hL hrun dX0_sample_14

theorem b_X0_sample {rr : (Int32 ⊕ Ex) × Hp}  (C : CX p l R s m args meth c D Hs cX0_sample "MassclaimLaw" 4 (some .int) [(0, 9, 12, 13)] 8 134)  : ∀ (x0 : Nat) (x1 : Int32) (x2 : Nat) (h : Hp) (H : Heap) (locs : List Loc) (cells slots : Nat) (ls : Array Slot), HP D Hs h H → LO Hs locs → lv_has ls 4 [(0, rv x0), (1, .int x1), (2, rv x2)] → f_X0_sample x0 x1 x2 h = some rr → W p l e R s m args below meth c H locs cells slots (ZM D Hs iI rr below args s) (F0 m 0 ls []) := by
  obtain ⟨⟨hx, hb, hml, hown, hts⟩, -⟩ := id C
  have hl9 := C.2.1.2.2.1
  intro x0 x1 x2 h H locs cells slots ls hH hL hl hrun
  unfold f_X0_sample at hrun
  refine V_aload_n (pc := 0) hx hb dX0_sample_0 rfl (lv_at hl 2 rfl) ?_
  refine lv_iconst (v := (0 : Int32)) (pc := 1) hx hb dX0_sample_1 (by decide) ?_
  refine V_aload_n (pc := 2) hx hb dX0_sample_2 rfl (lv_at hl 0 rfl) ?_
  refine lv_iload_n (pc := 3) hx hb dX0_sample_3 rfl (lv_at hl 1 rfl) ?_
  obtain ⟨c3, hrun⟩ := gd_some hrun
  refine V_bdH (pc := 4) hL hrun (fun rr1 e1 => Z_runV (rest := [.int (0 : Int32), rv x2]) C hH (m_X1_sample hl9 e1) wV_X0_122 c3 rfl (by decide) rfl rfl ⟨by decide, by decide⟩ rfl (by simp [csum, rv_cat, cat_i, cat_l, cat_f, cat_d]) hl.1 dX0_sample_4) (fun v1 h2 H locs cells slots hH hL hrun => ?_) (fun x_ q_ ce_ h7 H locs cells slots hH hL hrun hc_ hv_ hcl_ => ?_)
  · refine lv_i2l (pc := 7) hx hb dX0_sample_7 rfl ?_
    obtain ⟨c4, hrun⟩ := gd_some hrun
    refine V_last (pc := 8) C hH hL dX0_sample_8 c4 hrun (fun h5 H locs hH hL hrun => ?_)
    refine lv_goto (tgt := 15) (pc := 9) hx hb dX0_sample_9 (by decide) ?_
    refine lv_iconst (v := (0 : Int32)) (pc := 15) hx hb dX0_sample_15 (by decide) ?_
    exact V_iret (pc := 16) C hH hL hrun dX0_sample_16
  · by_cases n902 : x_ = 902
    · subst n902
      have hrun := ite_t hrun rfl
      refine vx_catch (E := "java/lang/IllegalArgumentException") (name := "java/lang/IllegalArgumentException") hown (tableOf []) ⟨0, 9, 12, 13⟩ (tableOf []) (by rw [C.2.1.2.2.2.2]; rfl) (fun z hz => nomatch hz) (by decide) (by decide) (hts _ q449) (va_Nw.use rfl (C.2.1.2.2.2.1.2.1 _ q463 rfl)) hc_ hv_ hcl_ ?_
      exact b_X0_sample_12 C (q_ + 1) h7 H locs cells slots ls hH hL (lv_sub hl [] rfl) hrun
    have hrun := ite_f hrun n902
    cases hrun

theorem m_X0_sample {l : Launch} {D : va_G} {Hs : Heap} {h : Hp} {rr : (Int32 ⊕ Ex) × Hp} (hl9 : l.stackTraces = false) {x0 : Nat} {x1 : Int32} {x2 : Nat} (hrun : f_X0_sample x0 x1 x2 h = some rr) : CM l yX0_sample (wsW_ yX0_sample cX0_sample 4 (some .int) [(0, 9, 12, 13)]) 8 134 iI [rv x0, .int x1, rv x2] D Hs h rr := by
  refine CM.ofH (lv := [(0, rv x0), (1, .int x1), (2, rv x2)]) (plainFor_of_name (by decide)) hl9 (by simp [lv_args, rv_cat, cat_i, cat_l, cat_f, cat_d]) (by simp [lg_sl, rv_cat, cat_i, cat_l, cat_f, cat_d]) ?_
  intro p e R s m args below meth c H ls C hH hl hin
  exact b_X0_sample C x0 x1 x2 _ H [] _ _ ls hH (fun _ q => nomatch q) (lv_sub hl [0, 1, 2] rfl) hrun

/-! MassclaimModel.sample(I)I -/
def f_X4_sample_84 (k23 : Nat → Int32 → Int32 → Int32 → Hp → Rt Int32) (x0 : Nat) (x1 : Int32) (x2 : Int32) (x3 : Int32) (h : Hp) : Rt Int32 :=
  vl (x3 + (1 : Int32)) fun v1 => k23 x0 x1 x2 v1 h
def f_X4_sample_23  : Nat → Nat → Int32 → Int32 → Int32 → Hp → Rt Int32
  | 0, _, _, _, _, _ => none
  | n + 1, x0, x1, x2, x3, h => gd (kC h x0 = 4) <| gd (kC h (kR h 320 x0) = 18) <| bd (f_J2_size (kR h 320 x0) h) fun v3 h4 => if v3 ≤ x3 then
  (some (.inl x2, h4))
  else
  (gd (kC h4 x0 = 4) <| gd (kC h4 (kR h4 320 x0) = 18) <| bd (f_J2_get (kR h4 320 x0) x3 h4) fun v7 h8 => gd (v7 = 0 ∨ kC h8 v7 = 13) <| gd (kC h8 v7 = 13) <| if (kI h8 1203 v7) = 0 then
  (if (kI h8 1204 v7) = 0 then
  (gd (¬ x1 = 0) <| gd (kC h8 x0 = 4) <| gd (¬ x1 = 0) <| if (x3 - x3 / x1 * x1) = ((kI h8 301 x0) - (kI h8 301 x0) / x1 * x1) then
  (vl (sI h8 1203 v7 (2 : Int32)) fun h15 => vl (x2 + (1 : Int32)) fun v16 => f_X4_sample_84 (f_X4_sample_23 n) x0 x1 v16 x3 h15)
  else
  (f_X4_sample_84 (f_X4_sample_23 n) x0 x1 x2 x3 h8))
  else
  (f_X4_sample_84 (f_X4_sample_23 n) x0 x1 x2 x3 h8))
  else
  (f_X4_sample_84 (f_X4_sample_23 n) x0 x1 x2 x3 h8))
def f_X4_sample  (x0 : Nat) (x1 : Int32) (h : Hp) : Rt Int32 :=
  bd (f_X4_isWithin (x1.toInt64) (1 : Int64) (50 : Int64) h) fun v17 h18 => gd (kC h18 x0 = 4) <| bd (f_X4_isGood x0 v17 (1 : Int32) h18) fun v19 h20 => if v19 = 0 then
  (some (.inl (0 : Int32), h20))
  else
  (f_X4_sample_23 FU x0 x1 (0 : Int32) (0 : Int32) h20)
theorem b_X4_sample_84 {rr : (Int32 ⊕ Ex) × Hp} {k23 : Nat → Int32 → Int32 → Int32 → Hp → Rt Int32} (C : CX p l R s m args meth c D Hs cX4_sample "MassclaimModel" 5 (some .int) [] 4 64) (K23 : ∀ (x0 : Nat) (x1 : Int32) (x2 : Int32) (x3 : Int32) (h : Hp) (H : Heap) (locs : List Loc) (cells slots : Nat) (ls : Array Slot), HP D Hs h H → LO Hs locs → lv_has ls 5 [(0, rv x0), (1, .int x1), (2, .int x2), (3, .int x3)] → k23 x0 x1 x2 x3 h = some rr → W p l e R s m args below meth c H locs cells slots (ZM D Hs iI rr below args s) (F0 m 23 ls [])) : ∀ (x0 : Nat) (x1 : Int32) (x2 : Int32) (x3 : Int32) (h : Hp) (H : Heap) (locs : List Loc) (cells slots : Nat) (ls : Array Slot), HP D Hs h H → LO Hs locs → lv_has ls 5 [(0, rv x0), (1, .int x1), (2, .int x2), (3, .int x3)] → f_X4_sample_84 k23 x0 x1 x2 x3 h = some rr → W p l e R s m args below meth c H locs cells slots (ZM D Hs iI rr below args s) (F0 m 84 ls []) := by
  obtain ⟨⟨hx, hb, hml, hown, hts⟩, -⟩ := id C
  have hl9 := C.2.1.2.2.1
  intro x0 x1 x2 x3 h H locs cells slots ls hH hL hl hrun
  unfold f_X4_sample_84 at hrun
  obtain ⟨v1, ev1⟩ : ∃ y : Int32, y = x3 + (1 : Int32) := ⟨_, rfl⟩
  have hrun := vl_at hrun v1 ev1
  refine lv_iinc (v := v1) (lv' := [(3, .int v1), (0, rv x0), (1, .int x1), (2, .int x2)]) (pc := 84) hx hb dX4_sample_84 hl (k := 3) rfl (by rw [ev1]; rfl) (by decide) (by first | rfl | simp [rv_cat, cat_i, cat_l, cat_f, cat_d]) (fun ls hl => ?_)
  refine lv_goto (tgt := 23) (pc := 87) hx hb dX4_sample_87 (by decide) ?_
  exact K23 x0 x1 x2 v1 h H locs cells slots ls hH hL (lv_sub hl [1, 2, 3, 0] rfl) hrun

theorem b_X4_sample_23 {rr : (Int32 ⊕ Ex) × Hp}  (C : CX p l R s m args meth c D Hs cX4_sample "MassclaimModel" 5 (some .int) [] 4 64)  : ∀ (n : Nat) (x0 : Nat) (x1 : Int32) (x2 : Int32) (x3 : Int32) (h : Hp) (H : Heap) (locs : List Loc) (cells slots : Nat) (ls : Array Slot), HP D Hs h H → LO Hs locs → lv_has ls 5 [(0, rv x0), (1, .int x1), (2, .int x2), (3, .int x3)] → f_X4_sample_23 n x0 x1 x2 x3 h = some rr → W p l e R s m args below meth c H locs cells slots (ZM D Hs iI rr below args s) (F0 m 23 ls []) := by
  obtain ⟨⟨hx, hb, hml, hown, hts⟩, -⟩ := id C
  have hl9 := C.2.1.2.2.1
  intro n
  induction n with
  | zero =>
    intro x0 x1 x2 x3 h H locs cells slots ls hH hL hl hrun
    cases (show (none : Option _) = some rr from hrun)
  | succ n ih =>
    intro x0 x1 x2 x3 h H locs cells slots ls hH hL hl hrun
    rw [f_X4_sample_23] at hrun
    refine lv_iload_n (pc := 23) hx hb dX4_sample_23 rfl (lv_at hl 3 rfl) ?_
    refine V_aload_n (pc := 24) hx hb dX4_sample_24 rfl (lv_at hl 0 rfl) ?_
    obtain ⟨c2, hrun⟩ := gd_some hrun
    refine V_getR (pc := 25) C hH fr_X4_30 dX4_sample_25 c2 rfl ?_
    obtain ⟨c5, hrun⟩ := gd_some hrun
    refine V_bd (pc := 28) C hL rfl hrun (fun rr1 e1 => Z_runV (rest := [.int x3]) C hH (m_J2_size hl9 e1) wV_X4_94 c5 rfl (by decide) rfl rfl ⟨by decide, by decide⟩ rfl (Nat.le_of_ble_eq_true rfl) hl.1 dX4_sample_28) (fun v3 h4 H locs cells slots hH hL hrun => ?_)
    refine lv_icmp_ge (tgt := 90) (pc := 31) hx hb dX4_sample_31 (by decide) (fun c_ => ?_) (fun c_ => ?_)
    · have hrun := ite_t hrun c_
      refine lv_iload_n (pc := 90) hx hb dX4_sample_90 rfl (lv_at hl 2 rfl) ?_
      exact V_iret (pc := 91) C hH hL hrun dX4_sample_91
    · have hrun := ite_f hrun c_
      refine V_aload_n (pc := 34) hx hb dX4_sample_34 rfl (lv_at hl 0 rfl) ?_
      obtain ⟨c6, hrun⟩ := gd_some hrun
      refine V_getR (pc := 35) C hH fr_X4_30 dX4_sample_35 c6 rfl ?_
      refine lv_iload_n (pc := 38) hx hb dX4_sample_38 rfl (lv_at hl 3 rfl) ?_
      obtain ⟨c9, hrun⟩ := gd_some hrun
      refine V_bd (pc := 39) C hL rfl hrun (fun rr1 e1 => Z_runV (rest := []) C hH (m_J2_get hl9 e1) wV_X4_108 c9 rfl (by decide) rfl rfl ⟨by decide, by decide⟩ rfl (Nat.le_of_ble_eq_true rfl) hl.1 dX4_sample_39) (fun v7 h8 H locs cells slots hH hL hrun => ?_)
      obtain ⟨c10, hrun⟩ := gd_some hrun
      refine V_castX (pc := 42) (ci := 12) C hH rfl (by decide) q1955 dX4_sample_42 c10 ?_
      refine V_astore (i := 4) (lv' := [(4, rv v7), (0, rv x0), (1, .int x1), (2, .int x2), (3, .int x3)]) (pc := 45) hx hb dX4_sample_45 hl (by decide) rfl (fun ls hl => ?_)
      refine V_aload (pc := 47) hx hb dX4_sample_47 (lv_at hl 0 rfl) ?_
      obtain ⟨c11, hrun⟩ := gd_some hrun
      refine V_getI (pc := 49) C hH fr_X4_126 dX4_sample_49 c11 rfl ?_
      refine lv_if_ne (tgt := 84) (pc := 52) hx hb dX4_sample_52 (by decide) (fun c_ => ?_) (fun c_ => ?_)
      · have hrun := ite_f hrun c_
        exact b_X4_sample_84 C ih x0 x1 x2 x3 h8 H locs cells slots ls hH hL (lv_sub hl [1, 2, 3, 4] rfl) hrun
      · have hrun := ite_t hrun c_
        refine V_aload (pc := 55) hx hb dX4_sample_55 (lv_at hl 0 rfl) ?_
        refine V_getI (pc := 57) C hH fr_X4_392 dX4_sample_57 c11 rfl ?_
        refine lv_if_ne (tgt := 84) (pc := 60) hx hb dX4_sample_60 (by decide) (fun c_ => ?_) (fun c_ => ?_)
        · have hrun := ite_f hrun c_
          exact b_X4_sample_84 C ih x0 x1 x2 x3 h8 H locs cells slots ls hH hL (lv_sub hl [1, 2, 3, 4] rfl) hrun
        · have hrun := ite_t hrun c_
          refine lv_iload_n (pc := 63) hx hb dX4_sample_63 rfl (lv_at hl 4 rfl) ?_
          refine lv_iload_n (pc := 64) hx hb dX4_sample_64 rfl (lv_at hl 2 rfl) ?_
          obtain ⟨c12, hrun⟩ := gd_some hrun
          refine lv_irem (pc := 65) hx hb dX4_sample_65 c12 ?_
          refine V_aload_n (pc := 66) hx hb dX4_sample_66 rfl (lv_at hl 1 rfl) ?_
          obtain ⟨c13, hrun⟩ := gd_some hrun
          refine V_getI (pc := 67) C hH fr_X4_43 dX4_sample_67 c13 rfl ?_
          refine lv_iload_n (pc := 70) hx hb dX4_sample_70 rfl (lv_at hl 2 rfl) ?_
          obtain ⟨c14, hrun⟩ := gd_some hrun
          refine lv_irem (pc := 71) hx hb dX4_sample_71 c14 ?_
          refine lv_icmp_ne (tgt := 84) (pc := 72) hx hb dX4_sample_72 (by decide) (fun c_ => ?_) (fun c_ => ?_)
          · have hrun := ite_f hrun c_
            exact b_X4_sample_84 C ih x0 x1 x2 x3 h8 H locs cells slots ls hH hL (lv_sub hl [1, 2, 3, 4] rfl) hrun
          · have hrun := ite_t hrun c_
            refine V_aload (pc := 75) hx hb dX4_sample_75 (lv_at hl 0 rfl) ?_
            refine lv_iconst (v := (2 : Int32)) (pc := 77) hx hb dX4_sample_77 (by decide) ?_
            refine V_putI (pc := 78) C hH hL fl_X4_126 dX4_sample_78 c11 (fok_i _) rfl (fun q => Bool.noConfusion q) hrun (fun h15 H locs hH hL hrun => ?_)
            obtain ⟨v16, ev16⟩ : ∃ y : Int32, y = x2 + (1 : Int32) := ⟨_, rfl⟩
            have hrun := vl_at hrun v16 ev16
            refine lv_iinc (v := v16) (lv' := [(2, .int v16), (4, rv v7), (0, rv x0), (1, .int x1), (3, .int x3)]) (pc := 81) hx hb dX4_sample_81 hl (k := 3) rfl (by rw [ev16]; rfl) (by decide) (by first | rfl | simp [rv_cat, cat_i, cat_l, cat_f, cat_d]) (fun ls hl => ?_)
            exact b_X4_sample_84 C ih x0 x1 v16 x3 h15 H locs cells slots ls hH hL (lv_sub hl [2, 3, 0, 4] rfl) hrun

theorem b_X4_sample {rr : (Int32 ⊕ Ex) × Hp}  (C : CX p l R s m args meth c D Hs cX4_sample "MassclaimModel" 5 (some .int) [] 4 64)  : ∀ (x0 : Nat) (x1 : Int32) (h : Hp) (H : Heap) (locs : List Loc) (cells slots : Nat) (ls : Array Slot), HP D Hs h H → LO Hs locs → lv_has ls 5 [(0, rv x0), (1, .int x1)] → f_X4_sample x0 x1 h = some rr → W p l e R s m args below meth c H locs cells slots (ZM D Hs iI rr below args s) (F0 m 0 ls []) := by
  obtain ⟨⟨hx, hb, hml, hown, hts⟩, -⟩ := id C
  have hl9 := C.2.1.2.2.1
  intro x0 x1 h H locs cells slots ls hH hL hl hrun
  unfold f_X4_sample at hrun
  refine V_aload_n (pc := 0) hx hb dX4_sample_0 rfl (lv_at hl 0 rfl) ?_
  refine lv_iload_n (pc := 1) hx hb dX4_sample_1 rfl (lv_at hl 1 rfl) ?_
  refine lv_i2l (pc := 2) hx hb dX4_sample_2 rfl ?_
  refine lv_lconst (v := (1 : Int64)) (pc := 3) hx hb dX4_sample_3 (by decide) ?_
  refine lv_ldc2 (pc := 4) hx hb hown (hts _ q2258) dX4_sample_4 ?_
  refine V_bd (pc := 7) C hL rfl hrun (fun rr1 e1 => Z_runS (rest := [rv x0]) C hH (m_X4_isWithin hl9 e1) wS_X4_100 rfl ⟨by decide, by decide⟩ rfl (by simp [csum, rv_cat, cat_i, cat_l, cat_f, cat_d]) hl.1 dX4_sample_7) (fun v17 h18 H locs cells slots hH hL hrun => ?_)
  refine lv_iconst (v := (1 : Int32)) (pc := 10) hx hb dX4_sample_10 (by decide) ?_
  obtain ⟨c21, hrun⟩ := gd_some hrun
  refine V_bd (pc := 11) C hL rfl hrun (fun rr1 e1 => Z_runV (rest := []) C hH (m_X4_isGood hl9 e1) wV_X4_104 c21 rfl (by decide) rfl rfl ⟨by decide, by decide⟩ rfl (Nat.le_of_ble_eq_true rfl) hl.1 dX4_sample_11) (fun v19 h20 H locs cells slots hH hL hrun => ?_)
  refine lv_if_ne (tgt := 19) (pc := 14) hx hb dX4_sample_14 (by decide) (fun c_ => ?_) (fun c_ => ?_)
  · have hrun := ite_f hrun c_
    refine lv_iconst (v := (0 : Int32)) (pc := 19) hx hb dX4_sample_19 (by decide) ?_
    refine lv_istore_n (i := 2) (lv' := [(2, .int (0 : Int32)), (0, rv x0), (1, .int x1)]) (pc := 20) hx hb dX4_sample_20 rfl hl (by decide) rfl (fun ls hl => ?_)
    refine lv_iconst (v := (0 : Int32)) (pc := 21) hx hb dX4_sample_21 (by decide) ?_
    refine lv_istore_n (i := 3) (lv' := [(3, .int (0 : Int32)), (2, .int (0 : Int32)), (0, rv x0), (1, .int x1)]) (pc := 22) hx hb dX4_sample_22 rfl hl (by decide) rfl (fun ls hl => ?_)
    exact b_X4_sample_23 C FU x0 x1 (0 : Int32) (0 : Int32) h20 H locs cells slots ls hH hL (lv_sub hl [2, 3, 1, 0] rfl) hrun
  · have hrun := ite_t hrun c_
    refine lv_iconst (v := (0 : Int32)) (pc := 17) hx hb dX4_sample_17 (by decide) ?_
    exact V_iret (pc := 18) C hH hL hrun dX4_sample_18

theorem m_X4_sample {l : Launch} {D : va_G} {Hs : Heap} {h : Hp} {rr : (Int32 ⊕ Ex) × Hp} (hl9 : l.stackTraces = false) {x0 : Nat} {x1 : Int32} (hrun : f_X4_sample x0 x1 h = some rr) : CM l yX4_sample (ws_ yX4_sample cX4_sample 5 (some .int)) 4 64 iI [rv x0, .int x1] D Hs h rr := by
  refine CM.of (lv := [(0, rv x0), (1, .int x1)]) (plainFor_of_name (by decide)) hl9 (by simp [lv_args, rv_cat, cat_i, cat_l, cat_f, cat_d]) (by simp [lg_sl, rv_cat, cat_i, cat_l, cat_f, cat_d]) ?_
  intro p e R s m args below meth c H ls C hH hl hin
  exact b_X4_sample C x0 x1 _ H [] _ _ ls hH (fun _ q => nomatch q) (lv_sub hl [0, 1] rfl) hrun

/-! Massclaim.audit(IZ)I -/
def f_X1_audit_43  (x3 : Nat) (y0 : Nat) (y1 : Int32) (h : Hp) : Rt Int32 :=
  gd (kC h y0 = 12) <| vl (sI h 1104 y0 y1) fun h2 => gd (kC h2 x3 = 12) <| some (.inl (kI h2 1104 x3), h2)
def f_X1_audit_25  (x2 : Int32) (x3 : Nat) (y0 : Int32) (h : Hp) : Rt Int32 :=
  bd (f_X1_requireState y0 h) fun _ h5 => gd (kC h5 x3 = 12) <| vl (sI h5 1109 x3 (1 : Int32)) fun h7 => if x2 = 0 then
  (f_X1_audit_43 x3 x3 (4 : Int32) h7)
  else
  (f_X1_audit_43 x3 x3 (0 : Int32) h7)
def f_X1_audit  (x0 : Nat) (x1 : Int32) (x2 : Int32) (h : Hp) : Rt Int32 :=
  gd (kC h x0 = 1) <| gd (kC h (kR h 3 x0) = 2) <| bd (f_X2_at (kR h 3 x0) x1 h) fun v9 h10 => gd (v9 = 0 ∨ kC h10 v9 = 12) <| gd (kC h10 v9 = 12) <| if (kI h10 1104 v9) = (2 : Int32) then
  (f_X1_audit_25 x2 v9 (1 : Int32) h10)
  else
  (f_X1_audit_25 x2 v9 (0 : Int32) h10)
theorem b_X1_audit_43 {rr : (Int32 ⊕ Ex) × Hp}  (C : CX p l R s m args meth c D Hs cX1_audit "Massclaim" 4 (some .int) [] 8 131)  : ∀ (x3 : Nat) (y0 : Nat) (y1 : Int32) (h : Hp) (H : Heap) (locs : List Loc) (cells slots : Nat) (ls : Array Slot), HP D Hs h H → LO Hs locs → lv_has ls 4 [(3, rv x3)] → f_X1_audit_43 x3 y0 y1 h = some rr → W p l e R s m args below meth c H locs cells slots (ZM D Hs iI rr below args s) (F0 m 43 ls [.int y1, rv y0]) := by
  obtain ⟨⟨hx, hb, hml, hown, hts⟩, -⟩ := id C
  have hl9 := C.2.1.2.2.1
  intro x3 y0 y1 h H locs cells slots ls hH hL hl hrun
  unfold f_X1_audit_43 at hrun
  obtain ⟨c1, hrun⟩ := gd_some hrun
  refine V_putNI (pc := 43) C hH hL fn_X1_157 dX1_audit_43 c1 (fok_i _) rfl hrun (fun h2 H locs hH hL hrun => ?_)
  refine V_aload_n (pc := 46) hx hb dX1_audit_46 rfl (lv_at hl 0 rfl) ?_
  obtain ⟨c3, hrun⟩ := gd_some hrun
  refine V_getNI (pc := 47) C hH fn_X1_157 dX1_audit_47 c3 rfl ?_
  exact V_iret (pc := 50) C hH hL hrun dX1_audit_50

theorem b_X1_audit_25 {rr : (Int32 ⊕ Ex) × Hp}  (C : CX p l R s m args meth c D Hs cX1_audit "Massclaim" 4 (some .int) [] 8 131)  : ∀ (x2 : Int32) (x3 : Nat) (y0 : Int32) (h : Hp) (H : Heap) (locs : List Loc) (cells slots : Nat) (ls : Array Slot), HP D Hs h H → LO Hs locs → lv_has ls 4 [(2, .int x2), (3, rv x3)] → f_X1_audit_25 x2 x3 y0 h = some rr → W p l e R s m args below meth c H locs cells slots (ZM D Hs iI rr below args s) (F0 m 25 ls [.int y0]) := by
  obtain ⟨⟨hx, hb, hml, hown, hts⟩, -⟩ := id C
  have hl9 := C.2.1.2.2.1
  intro x2 x3 y0 h H locs cells slots ls hH hL hl hrun
  unfold f_X1_audit_25 at hrun
  refine V_bd (pc := 25) C hL rfl hrun (fun rr1 e1 => Z_runS (rest := []) C hH (m_X1_requireState hl9 e1) wS_X1_182 rfl ⟨by decide, by decide⟩ rfl (Nat.le_of_ble_eq_true rfl) hl.1 dX1_audit_25) (fun _ h5 H locs cells slots hH hL hrun => ?_)
  refine V_aload_n (pc := 28) hx hb dX1_audit_28 rfl (lv_at hl 1 rfl) ?_
  refine lv_iconst (v := (1 : Int32)) (pc := 29) hx hb dX1_audit_29 (by decide) ?_
  obtain ⟨c6, hrun⟩ := gd_some hrun
  refine V_putNI (pc := 30) C hH hL fn_X1_428 dX1_audit_30 c6 (fok_z (Or.inr rfl)) rfl hrun (fun h7 H locs hH hL hrun => ?_)
  refine V_aload_n (pc := 33) hx hb dX1_audit_33 rfl (lv_at hl 1 rfl) ?_
  refine lv_iload_n (pc := 34) hx hb dX1_audit_34 rfl (lv_at hl 0 rfl) ?_
  refine lv_if_eq (tgt := 42) (pc := 35) hx hb dX1_audit_35 (by decide) (fun c_ => ?_) (fun c_ => ?_)
  · have hrun := ite_t hrun c_
    refine lv_iconst (v := (4 : Int32)) (pc := 42) hx hb dX1_audit_42 (by decide) ?_
    exact b_X1_audit_43 C x3 x3 (4 : Int32) h7 H locs cells slots ls hH hL (lv_sub hl [1] rfl) hrun
  · have hrun := ite_f hrun c_
    refine lv_iconst (v := (0 : Int32)) (pc := 38) hx hb dX1_audit_38 (by decide) ?_
    refine lv_goto (tgt := 43) (pc := 39) hx hb dX1_audit_39 (by decide) ?_
    exact b_X1_audit_43 C x3 x3 (0 : Int32) h7 H locs cells slots ls hH hL (lv_sub hl [1] rfl) hrun

theorem b_X1_audit {rr : (Int32 ⊕ Ex) × Hp}  (C : CX p l R s m args meth c D Hs cX1_audit "Massclaim" 4 (some .int) [] 8 131)  : ∀ (x0 : Nat) (x1 : Int32) (x2 : Int32) (h : Hp) (H : Heap) (locs : List Loc) (cells slots : Nat) (ls : Array Slot), HP D Hs h H → LO Hs locs → lv_has ls 4 [(0, rv x0), (1, .int x1), (2, .int x2)] → f_X1_audit x0 x1 x2 h = some rr → W p l e R s m args below meth c H locs cells slots (ZM D Hs iI rr below args s) (F0 m 0 ls []) := by
  obtain ⟨⟨hx, hb, hml, hown, hts⟩, -⟩ := id C
  have hl9 := C.2.1.2.2.1
  intro x0 x1 x2 h H locs cells slots ls hH hL hl hrun
  unfold f_X1_audit at hrun
  refine V_aload_n (pc := 0) hx hb dX1_audit_0 rfl (lv_at hl 0 rfl) ?_
  obtain ⟨c8, hrun⟩ := gd_some hrun
  refine V_getR (pc := 1) C hH fr_X1_52 dX1_audit_1 c8 rfl ?_
  refine lv_iload_n (pc := 4) hx hb dX1_audit_4 rfl (lv_at hl 1 rfl) ?_
  obtain ⟨c11, hrun⟩ := gd_some hrun
  refine V_bd (pc := 5) C hL rfl hrun (fun rr1 e1 => Z_runV (rest := []) C hH (m_X2_at hl9 e1) wV_X1_136 c11 rfl (by decide) rfl rfl ⟨by decide, by decide⟩ rfl (Nat.le_of_ble_eq_true rfl) hl.1 dX1_audit_5) (fun v9 h10 H locs cells slots hH hL hrun => ?_)
  obtain ⟨c12, hrun⟩ := gd_some hrun
  refine V_castX (pc := 8) (ci := 11) C hH rfl (by decide) q403 dX1_audit_8 c12 ?_
  refine V_astore_n (i := 3) (lv' := [(3, rv v9), (0, rv x0), (1, .int x1), (2, .int x2)]) (pc := 11) hx hb dX1_audit_11 rfl hl (by decide) rfl (fun ls hl => ?_)
  refine V_aload_n (pc := 12) hx hb dX1_audit_12 rfl (lv_at hl 0 rfl) ?_
  obtain ⟨c13, hrun⟩ := gd_some hrun
  refine V_getNI (pc := 13) C hH fn_X1_157 dX1_audit_13 c13 rfl ?_
  refine lv_iconst (v := (2 : Int32)) (pc := 16) hx hb dX1_audit_16 (by decide) ?_
  refine lv_icmp_ne (tgt := 24) (pc := 17) hx hb dX1_audit_17 (by decide) (fun c_ => ?_) (fun c_ => ?_)
  · have hrun := ite_f hrun c_
    refine lv_iconst (v := (0 : Int32)) (pc := 24) hx hb dX1_audit_24 (by decide) ?_
    exact b_X1_audit_25 C x2 v9 (0 : Int32) h10 H locs cells slots ls hH hL (lv_sub hl [3, 0] rfl) hrun
  · have hrun := ite_t hrun c_
    refine lv_iconst (v := (1 : Int32)) (pc := 20) hx hb dX1_audit_20 (by decide) ?_
    refine lv_goto (tgt := 25) (pc := 21) hx hb dX1_audit_21 (by decide) ?_
    exact b_X1_audit_25 C x2 v9 (1 : Int32) h10 H locs cells slots ls hH hL (lv_sub hl [3, 0] rfl) hrun

theorem m_X1_audit {l : Launch} {D : va_G} {Hs : Heap} {h : Hp} {rr : (Int32 ⊕ Ex) × Hp} (hl9 : l.stackTraces = false) {x0 : Nat} {x1 : Int32} {x2 : Int32} (hrun : f_X1_audit x0 x1 x2 h = some rr) : CM l yX1_audit (ws_ yX1_audit cX1_audit 4 (some .int)) 8 131 iI [rv x0, .int x1, .int x2] D Hs h rr := by
  refine CM.of (lv := [(0, rv x0), (1, .int x1), (2, .int x2)]) (plainFor_of_name (by decide)) hl9 (by simp [lv_args, rv_cat, cat_i, cat_l, cat_f, cat_d]) (by simp [lg_sl, rv_cat, cat_i, cat_l, cat_f, cat_d]) ?_
  intro p e R s m args below meth c H ls C hH hl hin
  exact b_X1_audit C x0 x1 x2 _ H [] _ _ ls hH (fun _ q => nomatch q) (lv_sub hl [0, 1, 2] rfl) hrun

/-! MassclaimLaw.audit(LMassclaim;IZ[J)I -/
def f_X0_audit_13  (y0 : Nat) (h : Hp) : Rt Int32 :=
  some (.inl (1 : Int32), h)
def f_X0_audit_17  (y0 : Nat) (h : Hp) : Rt Int32 :=
  some (.inl (2 : Int32), h)
def f_X0_audit  (x0 : Nat) (x1 : Int32) (x2 : Int32) (x3 : Nat) (h : Hp) : Rt Int32 :=
  gd (kC h x0 = 1) <| bdH (f_X1_audit x0 x1 x2 h)
  (fun v1 h2 => gd (kC h2 x3 = 102 ∧ ixo (0 : Int32) (kN h2 x3)) <| vl (tL h2 x3 ((0 : Int32)).toNatClampNeg (v1.toInt64)) fun h5 => some (.inl (0 : Int32), h5))
  (fun ex6 h7 => if ex6.1 = 901 then
  (f_X0_audit_13 ex6.2 h7)
  else
  if ex6.1 = 903 then
  (f_X0_audit_17 ex6.2 h7)
  else
  none)
theorem b_X0_audit_13 {rr : (Int32 ⊕ Ex) × Hp}  (C : CX p l R s m args meth c D Hs cX0_audit "MassclaimLaw" 5 (some .int) [(0, 10, 13, 25), (0, 10, 17, 19)] 9 154)  : ∀ (y0 : Nat) (h : Hp) (H : Heap) (locs : List Loc) (cells slots : Nat) (ls : Array Slot), HP D Hs h H → LO Hs locs → lv_has ls 5 [] → f_X0_audit_13 y0 h = some rr → W p l e R s m args below meth c H locs cells slots (ZM D Hs iI rr below args s) (F0 m 13 ls [rv y0]) := by
  obtain ⟨⟨hx, hb, hml, hown, hts⟩, -⟩ := id C
  have hl9 := C.2.1.2.2.1
  intro y0 h H locs cells slots ls hH hL hl hrun
  unfold f_X0_audit_13 at hrun
  refine V_astore (i := 4) (lv' := [(4, rv y0)]) (pc := 13) hx hb dX0_audit_13 hl (by decide) rfl (fun ls hl => ?_)
  refine lv_iconst (v := (1 : Int32)) (pc := 15) hx hb dX0_audit_15 (by decide) ?_
  exact V_iret (pc := 16) C hH hL hrun dX0_audit_16

theorem b_X0_audit_17 {rr : (Int32 ⊕ Ex) × Hp}  (C : CX p l R s m args meth c D Hs cX0_audit "MassclaimLaw" 5 (some .int) [(0, 10, 13, 25), (0, 10, 17, 19)] 9 154)  : ∀ (y0 : Nat) (h : Hp) (H : Heap) (locs : List Loc) (cells slots : Nat) (ls : Array Slot), HP D Hs h H → LO Hs locs → lv_has ls 5 [] → f_X0_audit_17 y0 h = some rr → W p l e R s m args below meth c H locs cells slots (ZM D Hs iI rr below args s) (F0 m 17 ls [rv y0]) := by
  obtain ⟨⟨hx, hb, hml, hown, hts⟩, -⟩ := id C
  have hl9 := C.2.1.2.2.1
  intro y0 h H locs cells slots ls hH hL hl hrun
  unfold f_X0_audit_17 at hrun
  refine V_astore (i := 4) (lv' := [(4, rv y0)]) (pc := 17) hx hb dX0_audit_17 hl (by decide) rfl (fun ls hl => ?_)
  refine lv_iconst (v := (2 : Int32)) (pc := 19) hx hb dX0_audit_19 (by decide) ?_
  exact V_iret (pc := 20) C hH hL hrun dX0_audit_20

theorem b_X0_audit {rr : (Int32 ⊕ Ex) × Hp}  (C : CX p l R s m args meth c D Hs cX0_audit "MassclaimLaw" 5 (some .int) [(0, 10, 13, 25), (0, 10, 17, 19)] 9 154)  : ∀ (x0 : Nat) (x1 : Int32) (x2 : Int32) (x3 : Nat) (h : Hp) (H : Heap) (locs : List Loc) (cells slots : Nat) (ls : Array Slot), HP D Hs h H → LO Hs locs → lv_has ls 5 [(0, rv x0), (1, .int x1), (2, .int x2), (3, rv x3)] → f_X0_audit x0 x1 x2 x3 h = some rr → W p l e R s m args below meth c H locs cells slots (ZM D Hs iI rr below args s) (F0 m 0 ls []) := by
  obtain ⟨⟨hx, hb, hml, hown, hts⟩, -⟩ := id C
  have hl9 := C.2.1.2.2.1
  intro x0 x1 x2 x3 h H locs cells slots ls hH hL hl hrun
  unfold f_X0_audit at hrun
  refine V_aload_n (pc := 0) hx hb dX0_audit_0 rfl (lv_at hl 3 rfl) ?_
  refine lv_iconst (v := (0 : Int32)) (pc := 1) hx hb dX0_audit_1 (by decide) ?_
  refine V_aload_n (pc := 2) hx hb dX0_audit_2 rfl (lv_at hl 0 rfl) ?_
  refine lv_iload_n (pc := 3) hx hb dX0_audit_3 rfl (lv_at hl 1 rfl) ?_
  refine lv_iload_n (pc := 4) hx hb dX0_audit_4 rfl (lv_at hl 2 rfl) ?_
  obtain ⟨c3, hrun⟩ := gd_some hrun
  refine V_bdH (pc := 5) hL hrun (fun rr1 e1 => Z_runV (rest := [.int (0 : Int32), rv x3]) C hH (m_X1_audit hl9 e1) wV_X0_125 c3 rfl (by decide) rfl rfl ⟨by decide, by decide⟩ rfl (by simp [csum, rv_cat, cat_i, cat_l, cat_f, cat_d]) hl.1 dX0_audit_5) (fun v1 h2 H locs cells slots hH hL hrun => ?_) (fun x_ q_ ce_ h7 H locs cells slots hH hL hrun hc_ hv_ hcl_ => ?_)
  · refine lv_i2l (pc := 8) hx hb dX0_audit_8 rfl ?_
    obtain ⟨c4, hrun⟩ := gd_some hrun
    refine V_last (pc := 9) C hH hL dX0_audit_9 c4 hrun (fun h5 H locs hH hL hrun => ?_)
    refine lv_goto (tgt := 21) (pc := 10) hx hb dX0_audit_10 (by decide) ?_
    refine lv_iconst (v := (0 : Int32)) (pc := 21) hx hb dX0_audit_21 (by decide) ?_
    exact V_iret (pc := 22) C hH hL hrun dX0_audit_22
  · by_cases n901 : x_ = 901
    · subst n901
      have hrun := ite_t hrun rfl
      refine vx_catch (E := "java/lang/IndexOutOfBoundsException") (name := "java/lang/IndexOutOfBoundsException") hown (tableOf []) ⟨0, 10, 13, 25⟩ (tableOf [(0, 10, 17, 19)]) (by rw [C.2.1.2.2.2.2]; rfl) (fun z hz => nomatch hz) (by decide) (by decide) (hts _ q829) (va_Nw.use rfl (C.2.1.2.2.2.1.2.1 _ q537 rfl)) hc_ hv_ hcl_ ?_
      exact b_X0_audit_13 C (q_ + 1) h7 H locs cells slots ls hH hL (lv_sub hl [] rfl) hrun
    have hrun := ite_f hrun n901
    by_cases n903 : x_ = 903
    · subst n903
      have hrun := ite_t hrun rfl
      refine vx_catch (E := "java/lang/IllegalStateException") (name := "java/lang/IllegalStateException") hown (tableOf [(0, 10, 13, 25)]) ⟨0, 10, 17, 19⟩ (tableOf []) (by rw [C.2.1.2.2.2.2]; rfl) (fun z hz => by simp only [tableOf, List.map, List.mem_cons, List.not_mem_nil, or_false] at hz; rcases hz with rfl <;> first | exact Or.inr ⟨by decide, "java/lang/IndexOutOfBoundsException", hts _ q829, nc_at C (by decide)⟩) (by decide) (by decide) (hts _ q585) (va_Nw.use rfl (C.2.1.2.2.2.1.2.1 _ q702 rfl)) hc_ hv_ hcl_ ?_
      exact b_X0_audit_17 C (q_ + 1) h7 H locs cells slots ls hH hL (lv_sub hl [] rfl) hrun
    have hrun := ite_f hrun n903
    cases hrun

theorem m_X0_audit {l : Launch} {D : va_G} {Hs : Heap} {h : Hp} {rr : (Int32 ⊕ Ex) × Hp} (hl9 : l.stackTraces = false) {x0 : Nat} {x1 : Int32} {x2 : Int32} {x3 : Nat} (hrun : f_X0_audit x0 x1 x2 x3 h = some rr) : CM l yX0_audit (wsW_ yX0_audit cX0_audit 5 (some .int) [(0, 10, 13, 25), (0, 10, 17, 19)]) 9 154 iI [rv x0, .int x1, .int x2, rv x3] D Hs h rr := by
  refine CM.ofH (lv := [(0, rv x0), (1, .int x1), (2, .int x2), (3, rv x3)]) (plainFor_of_name (by decide)) hl9 (by simp [lv_args, rv_cat, cat_i, cat_l, cat_f, cat_d]) (by simp [lg_sl, rv_cat, cat_i, cat_l, cat_f, cat_d]) ?_
  intro p e R s m args below meth c H ls C hH hl hin
  exact b_X0_audit C x0 x1 x2 x3 _ H [] _ _ ls hH (fun _ q => nomatch q) (lv_sub hl [0, 1, 2, 3] rfl) hrun

/-! MassclaimModel.audit(IZ)I -/
def f_X4_audit_44  (h : Hp) : Rt Int32 :=
  some (.inl (0 : Int32), h)
def f_X4_audit_73  (x3 : Nat) (y0 : Nat) (y1 : Int32) (h : Hp) : Rt Int32 :=
  gd (kC h y0 = 13) <| vl (sI h 1203 y0 y1) fun h2 => gd (kC h2 x3 = 13) <| some (.inl (kI h2 1203 x3), h2)
def f_X4_audit_37  (x0 : Nat) (x1 : Int32) (x2 : Int32) (y0 : Nat) (y1 : Int32) (h : Hp) : Rt Int32 :=
  gd (kC h y0 = 4) <| bd (f_X4_isGood y0 y1 (2 : Int32) h) fun v4 h5 => if v4 = 0 then
  (f_X4_audit_44  h5)
  else
  (gd (kC h5 x0 = 4) <| gd (kC h5 (kR h5 320 x0) = 18) <| bd (f_J2_get (kR h5 320 x0) x1 h5) fun v8 h9 => gd (v8 = 0 ∨ kC h9 v8 = 13) <| gd (kC h9 v8 = 13) <| vl (sI h9 1204 v8 (1 : Int32)) fun h13 => if x2 = 0 then
  (f_X4_audit_73 v8 v8 (4 : Int32) h13)
  else
  (f_X4_audit_73 v8 v8 (0 : Int32) h13))
def f_X4_audit  (x0 : Nat) (x1 : Int32) (x2 : Int32) (h : Hp) : Rt Int32 :=
  gd (kC h x0 = 4) <| bd (f_X4_isClaim x0 x1 h) fun v14 h15 => gd (kC h15 x0 = 4) <| bd (f_X4_isGood x0 v14 (1 : Int32) h15) fun v17 h18 => if v17 = 0 then
  (f_X4_audit_44  h18)
  else
  (gd (kC h18 x0 = 4) <| gd (kC h18 (kR h18 320 x0) = 18) <| bd (f_J2_get (kR h18 320 x0) x1 h18) fun v21 h22 => gd (v21 = 0 ∨ kC h22 v21 = 13) <| gd (kC h22 v21 = 13) <| if (kI h22 1203 v21) = (2 : Int32) then
  (f_X4_audit_37 x0 x1 x2 x0 (1 : Int32) h22)
  else
  (f_X4_audit_37 x0 x1 x2 x0 (0 : Int32) h22))
theorem b_X4_audit_44 {rr : (Int32 ⊕ Ex) × Hp}  (C : CX p l R s m args meth c D Hs cX4_audit "MassclaimModel" 4 (some .int) [] 4 64)  : ∀ (h : Hp) (H : Heap) (locs : List Loc) (cells slots : Nat) (ls : Array Slot), HP D Hs h H → LO Hs locs → lv_has ls 4 [] → f_X4_audit_44 h = some rr → W p l e R s m args below meth c H locs cells slots (ZM D Hs iI rr below args s) (F0 m 44 ls []) := by
  obtain ⟨⟨hx, hb, hml, hown, hts⟩, -⟩ := id C
  have hl9 := C.2.1.2.2.1
  intro h H locs cells slots ls hH hL hl hrun
  unfold f_X4_audit_44 at hrun
  refine lv_iconst (v := (0 : Int32)) (pc := 44) hx hb dX4_audit_44 (by decide) ?_
  exact V_iret (pc := 45) C hH hL hrun dX4_audit_45

theorem b_X4_audit_73 {rr : (Int32 ⊕ Ex) × Hp}  (C : CX p l R s m args meth c D Hs cX4_audit "MassclaimModel" 4 (some .int) [] 4 64)  : ∀ (x3 : Nat) (y0 : Nat) (y1 : Int32) (h : Hp) (H : Heap) (locs : List Loc) (cells slots : Nat) (ls : Array Slot), HP D Hs h H → LO Hs locs → lv_has ls 4 [(3, rv x3)] → f_X4_audit_73 x3 y0 y1 h = some rr → W p l e R s m args below meth c H locs cells slots (ZM D Hs iI rr below args s) (F0 m 73 ls [.int y1, rv y0]) := by
  obtain ⟨⟨hx, hb, hml, hown, hts⟩, -⟩ := id C
  have hl9 := C.2.1.2.2.1
  intro x3 y0 y1 h H locs cells slots ls hH hL hl hrun
  unfold f_X4_audit_73 at hrun
  obtain ⟨c1, hrun⟩ := gd_some hrun
  refine V_putI (pc := 73) C hH hL fl_X4_126 dX4_audit_73 c1 (fok_i _) rfl (fun q => Bool.noConfusion q) hrun (fun h2 H locs hH hL hrun => ?_)
  refine V_aload_n (pc := 76) hx hb dX4_audit_76 rfl (lv_at hl 0 rfl) ?_
  obtain ⟨c3, hrun⟩ := gd_some hrun
  refine V_getI (pc := 77) C hH fr_X4_126 dX4_audit_77 c3 rfl ?_
  exact V_iret (pc := 80) C hH hL hrun dX4_audit_80

theorem b_X4_audit_37 {rr : (Int32 ⊕ Ex) × Hp}  (C : CX p l R s m args meth c D Hs cX4_audit "MassclaimModel" 4 (some .int) [] 4 64)  : ∀ (x0 : Nat) (x1 : Int32) (x2 : Int32) (y0 : Nat) (y1 : Int32) (h : Hp) (H : Heap) (locs : List Loc) (cells slots : Nat) (ls : Array Slot), HP D Hs h H → LO Hs locs → lv_has ls 4 [(0, rv x0), (1, .int x1), (2, .int x2)] → f_X4_audit_37 x0 x1 x2 y0 y1 h = some rr → W p l e R s m args below meth c H locs cells slots (ZM D Hs iI rr below args s) (F0 m 37 ls [.int y1, rv y0]) := by
  obtain ⟨⟨hx, hb, hml, hown, hts⟩, -⟩ := id C
  have hl9 := C.2.1.2.2.1
  intro x0 x1 x2 y0 y1 h H locs cells slots ls hH hL hl hrun
  unfold f_X4_audit_37 at hrun
  refine lv_iconst (v := (2 : Int32)) (pc := 37) hx hb dX4_audit_37 (by decide) ?_
  obtain ⟨c6, hrun⟩ := gd_some hrun
  refine V_bd (pc := 38) C hL rfl hrun (fun rr1 e1 => Z_runV (rest := []) C hH (m_X4_isGood hl9 e1) wV_X4_104 c6 rfl (by decide) rfl rfl ⟨by decide, by decide⟩ rfl (Nat.le_of_ble_eq_true rfl) hl.1 dX4_audit_38) (fun v4 h5 H locs cells slots hH hL hrun => ?_)
  refine lv_if_ne (tgt := 46) (pc := 41) hx hb dX4_audit_41 (by decide) (fun c_ => ?_) (fun c_ => ?_)
  · have hrun := ite_f hrun c_
    refine V_aload_n (pc := 46) hx hb dX4_audit_46 rfl (lv_at hl 0 rfl) ?_
    obtain ⟨c7, hrun⟩ := gd_some hrun
    refine V_getR (pc := 47) C hH fr_X4_30 dX4_audit_47 c7 rfl ?_
    refine lv_iload_n (pc := 50) hx hb dX4_audit_50 rfl (lv_at hl 1 rfl) ?_
    obtain ⟨c10, hrun⟩ := gd_some hrun
    refine V_bd (pc := 51) C hL rfl hrun (fun rr1 e1 => Z_runV (rest := []) C hH (m_J2_get hl9 e1) wV_X4_108 c10 rfl (by decide) rfl rfl ⟨by decide, by decide⟩ rfl (Nat.le_of_ble_eq_true rfl) hl.1 dX4_audit_51) (fun v8 h9 H locs cells slots hH hL hrun => ?_)
    obtain ⟨c11, hrun⟩ := gd_some hrun
    refine V_castX (pc := 54) (ci := 12) C hH rfl (by decide) q1955 dX4_audit_54 c11 ?_
    refine V_astore_n (i := 3) (lv' := [(3, rv v8), (0, rv x0), (1, .int x1), (2, .int x2)]) (pc := 57) hx hb dX4_audit_57 rfl hl (by decide) rfl (fun ls hl => ?_)
    refine V_aload_n (pc := 58) hx hb dX4_audit_58 rfl (lv_at hl 0 rfl) ?_
    refine lv_iconst (v := (1 : Int32)) (pc := 59) hx hb dX4_audit_59 (by decide) ?_
    obtain ⟨c12, hrun⟩ := gd_some hrun
    refine V_putI (pc := 60) C hH hL fl_X4_392 dX4_audit_60 c12 (fok_z (Or.inr rfl)) rfl (fun q => Bool.noConfusion q) hrun (fun h13 H locs hH hL hrun => ?_)
    refine V_aload_n (pc := 63) hx hb dX4_audit_63 rfl (lv_at hl 0 rfl) ?_
    refine lv_iload_n (pc := 64) hx hb dX4_audit_64 rfl (lv_at hl 3 rfl) ?_
    refine lv_if_eq (tgt := 72) (pc := 65) hx hb dX4_audit_65 (by decide) (fun c_ => ?_) (fun c_ => ?_)
    · have hrun := ite_t hrun c_
      refine lv_iconst (v := (4 : Int32)) (pc := 72) hx hb dX4_audit_72 (by decide) ?_
      exact b_X4_audit_73 C v8 v8 (4 : Int32) h13 H locs cells slots ls hH hL (lv_sub hl [0] rfl) hrun
    · have hrun := ite_f hrun c_
      refine lv_iconst (v := (0 : Int32)) (pc := 68) hx hb dX4_audit_68 (by decide) ?_
      refine lv_goto (tgt := 73) (pc := 69) hx hb dX4_audit_69 (by decide) ?_
      exact b_X4_audit_73 C v8 v8 (0 : Int32) h13 H locs cells slots ls hH hL (lv_sub hl [0] rfl) hrun
  · have hrun := ite_t hrun c_
    exact b_X4_audit_44 C h5 H locs cells slots ls hH hL (lv_sub hl [] rfl) hrun

theorem b_X4_audit {rr : (Int32 ⊕ Ex) × Hp}  (C : CX p l R s m args meth c D Hs cX4_audit "MassclaimModel" 4 (some .int) [] 4 64)  : ∀ (x0 : Nat) (x1 : Int32) (x2 : Int32) (h : Hp) (H : Heap) (locs : List Loc) (cells slots : Nat) (ls : Array Slot), HP D Hs h H → LO Hs locs → lv_has ls 4 [(0, rv x0), (1, .int x1), (2, .int x2)] → f_X4_audit x0 x1 x2 h = some rr → W p l e R s m args below meth c H locs cells slots (ZM D Hs iI rr below args s) (F0 m 0 ls []) := by
  obtain ⟨⟨hx, hb, hml, hown, hts⟩, -⟩ := id C
  have hl9 := C.2.1.2.2.1
  intro x0 x1 x2 h H locs cells slots ls hH hL hl hrun
  unfold f_X4_audit at hrun
  refine V_aload_n (pc := 0) hx hb dX4_audit_0 rfl (lv_at hl 0 rfl) ?_
  refine V_aload_n (pc := 1) hx hb dX4_audit_1 rfl (lv_at hl 0 rfl) ?_
  refine lv_iload_n (pc := 2) hx hb dX4_audit_2 rfl (lv_at hl 1 rfl) ?_
  obtain ⟨c16, hrun⟩ := gd_some hrun
  refine V_bd (pc := 3) C hL rfl hrun (fun rr1 e1 => Z_runV (rest := [rv x0]) C hH (m_X4_isClaim hl9 e1) wV_X4_416 c16 rfl (by decide) rfl rfl ⟨by decide, by decide⟩ rfl (by simp [csum, rv_cat, cat_i, cat_l, cat_f, cat_d]) hl.1 dX4_audit_3) (fun v14 h15 H locs cells slots hH hL hrun => ?_)
  refine lv_iconst (v := (1 : Int32)) (pc := 6) hx hb dX4_audit_6 (by decide) ?_
  obtain ⟨c19, hrun⟩ := gd_some hrun
  refine V_bd (pc := 7) C hL rfl hrun (fun rr1 e1 => Z_runV (rest := []) C hH (m_X4_isGood hl9 e1) wV_X4_104 c19 rfl (by decide) rfl rfl ⟨by decide, by decide⟩ rfl (Nat.le_of_ble_eq_true rfl) hl.1 dX4_audit_7) (fun v17 h18 H locs cells slots hH hL hrun => ?_)
  refine lv_if_eq (tgt := 44) (pc := 10) hx hb dX4_audit_10 (by decide) (fun c_ => ?_) (fun c_ => ?_)
  · have hrun := ite_t hrun c_
    exact b_X4_audit_44 C h18 H locs cells slots ls hH hL (lv_sub hl [] rfl) hrun
  · have hrun := ite_f hrun c_
    refine V_aload_n (pc := 13) hx hb dX4_audit_13 rfl (lv_at hl 0 rfl) ?_
    refine V_aload_n (pc := 14) hx hb dX4_audit_14 rfl (lv_at hl 0 rfl) ?_
    obtain ⟨c20, hrun⟩ := gd_some hrun
    refine V_getR (pc := 15) C hH fr_X4_30 dX4_audit_15 c20 rfl ?_
    refine lv_iload_n (pc := 18) hx hb dX4_audit_18 rfl (lv_at hl 1 rfl) ?_
    obtain ⟨c23, hrun⟩ := gd_some hrun
    refine V_bd (pc := 19) C hL rfl hrun (fun rr1 e1 => Z_runV (rest := [rv x0]) C hH (m_J2_get hl9 e1) wV_X4_108 c23 rfl (by decide) rfl rfl ⟨by decide, by decide⟩ rfl (by simp [csum, rv_cat, cat_i, cat_l, cat_f, cat_d]) hl.1 dX4_audit_19) (fun v21 h22 H locs cells slots hH hL hrun => ?_)
    obtain ⟨c24, hrun⟩ := gd_some hrun
    refine V_castX (pc := 22) (ci := 12) C hH rfl (by decide) q1955 dX4_audit_22 c24 ?_
    obtain ⟨c25, hrun⟩ := gd_some hrun
    refine V_getI (pc := 25) C hH fr_X4_126 dX4_audit_25 c25 rfl ?_
    refine lv_iconst (v := (2 : Int32)) (pc := 28) hx hb dX4_audit_28 (by decide) ?_
    refine lv_icmp_ne (tgt := 36) (pc := 29) hx hb dX4_audit_29 (by decide) (fun c_ => ?_) (fun c_ => ?_)
    · have hrun := ite_f hrun c_
      refine lv_iconst (v := (0 : Int32)) (pc := 36) hx hb dX4_audit_36 (by decide) ?_
      exact b_X4_audit_37 C x0 x1 x2 x0 (0 : Int32) h22 H locs cells slots ls hH hL (lv_sub hl [0, 1, 2] rfl) hrun
    · have hrun := ite_t hrun c_
      refine lv_iconst (v := (1 : Int32)) (pc := 32) hx hb dX4_audit_32 (by decide) ?_
      refine lv_goto (tgt := 37) (pc := 33) hx hb dX4_audit_33 (by decide) ?_
      exact b_X4_audit_37 C x0 x1 x2 x0 (1 : Int32) h22 H locs cells slots ls hH hL (lv_sub hl [0, 1, 2] rfl) hrun

theorem m_X4_audit {l : Launch} {D : va_G} {Hs : Heap} {h : Hp} {rr : (Int32 ⊕ Ex) × Hp} (hl9 : l.stackTraces = false) {x0 : Nat} {x1 : Int32} {x2 : Int32} (hrun : f_X4_audit x0 x1 x2 h = some rr) : CM l yX4_audit (ws_ yX4_audit cX4_audit 4 (some .int)) 4 64 iI [rv x0, .int x1, .int x2] D Hs h rr := by
  refine CM.of (lv := [(0, rv x0), (1, .int x1), (2, .int x2)]) (plainFor_of_name (by decide)) hl9 (by simp [lv_args, rv_cat, cat_i, cat_l, cat_f, cat_d]) (by simp [lg_sl, rv_cat, cat_i, cat_l, cat_f, cat_d]) ?_
  intro p e R s m args below meth c H ls C hH hl hin
  exact b_X4_audit C x0 x1 x2 _ H [] _ _ ls hH (fun _ q => nomatch q) (lv_sub hl [0, 1, 2] rfl) hrun

/-! Massclaim.appeal(IZ)I -/
def f_X1_appeal_61  (x3 : Nat) (y0 : Nat) (y1 : Int32) (h : Hp) : Rt Int32 :=
  gd (kC h y0 = 12) <| vl (sI h 1104 y0 y1) fun h2 => gd (kC h2 x3 = 12) <| some (.inl (kI h2 1104 x3), h2)
def f_X1_appeal_40  (x2 : Int32) (x3 : Nat) (y0 : Int32) (h : Hp) : Rt Int32 :=
  bd (f_X1_requireState y0 h) fun _ h5 => gd (kC h5 x3 = 12) <| vl (sI h5 1110 x3 (1 : Int32)) fun h7 => if x2 = 0 then
  (gd (kC h7 x3 = 12) <| f_X1_appeal_61 x3 x3 (kI h7 1104 x3) h7)
  else
  (f_X1_appeal_61 x3 x3 (0 : Int32) h7)
def f_X1_appeal_39  (x2 : Int32) (x3 : Nat) (h : Hp) : Rt Int32 :=
  f_X1_appeal_40 x2 x3 (0 : Int32) h
def f_X1_appeal_28  (x2 : Int32) (x3 : Nat) (h : Hp) : Rt Int32 :=
  gd (kC h x3 = 12) <| if (kI h 1110 x3) = 0 then
  (f_X1_appeal_40 x2 x3 (1 : Int32) h)
  else
  (f_X1_appeal_39 x2 x3 h)
def f_X1_appeal  (x0 : Nat) (x1 : Int32) (x2 : Int32) (h : Hp) : Rt Int32 :=
  gd (kC h x0 = 1) <| gd (kC h (kR h 3 x0) = 2) <| bd (f_X2_at (kR h 3 x0) x1 h) fun v11 h12 => gd (v11 = 0 ∨ kC h12 v11 = 12) <| gd (kC h12 v11 = 12) <| if (kI h12 1104 v11) = (3 : Int32) then
  (f_X1_appeal_28 x2 v11 h12)
  else
  (if (kI h12 1104 v11) = (4 : Int32) then
  (f_X1_appeal_28 x2 v11 h12)
  else
  (f_X1_appeal_39 x2 v11 h12))
theorem b_X1_appeal_61 {rr : (Int32 ⊕ Ex) × Hp}  (C : CX p l R s m args meth c D Hs cX1_appeal "Massclaim" 4 (some .int) [] 8 131)  : ∀ (x3 : Nat) (y0 : Nat) (y1 : Int32) (h : Hp) (H : Heap) (locs : List Loc) (cells slots : Nat) (ls : Array Slot), HP D Hs h H → LO Hs locs → lv_has ls 4 [(3, rv x3)] → f_X1_appeal_61 x3 y0 y1 h = some rr → W p l e R s m args below meth c H locs cells slots (ZM D Hs iI rr below args s) (F0 m 61 ls [.int y1, rv y0]) := by
  obtain ⟨⟨hx, hb, hml, hown, hts⟩, -⟩ := id C
  have hl9 := C.2.1.2.2.1
  intro x3 y0 y1 h H locs cells slots ls hH hL hl hrun
  unfold f_X1_appeal_61 at hrun
  obtain ⟨c1, hrun⟩ := gd_some hrun
  refine V_putNI (pc := 61) C hH hL fn_X1_157 dX1_appeal_61 c1 (fok_i _) rfl hrun (fun h2 H locs hH hL hrun => ?_)
  refine V_aload_n (pc := 64) hx hb dX1_appeal_64 rfl (lv_at hl 0 rfl) ?_
  obtain ⟨c3, hrun⟩ := gd_some hrun
  refine V_getNI (pc := 65) C hH fn_X1_157 dX1_appeal_65 c3 rfl ?_
  exact V_iret (pc := 68) C hH hL hrun dX1_appeal_68

theorem b_X1_appeal_40 {rr : (Int32 ⊕ Ex) × Hp}  (C : CX p l R s m args meth c D Hs cX1_appeal "Massclaim" 4 (some .int) [] 8 131)  : ∀ (x2 : Int32) (x3 : Nat) (y0 : Int32) (h : Hp) (H : Heap) (locs : List Loc) (cells slots : Nat) (ls : Array Slot), HP D Hs h H → LO Hs locs → lv_has ls 4 [(2, .int x2), (3, rv x3)] → f_X1_appeal_40 x2 x3 y0 h = some rr → W p l e R s m args below meth c H locs cells slots (ZM D Hs iI rr below args s) (F0 m 40 ls [.int y0]) := by
  obtain ⟨⟨hx, hb, hml, hown, hts⟩, -⟩ := id C
  have hl9 := C.2.1.2.2.1
  intro x2 x3 y0 h H locs cells slots ls hH hL hl hrun
  unfold f_X1_appeal_40 at hrun
  refine V_bd (pc := 40) C hL rfl hrun (fun rr1 e1 => Z_runS (rest := []) C hH (m_X1_requireState hl9 e1) wS_X1_182 rfl ⟨by decide, by decide⟩ rfl (Nat.le_of_ble_eq_true rfl) hl.1 dX1_appeal_40) (fun _ h5 H locs cells slots hH hL hrun => ?_)
  refine V_aload_n (pc := 43) hx hb dX1_appeal_43 rfl (lv_at hl 1 rfl) ?_
  refine lv_iconst (v := (1 : Int32)) (pc := 44) hx hb dX1_appeal_44 (by decide) ?_
  obtain ⟨c6, hrun⟩ := gd_some hrun
  refine V_putNI (pc := 45) C hH hL fn_X1_465 dX1_appeal_45 c6 (fok_z (Or.inr rfl)) rfl hrun (fun h7 H locs hH hL hrun => ?_)
  refine V_aload_n (pc := 48) hx hb dX1_appeal_48 rfl (lv_at hl 1 rfl) ?_
  refine lv_iload_n (pc := 49) hx hb dX1_appeal_49 rfl (lv_at hl 0 rfl) ?_
  refine lv_if_eq (tgt := 57) (pc := 50) hx hb dX1_appeal_50 (by decide) (fun c_ => ?_) (fun c_ => ?_)
  · have hrun := ite_t hrun c_
    refine V_aload_n (pc := 57) hx hb dX1_appeal_57 rfl (lv_at hl 1 rfl) ?_
    obtain ⟨c8, hrun⟩ := gd_some hrun
    refine V_getNI (pc := 58) C hH fn_X1_157 dX1_appeal_58 c8 rfl ?_
    exact b_X1_appeal_61 C x3 x3 (kI h7 1104 x3) h7 H locs cells slots ls hH hL (lv_sub hl [1] rfl) hrun
  · have hrun := ite_f hrun c_
    refine lv_iconst (v := (0 : Int32)) (pc := 53) hx hb dX1_appeal_53 (by decide) ?_
    refine lv_goto (tgt := 61) (pc := 54) hx hb dX1_appeal_54 (by decide) ?_
    exact b_X1_appeal_61 C x3 x3 (0 : Int32) h7 H locs cells slots ls hH hL (lv_sub hl [1] rfl) hrun

theorem b_X1_appeal_39 {rr : (Int32 ⊕ Ex) × Hp}  (C : CX p l R s m args meth c D Hs cX1_appeal "Massclaim" 4 (some .int) [] 8 131)  : ∀ (x2 : Int32) (x3 : Nat) (h : Hp) (H : Heap) (locs : List Loc) (cells slots : Nat) (ls : Array Slot), HP D Hs h H → LO Hs locs → lv_has ls 4 [(2, .int x2), (3, rv x3)] → f_X1_appeal_39 x2 x3 h = some rr → W p l e R s m args below meth c H locs cells slots (ZM D Hs iI rr below args s) (F0 m 39 ls []) := by
  obtain ⟨⟨hx, hb, hml, hown, hts⟩, -⟩ := id C
  have hl9 := C.2.1.2.2.1
  intro x2 x3 h H locs cells slots ls hH hL hl hrun
  unfold f_X1_appeal_39 at hrun
  refine lv_iconst (v := (0 : Int32)) (pc := 39) hx hb dX1_appeal_39 (by decide) ?_
  exact b_X1_appeal_40 C x2 x3 (0 : Int32) h H locs cells slots ls hH hL (lv_sub hl [0, 1] rfl) hrun

theorem b_X1_appeal_28 {rr : (Int32 ⊕ Ex) × Hp}  (C : CX p l R s m args meth c D Hs cX1_appeal "Massclaim" 4 (some .int) [] 8 131)  : ∀ (x2 : Int32) (x3 : Nat) (h : Hp) (H : Heap) (locs : List Loc) (cells slots : Nat) (ls : Array Slot), HP D Hs h H → LO Hs locs → lv_has ls 4 [(2, .int x2), (3, rv x3)] → f_X1_appeal_28 x2 x3 h = some rr → W p l e R s m args below meth c H locs cells slots (ZM D Hs iI rr below args s) (F0 m 28 ls []) := by
  obtain ⟨⟨hx, hb, hml, hown, hts⟩, -⟩ := id C
  have hl9 := C.2.1.2.2.1
  intro x2 x3 h H locs cells slots ls hH hL hl hrun
  unfold f_X1_appeal_28 at hrun
  refine V_aload_n (pc := 28) hx hb dX1_appeal_28 rfl (lv_at hl 1 rfl) ?_
  obtain ⟨c9, hrun⟩ := gd_some hrun
  refine V_getNI (pc := 29) C hH fn_X1_465 dX1_appeal_29 c9 rfl ?_
  refine lv_if_ne (tgt := 39) (pc := 32) hx hb dX1_appeal_32 (by decide) (fun c_ => ?_) (fun c_ => ?_)
  · have hrun := ite_f hrun c_
    exact b_X1_appeal_39 C x2 x3 h H locs cells slots ls hH hL (lv_sub hl [0, 1] rfl) hrun
  · have hrun := ite_t hrun c_
    refine lv_iconst (v := (1 : Int32)) (pc := 35) hx hb dX1_appeal_35 (by decide) ?_
    refine lv_goto (tgt := 40) (pc := 36) hx hb dX1_appeal_36 (by decide) ?_
    exact b_X1_appeal_40 C x2 x3 (1 : Int32) h H locs cells slots ls hH hL (lv_sub hl [0, 1] rfl) hrun

theorem b_X1_appeal {rr : (Int32 ⊕ Ex) × Hp}  (C : CX p l R s m args meth c D Hs cX1_appeal "Massclaim" 4 (some .int) [] 8 131)  : ∀ (x0 : Nat) (x1 : Int32) (x2 : Int32) (h : Hp) (H : Heap) (locs : List Loc) (cells slots : Nat) (ls : Array Slot), HP D Hs h H → LO Hs locs → lv_has ls 4 [(0, rv x0), (1, .int x1), (2, .int x2)] → f_X1_appeal x0 x1 x2 h = some rr → W p l e R s m args below meth c H locs cells slots (ZM D Hs iI rr below args s) (F0 m 0 ls []) := by
  obtain ⟨⟨hx, hb, hml, hown, hts⟩, -⟩ := id C
  have hl9 := C.2.1.2.2.1
  intro x0 x1 x2 h H locs cells slots ls hH hL hl hrun
  unfold f_X1_appeal at hrun
  refine V_aload_n (pc := 0) hx hb dX1_appeal_0 rfl (lv_at hl 0 rfl) ?_
  obtain ⟨c10, hrun⟩ := gd_some hrun
  refine V_getR (pc := 1) C hH fr_X1_52 dX1_appeal_1 c10 rfl ?_
  refine lv_iload_n (pc := 4) hx hb dX1_appeal_4 rfl (lv_at hl 1 rfl) ?_
  obtain ⟨c13, hrun⟩ := gd_some hrun
  refine V_bd (pc := 5) C hL rfl hrun (fun rr1 e1 => Z_runV (rest := []) C hH (m_X2_at hl9 e1) wV_X1_136 c13 rfl (by decide) rfl rfl ⟨by decide, by decide⟩ rfl (Nat.le_of_ble_eq_true rfl) hl.1 dX1_appeal_5) (fun v11 h12 H locs cells slots hH hL hrun => ?_)
  obtain ⟨c14, hrun⟩ := gd_some hrun
  refine V_castX (pc := 8) (ci := 11) C hH rfl (by decide) q403 dX1_appeal_8 c14 ?_
  refine V_astore_n (i := 3) (lv' := [(3, rv v11), (0, rv x0), (1, .int x1), (2, .int x2)]) (pc := 11) hx hb dX1_appeal_11 rfl hl (by decide) rfl (fun ls hl => ?_)
  refine V_aload_n (pc := 12) hx hb dX1_appeal_12 rfl (lv_at hl 0 rfl) ?_
  obtain ⟨c15, hrun⟩ := gd_some hrun
  refine V_getNI (pc := 13) C hH fn_X1_157 dX1_appeal_13 c15 rfl ?_
  refine lv_iconst (v := (3 : Int32)) (pc := 16) hx hb dX1_appeal_16 (by decide) ?_
  refine lv_icmp_eq (tgt := 28) (pc := 17) hx hb dX1_appeal_17 (by decide) (fun c_ => ?_) (fun c_ => ?_)
  · have hrun := ite_t hrun c_
    exact b_X1_appeal_28 C x2 v11 h12 H locs cells slots ls hH hL (lv_sub hl [3, 0] rfl) hrun
  · have hrun := ite_f hrun c_
    refine V_aload_n (pc := 20) hx hb dX1_appeal_20 rfl (lv_at hl 0 rfl) ?_
    refine V_getNI (pc := 21) C hH fn_X1_157 dX1_appeal_21 c15 rfl ?_
    refine lv_iconst (v := (4 : Int32)) (pc := 24) hx hb dX1_appeal_24 (by decide) ?_
    refine lv_icmp_ne (tgt := 39) (pc := 25) hx hb dX1_appeal_25 (by decide) (fun c_ => ?_) (fun c_ => ?_)
    · have hrun := ite_f hrun c_
      exact b_X1_appeal_39 C x2 v11 h12 H locs cells slots ls hH hL (lv_sub hl [3, 0] rfl) hrun
    · have hrun := ite_t hrun c_
      exact b_X1_appeal_28 C x2 v11 h12 H locs cells slots ls hH hL (lv_sub hl [3, 0] rfl) hrun

theorem m_X1_appeal {l : Launch} {D : va_G} {Hs : Heap} {h : Hp} {rr : (Int32 ⊕ Ex) × Hp} (hl9 : l.stackTraces = false) {x0 : Nat} {x1 : Int32} {x2 : Int32} (hrun : f_X1_appeal x0 x1 x2 h = some rr) : CM l yX1_appeal (ws_ yX1_appeal cX1_appeal 4 (some .int)) 8 131 iI [rv x0, .int x1, .int x2] D Hs h rr := by
  refine CM.of (lv := [(0, rv x0), (1, .int x1), (2, .int x2)]) (plainFor_of_name (by decide)) hl9 (by simp [lv_args, rv_cat, cat_i, cat_l, cat_f, cat_d]) (by simp [lg_sl, rv_cat, cat_i, cat_l, cat_f, cat_d]) ?_
  intro p e R s m args below meth c H ls C hH hl hin
  exact b_X1_appeal C x0 x1 x2 _ H [] _ _ ls hH (fun _ q => nomatch q) (lv_sub hl [0, 1, 2] rfl) hrun

/-! MassclaimLaw.appeal(LMassclaim;IZ[J)I -/
def f_X0_appeal_13  (y0 : Nat) (h : Hp) : Rt Int32 :=
  some (.inl (1 : Int32), h)
def f_X0_appeal_17  (y0 : Nat) (h : Hp) : Rt Int32 :=
  some (.inl (2 : Int32), h)
def f_X0_appeal  (x0 : Nat) (x1 : Int32) (x2 : Int32) (x3 : Nat) (h : Hp) : Rt Int32 :=
  gd (kC h x0 = 1) <| bdH (f_X1_appeal x0 x1 x2 h)
  (fun v1 h2 => gd (kC h2 x3 = 102 ∧ ixo (0 : Int32) (kN h2 x3)) <| vl (tL h2 x3 ((0 : Int32)).toNatClampNeg (v1.toInt64)) fun h5 => some (.inl (0 : Int32), h5))
  (fun ex6 h7 => if ex6.1 = 901 then
  (f_X0_appeal_13 ex6.2 h7)
  else
  if ex6.1 = 903 then
  (f_X0_appeal_17 ex6.2 h7)
  else
  none)
theorem b_X0_appeal_13 {rr : (Int32 ⊕ Ex) × Hp}  (C : CX p l R s m args meth c D Hs cX0_appeal "MassclaimLaw" 5 (some .int) [(0, 10, 13, 25), (0, 10, 17, 19)] 9 154)  : ∀ (y0 : Nat) (h : Hp) (H : Heap) (locs : List Loc) (cells slots : Nat) (ls : Array Slot), HP D Hs h H → LO Hs locs → lv_has ls 5 [] → f_X0_appeal_13 y0 h = some rr → W p l e R s m args below meth c H locs cells slots (ZM D Hs iI rr below args s) (F0 m 13 ls [rv y0]) := by
  obtain ⟨⟨hx, hb, hml, hown, hts⟩, -⟩ := id C
  have hl9 := C.2.1.2.2.1
  intro y0 h H locs cells slots ls hH hL hl hrun
  unfold f_X0_appeal_13 at hrun
  refine V_astore (i := 4) (lv' := [(4, rv y0)]) (pc := 13) hx hb dX0_appeal_13 hl (by decide) rfl (fun ls hl => ?_)
  refine lv_iconst (v := (1 : Int32)) (pc := 15) hx hb dX0_appeal_15 (by decide) ?_
  exact V_iret (pc := 16) C hH hL hrun dX0_appeal_16

theorem b_X0_appeal_17 {rr : (Int32 ⊕ Ex) × Hp}  (C : CX p l R s m args meth c D Hs cX0_appeal "MassclaimLaw" 5 (some .int) [(0, 10, 13, 25), (0, 10, 17, 19)] 9 154)  : ∀ (y0 : Nat) (h : Hp) (H : Heap) (locs : List Loc) (cells slots : Nat) (ls : Array Slot), HP D Hs h H → LO Hs locs → lv_has ls 5 [] → f_X0_appeal_17 y0 h = some rr → W p l e R s m args below meth c H locs cells slots (ZM D Hs iI rr below args s) (F0 m 17 ls [rv y0]) := by
  obtain ⟨⟨hx, hb, hml, hown, hts⟩, -⟩ := id C
  have hl9 := C.2.1.2.2.1
  intro y0 h H locs cells slots ls hH hL hl hrun
  unfold f_X0_appeal_17 at hrun
  refine V_astore (i := 4) (lv' := [(4, rv y0)]) (pc := 17) hx hb dX0_appeal_17 hl (by decide) rfl (fun ls hl => ?_)
  refine lv_iconst (v := (2 : Int32)) (pc := 19) hx hb dX0_appeal_19 (by decide) ?_
  exact V_iret (pc := 20) C hH hL hrun dX0_appeal_20

theorem b_X0_appeal {rr : (Int32 ⊕ Ex) × Hp}  (C : CX p l R s m args meth c D Hs cX0_appeal "MassclaimLaw" 5 (some .int) [(0, 10, 13, 25), (0, 10, 17, 19)] 9 154)  : ∀ (x0 : Nat) (x1 : Int32) (x2 : Int32) (x3 : Nat) (h : Hp) (H : Heap) (locs : List Loc) (cells slots : Nat) (ls : Array Slot), HP D Hs h H → LO Hs locs → lv_has ls 5 [(0, rv x0), (1, .int x1), (2, .int x2), (3, rv x3)] → f_X0_appeal x0 x1 x2 x3 h = some rr → W p l e R s m args below meth c H locs cells slots (ZM D Hs iI rr below args s) (F0 m 0 ls []) := by
  obtain ⟨⟨hx, hb, hml, hown, hts⟩, -⟩ := id C
  have hl9 := C.2.1.2.2.1
  intro x0 x1 x2 x3 h H locs cells slots ls hH hL hl hrun
  unfold f_X0_appeal at hrun
  refine V_aload_n (pc := 0) hx hb dX0_appeal_0 rfl (lv_at hl 3 rfl) ?_
  refine lv_iconst (v := (0 : Int32)) (pc := 1) hx hb dX0_appeal_1 (by decide) ?_
  refine V_aload_n (pc := 2) hx hb dX0_appeal_2 rfl (lv_at hl 0 rfl) ?_
  refine lv_iload_n (pc := 3) hx hb dX0_appeal_3 rfl (lv_at hl 1 rfl) ?_
  refine lv_iload_n (pc := 4) hx hb dX0_appeal_4 rfl (lv_at hl 2 rfl) ?_
  obtain ⟨c3, hrun⟩ := gd_some hrun
  refine V_bdH (pc := 5) hL hrun (fun rr1 e1 => Z_runV (rest := [.int (0 : Int32), rv x3]) C hH (m_X1_appeal hl9 e1) wV_X0_128 c3 rfl (by decide) rfl rfl ⟨by decide, by decide⟩ rfl (by simp [csum, rv_cat, cat_i, cat_l, cat_f, cat_d]) hl.1 dX0_appeal_5) (fun v1 h2 H locs cells slots hH hL hrun => ?_) (fun x_ q_ ce_ h7 H locs cells slots hH hL hrun hc_ hv_ hcl_ => ?_)
  · refine lv_i2l (pc := 8) hx hb dX0_appeal_8 rfl ?_
    obtain ⟨c4, hrun⟩ := gd_some hrun
    refine V_last (pc := 9) C hH hL dX0_appeal_9 c4 hrun (fun h5 H locs hH hL hrun => ?_)
    refine lv_goto (tgt := 21) (pc := 10) hx hb dX0_appeal_10 (by decide) ?_
    refine lv_iconst (v := (0 : Int32)) (pc := 21) hx hb dX0_appeal_21 (by decide) ?_
    exact V_iret (pc := 22) C hH hL hrun dX0_appeal_22
  · by_cases n901 : x_ = 901
    · subst n901
      have hrun := ite_t hrun rfl
      refine vx_catch (E := "java/lang/IndexOutOfBoundsException") (name := "java/lang/IndexOutOfBoundsException") hown (tableOf []) ⟨0, 10, 13, 25⟩ (tableOf [(0, 10, 17, 19)]) (by rw [C.2.1.2.2.2.2]; rfl) (fun z hz => nomatch hz) (by decide) (by decide) (hts _ q829) (va_Nw.use rfl (C.2.1.2.2.2.1.2.1 _ q537 rfl)) hc_ hv_ hcl_ ?_
      exact b_X0_appeal_13 C (q_ + 1) h7 H locs cells slots ls hH hL (lv_sub hl [] rfl) hrun
    have hrun := ite_f hrun n901
    by_cases n903 : x_ = 903
    · subst n903
      have hrun := ite_t hrun rfl
      refine vx_catch (E := "java/lang/IllegalStateException") (name := "java/lang/IllegalStateException") hown (tableOf [(0, 10, 13, 25)]) ⟨0, 10, 17, 19⟩ (tableOf []) (by rw [C.2.1.2.2.2.2]; rfl) (fun z hz => by simp only [tableOf, List.map, List.mem_cons, List.not_mem_nil, or_false] at hz; rcases hz with rfl <;> first | exact Or.inr ⟨by decide, "java/lang/IndexOutOfBoundsException", hts _ q829, nc_at C (by decide)⟩) (by decide) (by decide) (hts _ q585) (va_Nw.use rfl (C.2.1.2.2.2.1.2.1 _ q702 rfl)) hc_ hv_ hcl_ ?_
      exact b_X0_appeal_17 C (q_ + 1) h7 H locs cells slots ls hH hL (lv_sub hl [] rfl) hrun
    have hrun := ite_f hrun n903
    cases hrun

theorem m_X0_appeal {l : Launch} {D : va_G} {Hs : Heap} {h : Hp} {rr : (Int32 ⊕ Ex) × Hp} (hl9 : l.stackTraces = false) {x0 : Nat} {x1 : Int32} {x2 : Int32} {x3 : Nat} (hrun : f_X0_appeal x0 x1 x2 x3 h = some rr) : CM l yX0_appeal (wsW_ yX0_appeal cX0_appeal 5 (some .int) [(0, 10, 13, 25), (0, 10, 17, 19)]) 9 154 iI [rv x0, .int x1, .int x2, rv x3] D Hs h rr := by
  refine CM.ofH (lv := [(0, rv x0), (1, .int x1), (2, .int x2), (3, rv x3)]) (plainFor_of_name (by decide)) hl9 (by simp [lv_args, rv_cat, cat_i, cat_l, cat_f, cat_d]) (by simp [lg_sl, rv_cat, cat_i, cat_l, cat_f, cat_d]) ?_
  intro p e R s m args below meth c H ls C hH hl hin
  exact b_X0_appeal C x0 x1 x2 x3 _ H [] _ _ ls hH (fun _ q => nomatch q) (lv_sub hl [0, 1, 2, 3] rfl) hrun

/-! MassclaimModel.appeal(IZ)I -/
def f_X4_appeal_83  (x3 : Nat) (y0 : Nat) (y1 : Int32) (h : Hp) : Rt Int32 :=
  gd (kC h y0 = 13) <| vl (sI h 1203 y0 y1) fun h2 => gd (kC h2 x3 = 13) <| some (.inl (kI h2 1203 x3), h2)
def f_X4_appeal_56  (x2 : Int32) (x3 : Nat) (y0 : Nat) (y1 : Int32) (h : Hp) : Rt Int32 :=
  gd (kC h y0 = 4) <| bd (f_X4_isGood y0 y1 (2 : Int32) h) fun v4 h5 => if v4 = 0 then
  (some (.inl (0 : Int32), h5))
  else
  (gd (kC h5 x3 = 13) <| vl (sI h5 1205 x3 (1 : Int32)) fun h8 => if x2 = 0 then
  (gd (kC h8 x3 = 13) <| f_X4_appeal_83 x3 x3 (kI h8 1203 x3) h8)
  else
  (f_X4_appeal_83 x3 x3 (0 : Int32) h8))
def f_X4_appeal_55  (x2 : Int32) (x3 : Nat) (y0 : Nat) (h : Hp) : Rt Int32 :=
  f_X4_appeal_56 x2 x3 y0 (0 : Int32) h
def f_X4_appeal_44  (x2 : Int32) (x3 : Nat) (y0 : Nat) (h : Hp) : Rt Int32 :=
  gd (kC h x3 = 13) <| if (kI h 1205 x3) = 0 then
  (f_X4_appeal_56 x2 x3 y0 (1 : Int32) h)
  else
  (f_X4_appeal_55 x2 x3 y0 h)
def f_X4_appeal  (x0 : Nat) (x1 : Int32) (x2 : Int32) (h : Hp) : Rt Int32 :=
  gd (kC h x0 = 4) <| bd (f_X4_isClaim x0 x1 h) fun v11 h12 => gd (kC h12 x0 = 4) <| bd (f_X4_isGood x0 v11 (1 : Int32) h12) fun v14 h15 => if v14 = 0 then
  (some (.inl (0 : Int32), h15))
  else
  (gd (kC h15 x0 = 4) <| gd (kC h15 (kR h15 320 x0) = 18) <| bd (f_J2_get (kR h15 320 x0) x1 h15) fun v18 h19 => gd (v18 = 0 ∨ kC h19 v18 = 13) <| gd (kC h19 v18 = 13) <| if (kI h19 1203 v18) = (3 : Int32) then
  (f_X4_appeal_44 x2 v18 x0 h19)
  else
  (if (kI h19 1203 v18) = (4 : Int32) then
  (f_X4_appeal_44 x2 v18 x0 h19)
  else
  (f_X4_appeal_55 x2 v18 x0 h19)))
theorem b_X4_appeal_83 {rr : (Int32 ⊕ Ex) × Hp}  (C : CX p l R s m args meth c D Hs cX4_appeal "MassclaimModel" 4 (some .int) [] 4 64)  : ∀ (x3 : Nat) (y0 : Nat) (y1 : Int32) (h : Hp) (H : Heap) (locs : List Loc) (cells slots : Nat) (ls : Array Slot), HP D Hs h H → LO Hs locs → lv_has ls 4 [(3, rv x3)] → f_X4_appeal_83 x3 y0 y1 h = some rr → W p l e R s m args below meth c H locs cells slots (ZM D Hs iI rr below args s) (F0 m 83 ls [.int y1, rv y0]) := by
  obtain ⟨⟨hx, hb, hml, hown, hts⟩, -⟩ := id C
  have hl9 := C.2.1.2.2.1
  intro x3 y0 y1 h H locs cells slots ls hH hL hl hrun
  unfold f_X4_appeal_83 at hrun
  obtain ⟨c1, hrun⟩ := gd_some hrun
  refine V_putI (pc := 83) C hH hL fl_X4_126 dX4_appeal_83 c1 (fok_i _) rfl (fun q => Bool.noConfusion q) hrun (fun h2 H locs hH hL hrun => ?_)
  refine V_aload_n (pc := 86) hx hb dX4_appeal_86 rfl (lv_at hl 0 rfl) ?_
  obtain ⟨c3, hrun⟩ := gd_some hrun
  refine V_getI (pc := 87) C hH fr_X4_126 dX4_appeal_87 c3 rfl ?_
  exact V_iret (pc := 90) C hH hL hrun dX4_appeal_90

theorem b_X4_appeal_56 {rr : (Int32 ⊕ Ex) × Hp}  (C : CX p l R s m args meth c D Hs cX4_appeal "MassclaimModel" 4 (some .int) [] 4 64)  : ∀ (x2 : Int32) (x3 : Nat) (y0 : Nat) (y1 : Int32) (h : Hp) (H : Heap) (locs : List Loc) (cells slots : Nat) (ls : Array Slot), HP D Hs h H → LO Hs locs → lv_has ls 4 [(2, .int x2), (3, rv x3)] → f_X4_appeal_56 x2 x3 y0 y1 h = some rr → W p l e R s m args below meth c H locs cells slots (ZM D Hs iI rr below args s) (F0 m 56 ls [.int y1, rv y0]) := by
  obtain ⟨⟨hx, hb, hml, hown, hts⟩, -⟩ := id C
  have hl9 := C.2.1.2.2.1
  intro x2 x3 y0 y1 h H locs cells slots ls hH hL hl hrun
  unfold f_X4_appeal_56 at hrun
  refine lv_iconst (v := (2 : Int32)) (pc := 56) hx hb dX4_appeal_56 (by decide) ?_
  obtain ⟨c6, hrun⟩ := gd_some hrun
  refine V_bd (pc := 57) C hL rfl hrun (fun rr1 e1 => Z_runV (rest := []) C hH (m_X4_isGood hl9 e1) wV_X4_104 c6 rfl (by decide) rfl rfl ⟨by decide, by decide⟩ rfl (Nat.le_of_ble_eq_true rfl) hl.1 dX4_appeal_57) (fun v4 h5 H locs cells slots hH hL hrun => ?_)
  refine lv_if_ne (tgt := 65) (pc := 60) hx hb dX4_appeal_60 (by decide) (fun c_ => ?_) (fun c_ => ?_)
  · have hrun := ite_f hrun c_
    refine V_aload_n (pc := 65) hx hb dX4_appeal_65 rfl (lv_at hl 1 rfl) ?_
    refine lv_iconst (v := (1 : Int32)) (pc := 66) hx hb dX4_appeal_66 (by decide) ?_
    obtain ⟨c7, hrun⟩ := gd_some hrun
    refine V_putI (pc := 67) C hH hL fl_X4_426 dX4_appeal_67 c7 (fok_z (Or.inr rfl)) rfl (fun q => Bool.noConfusion q) hrun (fun h8 H locs hH hL hrun => ?_)
    refine V_aload_n (pc := 70) hx hb dX4_appeal_70 rfl (lv_at hl 1 rfl) ?_
    refine lv_iload_n (pc := 71) hx hb dX4_appeal_71 rfl (lv_at hl 0 rfl) ?_
    refine lv_if_eq (tgt := 79) (pc := 72) hx hb dX4_appeal_72 (by decide) (fun c_ => ?_) (fun c_ => ?_)
    · have hrun := ite_t hrun c_
      refine V_aload_n (pc := 79) hx hb dX4_appeal_79 rfl (lv_at hl 1 rfl) ?_
      obtain ⟨c9, hrun⟩ := gd_some hrun
      refine V_getI (pc := 80) C hH fr_X4_126 dX4_appeal_80 c9 rfl ?_
      exact b_X4_appeal_83 C x3 x3 (kI h8 1203 x3) h8 H locs cells slots ls hH hL (lv_sub hl [1] rfl) hrun
    · have hrun := ite_f hrun c_
      refine lv_iconst (v := (0 : Int32)) (pc := 75) hx hb dX4_appeal_75 (by decide) ?_
      refine lv_goto (tgt := 83) (pc := 76) hx hb dX4_appeal_76 (by decide) ?_
      exact b_X4_appeal_83 C x3 x3 (0 : Int32) h8 H locs cells slots ls hH hL (lv_sub hl [1] rfl) hrun
  · have hrun := ite_t hrun c_
    refine lv_iconst (v := (0 : Int32)) (pc := 63) hx hb dX4_appeal_63 (by decide) ?_
    exact V_iret (pc := 64) C hH hL hrun dX4_appeal_64

theorem b_X4_appeal_55 {rr : (Int32 ⊕ Ex) × Hp}  (C : CX p l R s m args meth c D Hs cX4_appeal "MassclaimModel" 4 (some .int) [] 4 64)  : ∀ (x2 : Int32) (x3 : Nat) (y0 : Nat) (h : Hp) (H : Heap) (locs : List Loc) (cells slots : Nat) (ls : Array Slot), HP D Hs h H → LO Hs locs → lv_has ls 4 [(2, .int x2), (3, rv x3)] → f_X4_appeal_55 x2 x3 y0 h = some rr → W p l e R s m args below meth c H locs cells slots (ZM D Hs iI rr below args s) (F0 m 55 ls [rv y0]) := by
  obtain ⟨⟨hx, hb, hml, hown, hts⟩, -⟩ := id C
  have hl9 := C.2.1.2.2.1
  intro x2 x3 y0 h H locs cells slots ls hH hL hl hrun
  unfold f_X4_appeal_55 at hrun
  refine lv_iconst (v := (0 : Int32)) (pc := 55) hx hb dX4_appeal_55 (by decide) ?_
  exact b_X4_appeal_56 C x2 x3 y0 (0 : Int32) h H locs cells slots ls hH hL (lv_sub hl [0, 1] rfl) hrun

theorem b_X4_appeal_44 {rr : (Int32 ⊕ Ex) × Hp}  (C : CX p l R s m args meth c D Hs cX4_appeal "MassclaimModel" 4 (some .int) [] 4 64)  : ∀ (x2 : Int32) (x3 : Nat) (y0 : Nat) (h : Hp) (H : Heap) (locs : List Loc) (cells slots : Nat) (ls : Array Slot), HP D Hs h H → LO Hs locs → lv_has ls 4 [(2, .int x2), (3, rv x3)] → f_X4_appeal_44 x2 x3 y0 h = some rr → W p l e R s m args below meth c H locs cells slots (ZM D Hs iI rr below args s) (F0 m 44 ls [rv y0]) := by
  obtain ⟨⟨hx, hb, hml, hown, hts⟩, -⟩ := id C
  have hl9 := C.2.1.2.2.1
  intro x2 x3 y0 h H locs cells slots ls hH hL hl hrun
  unfold f_X4_appeal_44 at hrun
  refine V_aload_n (pc := 44) hx hb dX4_appeal_44 rfl (lv_at hl 1 rfl) ?_
  obtain ⟨c10, hrun⟩ := gd_some hrun
  refine V_getI (pc := 45) C hH fr_X4_426 dX4_appeal_45 c10 rfl ?_
  refine lv_if_ne (tgt := 55) (pc := 48) hx hb dX4_appeal_48 (by decide) (fun c_ => ?_) (fun c_ => ?_)
  · have hrun := ite_f hrun c_
    exact b_X4_appeal_55 C x2 x3 y0 h H locs cells slots ls hH hL (lv_sub hl [0, 1] rfl) hrun
  · have hrun := ite_t hrun c_
    refine lv_iconst (v := (1 : Int32)) (pc := 51) hx hb dX4_appeal_51 (by decide) ?_
    refine lv_goto (tgt := 56) (pc := 52) hx hb dX4_appeal_52 (by decide) ?_
    exact b_X4_appeal_56 C x2 x3 y0 (1 : Int32) h H locs cells slots ls hH hL (lv_sub hl [0, 1] rfl) hrun

theorem b_X4_appeal {rr : (Int32 ⊕ Ex) × Hp}  (C : CX p l R s m args meth c D Hs cX4_appeal "MassclaimModel" 4 (some .int) [] 4 64)  : ∀ (x0 : Nat) (x1 : Int32) (x2 : Int32) (h : Hp) (H : Heap) (locs : List Loc) (cells slots : Nat) (ls : Array Slot), HP D Hs h H → LO Hs locs → lv_has ls 4 [(0, rv x0), (1, .int x1), (2, .int x2)] → f_X4_appeal x0 x1 x2 h = some rr → W p l e R s m args below meth c H locs cells slots (ZM D Hs iI rr below args s) (F0 m 0 ls []) := by
  obtain ⟨⟨hx, hb, hml, hown, hts⟩, -⟩ := id C
  have hl9 := C.2.1.2.2.1
  intro x0 x1 x2 h H locs cells slots ls hH hL hl hrun
  unfold f_X4_appeal at hrun
  refine V_aload_n (pc := 0) hx hb dX4_appeal_0 rfl (lv_at hl 0 rfl) ?_
  refine V_aload_n (pc := 1) hx hb dX4_appeal_1 rfl (lv_at hl 0 rfl) ?_
  refine lv_iload_n (pc := 2) hx hb dX4_appeal_2 rfl (lv_at hl 1 rfl) ?_
  obtain ⟨c13, hrun⟩ := gd_some hrun
  refine V_bd (pc := 3) C hL rfl hrun (fun rr1 e1 => Z_runV (rest := [rv x0]) C hH (m_X4_isClaim hl9 e1) wV_X4_416 c13 rfl (by decide) rfl rfl ⟨by decide, by decide⟩ rfl (by simp [csum, rv_cat, cat_i, cat_l, cat_f, cat_d]) hl.1 dX4_appeal_3) (fun v11 h12 H locs cells slots hH hL hrun => ?_)
  refine lv_iconst (v := (1 : Int32)) (pc := 6) hx hb dX4_appeal_6 (by decide) ?_
  obtain ⟨c16, hrun⟩ := gd_some hrun
  refine V_bd (pc := 7) C hL rfl hrun (fun rr1 e1 => Z_runV (rest := []) C hH (m_X4_isGood hl9 e1) wV_X4_104 c16 rfl (by decide) rfl rfl ⟨by decide, by decide⟩ rfl (Nat.le_of_ble_eq_true rfl) hl.1 dX4_appeal_7) (fun v14 h15 H locs cells slots hH hL hrun => ?_)
  refine lv_if_ne (tgt := 15) (pc := 10) hx hb dX4_appeal_10 (by decide) (fun c_ => ?_) (fun c_ => ?_)
  · have hrun := ite_f hrun c_
    refine V_aload_n (pc := 15) hx hb dX4_appeal_15 rfl (lv_at hl 0 rfl) ?_
    obtain ⟨c17, hrun⟩ := gd_some hrun
    refine V_getR (pc := 16) C hH fr_X4_30 dX4_appeal_16 c17 rfl ?_
    refine lv_iload_n (pc := 19) hx hb dX4_appeal_19 rfl (lv_at hl 1 rfl) ?_
    obtain ⟨c20, hrun⟩ := gd_some hrun
    refine V_bd (pc := 20) C hL rfl hrun (fun rr1 e1 => Z_runV (rest := []) C hH (m_J2_get hl9 e1) wV_X4_108 c20 rfl (by decide) rfl rfl ⟨by decide, by decide⟩ rfl (Nat.le_of_ble_eq_true rfl) hl.1 dX4_appeal_20) (fun v18 h19 H locs cells slots hH hL hrun => ?_)
    obtain ⟨c21, hrun⟩ := gd_some hrun
    refine V_castX (pc := 23) (ci := 12) C hH rfl (by decide) q1955 dX4_appeal_23 c21 ?_
    refine V_astore_n (i := 3) (lv' := [(3, rv v18), (0, rv x0), (1, .int x1), (2, .int x2)]) (pc := 26) hx hb dX4_appeal_26 rfl hl (by decide) rfl (fun ls hl => ?_)
    refine V_aload_n (pc := 27) hx hb dX4_appeal_27 rfl (lv_at hl 1 rfl) ?_
    refine V_aload_n (pc := 28) hx hb dX4_appeal_28 rfl (lv_at hl 0 rfl) ?_
    obtain ⟨c22, hrun⟩ := gd_some hrun
    refine V_getI (pc := 29) C hH fr_X4_126 dX4_appeal_29 c22 rfl ?_
    refine lv_iconst (v := (3 : Int32)) (pc := 32) hx hb dX4_appeal_32 (by decide) ?_
    refine lv_icmp_eq (tgt := 44) (pc := 33) hx hb dX4_appeal_33 (by decide) (fun c_ => ?_) (fun c_ => ?_)
    · have hrun := ite_t hrun c_
      exact b_X4_appeal_44 C x2 v18 x0 h19 H locs cells slots ls hH hL (lv_sub hl [3, 0] rfl) hrun
    · have hrun := ite_f hrun c_
      refine V_aload_n (pc := 36) hx hb dX4_appeal_36 rfl (lv_at hl 0 rfl) ?_
      refine V_getI (pc := 37) C hH fr_X4_126 dX4_appeal_37 c22 rfl ?_
      refine lv_iconst (v := (4 : Int32)) (pc := 40) hx hb dX4_appeal_40 (by decide) ?_
      refine lv_icmp_ne (tgt := 55) (pc := 41) hx hb dX4_appeal_41 (by decide) (fun c_ => ?_) (fun c_ => ?_)
      · have hrun := ite_f hrun c_
        exact b_X4_appeal_55 C x2 v18 x0 h19 H locs cells slots ls hH hL (lv_sub hl [3, 0] rfl) hrun
      · have hrun := ite_t hrun c_
        exact b_X4_appeal_44 C x2 v18 x0 h19 H locs cells slots ls hH hL (lv_sub hl [3, 0] rfl) hrun
  · have hrun := ite_t hrun c_
    refine lv_iconst (v := (0 : Int32)) (pc := 13) hx hb dX4_appeal_13 (by decide) ?_
    exact V_iret (pc := 14) C hH hL hrun dX4_appeal_14

theorem m_X4_appeal {l : Launch} {D : va_G} {Hs : Heap} {h : Hp} {rr : (Int32 ⊕ Ex) × Hp} (hl9 : l.stackTraces = false) {x0 : Nat} {x1 : Int32} {x2 : Int32} (hrun : f_X4_appeal x0 x1 x2 h = some rr) : CM l yX4_appeal (ws_ yX4_appeal cX4_appeal 4 (some .int)) 4 64 iI [rv x0, .int x1, .int x2] D Hs h rr := by
  refine CM.of (lv := [(0, rv x0), (1, .int x1), (2, .int x2)]) (plainFor_of_name (by decide)) hl9 (by simp [lv_args, rv_cat, cat_i, cat_l, cat_f, cat_d]) (by simp [lg_sl, rv_cat, cat_i, cat_l, cat_f, cat_d]) ?_
  intro p e R s m args below meth c H ls C hH hl hin
  exact b_X4_appeal C x0 x1 x2 _ H [] _ _ ls hH (fun _ q => nomatch q) (lv_sub hl [0, 1, 2] rfl) hrun
end WK13

section WK8
variable {p : Program} {l : Launch} {e : Env} {R : Room} {s : State} {m : MethodId} {args : Array Value} {below : List Frame} {meth : Method} {c : Code} {D : va_G} {Hs : Heap} {F X : Nat}
/-! Massclaim.propose(III)I -/
def f_X1_propose_97  : Nat → Nat → Nat → Hp → Rt Int32
  | 0, _, _, _ => none
  | n + 1, x0, x4, h => gd (kC h x4 = 19) <| bd (f_J16_hasNext x4 h) fun v1 h2 => if v1 = 0 then
  (gd (kC h2 x0 = 1) <| gd (kC h2 (kR h2 9 x0) = 10) <| some (.inl (kI h2 903 (kR h2 9 x0)), h2))
  else
  (gd (kC h2 x4 = 19) <| bd (f_J16_next x4 h2) fun v6 h7 => gd (v6 = 0 ∨ kC h7 v6 = 5) <| gd (kC h7 v6 = 5) <| vl (sI h7 413 v6 (-1 : Int32)) fun h11 => gd (kC h11 v6 = 5) <| vl (sI h11 414 v6 (0 : Int32)) fun h13 => f_X1_propose_97 n x0 x4 h13)
def f_X1_propose_71  (x0 : Nat) (x1 : Int32) (x2 : Int32) (x3 : Int32) (y0 : Int32) (h : Hp) : Rt Int32 :=
  bd (f_X1_requireState y0 h) fun _ h15 => nw h15 10 6 fun q16 h17 => gd (kC h17 q16 = 10) <| bd (f_X10_init q16 x1 x2 x3 h17) fun _ h19 => gd (kC h19 x0 = 1) <| vl (sR h19 9 x0 q16) fun h22 => gd (kC h22 x0 = 1) <| gd (kC h22 (kR h22 0 x0) = 2) <| bd (f_X2_iterator (kR h22 0 x0) h22) fun v24 h25 => f_X1_propose_97 FU x0 v24 h25
def f_X1_propose_70  (x0 : Nat) (x1 : Int32) (x2 : Int32) (x3 : Int32) (h : Hp) : Rt Int32 :=
  f_X1_propose_71 x0 x1 x2 x3 (0 : Int32) h
def f_X1_propose_59  (x0 : Nat) (x1 : Int32) (x2 : Int32) (x3 : Int32) (h : Hp) : Rt Int32 :=
  gd (kC h x0 = 1) <| if (kI h 10 x0) ≤ 0 then
  (f_X1_propose_70 x0 x1 x2 x3 h)
  else
  (f_X1_propose_71 x0 x1 x2 x3 (1 : Int32) h)
def f_X1_propose_41  (x0 : Nat) (x1 : Int32) (x2 : Int32) (x3 : Int32) (y0 : Int32) (h : Hp) : Rt Int32 :=
  bd (f_X1_requireArgument y0 h) fun _ h29 => gd (kC h29 x0 = 1) <| bd (f_X1_stage x0 h29) fun v30 h31 => if v30 = 0 then
  (f_X1_propose_59 x0 x1 x2 x3 h31)
  else
  (gd (kC h31 x0 = 1) <| bd (f_X1_stage x0 h31) fun v33 h34 => if v33 = (4 : Int32) then
  (f_X1_propose_59 x0 x1 x2 x3 h34)
  else
  (f_X1_propose_70 x0 x1 x2 x3 h34))
def f_X1_propose_40  (x0 : Nat) (x1 : Int32) (x2 : Int32) (x3 : Int32) (h : Hp) : Rt Int32 :=
  f_X1_propose_41 x0 x1 x2 x3 (0 : Int32) h
def f_X1_propose  (x0 : Nat) (x1 : Int32) (x2 : Int32) (x3 : Int32) (h : Hp) : Rt Int32 :=
  bd (f_X1_isIn (x1.toInt64) (1 : Int64) (1000000000 : Int64) h) fun v36 h37 => if v36 = 0 then
  (f_X1_propose_40 x0 x1 x2 x3 h37)
  else
  (bd (f_X1_isIn (x2.toInt64) (0 : Int64) (50 : Int64) h37) fun v38 h39 => if v38 = 0 then
  (f_X1_propose_40 x0 x1 x2 x3 h39)
  else
  (bd (f_X1_isIn (x3.toInt64) (0 : Int64) (100 : Int64) h39) fun v40 h41 => if v40 = 0 then
  (f_X1_propose_40 x0 x1 x2 x3 h41)
  else
  (f_X1_propose_41 x0 x1 x2 x3 (1 : Int32) h41)))
theorem b_X1_propose_97 {rr : (Int32 ⊕ Ex) × Hp}  (C : CX p l R s m args meth c D Hs cX1_propose "Massclaim" 6 (some .int) [] 7 110)  : ∀ (n : Nat) (x0 : Nat) (x4 : Nat) (h : Hp) (H : Heap) (locs : List Loc) (cells slots : Nat) (ls : Array Slot), HP D Hs h H → LO Hs locs → lv_has ls 6 [(0, rv x0), (4, rv x4)] → f_X1_propose_97 n x0 x4 h = some rr → W p l e R s m args below meth c H locs cells slots (ZM D Hs iI rr below args s) (F0 m 97 ls []) := by
  obtain ⟨⟨hx, hb, hml, hown, hts⟩, -⟩ := id C
  have hl9 := C.2.1.2.2.1
  intro n
  induction n with
  | zero =>
    intro x0 x4 h H locs cells slots ls hH hL hl hrun
    cases (show (none : Option _) = some rr from hrun)
  | succ n ih =>
    intro x0 x4 h H locs cells slots ls hH hL hl hrun
    rw [f_X1_propose_97] at hrun
    refine V_aload (pc := 97) hx hb dX1_propose_97 (lv_at hl 1 rfl) ?_
    obtain ⟨c3, hrun⟩ := gd_some hrun
    refine V_bd5 (pc := 99) C hL rfl hrun (fun rr1 e1 => Z_runF (rest := []) C hH (m_J16_hasNext hl9 e1) rfl wF_X1_212_J16 c3 (by decide) rfl ⟨by decide, by decide⟩ rfl (Nat.le_of_ble_eq_true rfl) hl.1 dX1_propose_99) (fun v1 h2 H locs cells slots hH hL hrun => ?_)
    refine lv_if_eq (tgt := 134) (pc := 104) hx hb dX1_propose_104 (by decide) (fun c_ => ?_) (fun c_ => ?_)
    · have hrun := ite_t hrun c_
      refine V_aload_n (pc := 134) hx hb dX1_propose_134 rfl (lv_at hl 0 rfl) ?_
      obtain ⟨c4, hrun⟩ := gd_some hrun
      refine V_getR (pc := 135) C hH fr_X1_84 dX1_propose_135 c4 rfl ?_
      obtain ⟨c5, hrun⟩ := gd_some hrun
      refine V_getNI (pc := 138) C hH fn_X1_118 dX1_propose_138 c5 rfl ?_
      exact V_iret (pc := 141) C hH hL hrun dX1_propose_141
    · have hrun := ite_f hrun c_
      refine V_aload (pc := 107) hx hb dX1_propose_107 (lv_at hl 1 rfl) ?_
      obtain ⟨c8, hrun⟩ := gd_some hrun
      refine V_bd5 (pc := 109) C hL rfl hrun (fun rr1 e1 => Z_runF (rest := []) C hH (m_J16_next hl9 e1) rfl wF_X1_217_J16 c8 (by decide) rfl ⟨by decide, by decide⟩ rfl (Nat.le_of_ble_eq_true rfl) hl.1 dX1_propose_109) (fun v6 h7 H locs cells slots hH hL hrun => ?_)
      obtain ⟨c9, hrun⟩ := gd_some hrun
      refine V_castX (pc := 114) (ci := 4) C hH rfl (by decide) q376 dX1_propose_114 c9 ?_
      refine V_astore (i := 5) (lv' := [(5, rv v6), (0, rv x0), (4, rv x4)]) (pc := 117) hx hb dX1_propose_117 hl (by decide) (by simp [rv_cat, cat_i, cat_l, cat_f, cat_d]) (fun ls hl => ?_)
      refine V_aload (pc := 119) hx hb dX1_propose_119 (lv_at hl 0 rfl) ?_
      refine lv_iconst (v := (-1 : Int32)) (pc := 121) hx hb dX1_propose_121 (by decide) ?_
      obtain ⟨c10, hrun⟩ := gd_some hrun
      refine V_putNI (pc := 122) C hH hL fn_X1_362 dX1_propose_122 c10 (fok_i _) rfl hrun (fun h11 H locs hH hL hrun => ?_)
      refine V_aload (pc := 125) hx hb dX1_propose_125 (lv_at hl 0 rfl) ?_
      refine lv_iconst (v := (0 : Int32)) (pc := 127) hx hb dX1_propose_127 (by decide) ?_
      obtain ⟨c12, hrun⟩ := gd_some hrun
      refine V_putNI (pc := 128) C hH hL fn_X1_365 dX1_propose_128 c12 (fok_z (Or.inl rfl)) rfl hrun (fun h13 H locs hH hL hrun => ?_)
      refine lv_goto (tgt := 97) (pc := 131) hx hb dX1_propose_131 (by decide) ?_
      exact ih x0 x4 h13 H locs cells slots ls hH hL (lv_sub hl [1, 2] rfl) hrun

theorem b_X1_propose_71 {rr : (Int32 ⊕ Ex) × Hp}  (C : CX p l R s m args meth c D Hs cX1_propose "Massclaim" 6 (some .int) [] 7 110)  : ∀ (x0 : Nat) (x1 : Int32) (x2 : Int32) (x3 : Int32) (y0 : Int32) (h : Hp) (H : Heap) (locs : List Loc) (cells slots : Nat) (ls : Array Slot), HP D Hs h H → LO Hs locs → lv_has ls 6 [(0, rv x0), (1, .int x1), (2, .int x2), (3, .int x3)] → f_X1_propose_71 x0 x1 x2 x3 y0 h = some rr → W p l e R s m args below meth c H locs cells slots (ZM D Hs iI rr below args s) (F0 m 71 ls [.int y0]) := by
  obtain ⟨⟨hx, hb, hml, hown, hts⟩, -⟩ := id C
  have hl9 := C.2.1.2.2.1
  intro x0 x1 x2 x3 y0 h H locs cells slots ls hH hL hl hrun
  unfold f_X1_propose_71 at hrun
  refine V_bd (pc := 71) C hL rfl hrun (fun rr1 e1 => Z_runS (rest := []) C hH (m_X1_requireState hl9 e1) wS_X1_182 rfl ⟨by decide, by decide⟩ rfl (Nat.le_of_ble_eq_true rfl) hl.1 dX1_propose_71) (fun _ h15 H locs cells slots hH hL hrun => ?_)
  refine V_aload_n (pc := 74) hx hb dX1_propose_74 rfl (lv_at hl 0 rfl) ?_
  refine V_new (pc := 75) C hH nl_X1_119 dX1_propose_75 hrun (fun q16 h17 H cells slots hH hrun => ?_)
  refine lv_dup (pc := 78) hx hb dX1_propose_78 (rv_cat _) ?_
  refine lv_iload_n (pc := 79) hx hb dX1_propose_79 rfl (lv_at hl 1 rfl) ?_
  refine lv_iload_n (pc := 80) hx hb dX1_propose_80 rfl (lv_at hl 2 rfl) ?_
  refine lv_iload_n (pc := 81) hx hb dX1_propose_81 rfl (lv_at hl 3 rfl) ?_
  obtain ⟨c20, hrun⟩ := gd_some hrun
  refine V_bd (pc := 82) C hL rfl hrun (fun rr1 e1 => Z_runI (rest := [rv q16, rv x0]) C hH (m_X10_init hl9 e1) wI_X1_361 (hH.pos c20) rfl ⟨by decide, by decide⟩ rfl (by simp [csum, rv_cat, cat_i, cat_l, cat_f, cat_d]) hl.1 dX1_propose_82) (fun _ h19 H locs cells slots hH hL hrun => ?_)
  obtain ⟨c21, hrun⟩ := gd_some hrun
  refine V_putR (pc := 85) C hH hL fl_X1_84 dX1_propose_85 c21 (fok_o _ _) rfl (fun q => Bool.noConfusion q) hrun (fun h22 H locs hH hL hrun => ?_)
  refine V_aload_n (pc := 88) hx hb dX1_propose_88 rfl (lv_at hl 0 rfl) ?_
  obtain ⟨c23, hrun⟩ := gd_some hrun
  refine V_getR (pc := 89) C hH fr_X1_42 dX1_propose_89 c23 rfl ?_
  obtain ⟨c26, hrun⟩ := gd_some hrun
  refine V_bd (pc := 92) C hL rfl hrun (fun rr1 e1 => Z_runV (rest := []) C hH (m_X2_iterator hl9 e1) wV_X1_208 c26 rfl (by decide) rfl rfl ⟨by decide, by decide⟩ rfl (Nat.le_of_ble_eq_true rfl) hl.1 dX1_propose_92) (fun v24 h25 H locs cells slots hH hL hrun => ?_)
  refine V_astore (i := 4) (lv' := [(4, rv v24), (0, rv x0), (1, .int x1), (2, .int x2), (3, .int x3)]) (pc := 95) hx hb dX1_propose_95 hl (by decide) rfl (fun ls hl => ?_)
  exact b_X1_propose_97 C FU x0 v24 h25 H locs cells slots ls hH hL (lv_sub hl [1, 0] rfl) hrun

theorem b_X1_propose_70 {rr : (Int32 ⊕ Ex) × Hp}  (C : CX p l R s m args meth c D Hs cX1_propose "Massclaim" 6 (some .int) [] 7 110)  : ∀ (x0 : Nat) (x1 : Int32) (x2 : Int32) (x3 : Int32) (h : Hp) (H : Heap) (locs : List Loc) (cells slots : Nat) (ls : Array Slot), HP D Hs h H → LO Hs locs → lv_has ls 6 [(0, rv x0), (1, .int x1), (2, .int x2), (3, .int x3)] → f_X1_propose_70 x0 x1 x2 x3 h = some rr → W p l e R s m args below meth c H locs cells slots (ZM D Hs iI rr below args s) (F0 m 70 ls []) := by
  obtain ⟨⟨hx, hb, hml, hown, hts⟩, -⟩ := id C
  have hl9 := C.2.1.2.2.1
  intro x0 x1 x2 x3 h H locs cells slots ls hH hL hl hrun
  unfold f_X1_propose_70 at hrun
  refine lv_iconst (v := (0 : Int32)) (pc := 70) hx hb dX1_propose_70 (by decide) ?_
  exact b_X1_propose_71 C x0 x1 x2 x3 (0 : Int32) h H locs cells slots ls hH hL (lv_sub hl [0, 1, 2, 3] rfl) hrun

theorem b_X1_propose_59 {rr : (Int32 ⊕ Ex) × Hp}  (C : CX p l R s m args meth c D Hs cX1_propose "Massclaim" 6 (some .int) [] 7 110)  : ∀ (x0 : Nat) (x1 : Int32) (x2 : Int32) (x3 : Int32) (h : Hp) (H : Heap) (locs : List Loc) (cells slots : Nat) (ls : Array Slot), HP D Hs h H → LO Hs locs → lv_has ls 6 [(0, rv x0), (1, .int x1), (2, .int x2), (3, .int x3)] → f_X1_propose_59 x0 x1 x2 x3 h = some rr → W p l e R s m args below meth c H locs cells slots (ZM D Hs iI rr below args s) (F0 m 59 ls []) := by
  obtain ⟨⟨hx, hb, hml, hown, hts⟩, -⟩ := id C
  have hl9 := C.2.1.2.2.1
  intro x0 x1 x2 x3 h H locs cells slots ls hH hL hl hrun
  unfold f_X1_propose_59 at hrun
  refine V_aload_n (pc := 59) hx hb dX1_propose_59 rfl (lv_at hl 0 rfl) ?_
  obtain ⟨c27, hrun⟩ := gd_some hrun
  refine V_getI (pc := 60) C hH fr_X1_88 dX1_propose_60 c27 rfl ?_
  refine lv_if_le (tgt := 70) (pc := 63) hx hb dX1_propose_63 (by decide) (fun c_ => ?_) (fun c_ => ?_)
  · have hrun := ite_t hrun c_
    exact b_X1_propose_70 C x0 x1 x2 x3 h H locs cells slots ls hH hL (lv_sub hl [0, 1, 2, 3] rfl) hrun
  · have hrun := ite_f hrun c_
    refine lv_iconst (v := (1 : Int32)) (pc := 66) hx hb dX1_propose_66 (by decide) ?_
    refine lv_goto (tgt := 71) (pc := 67) hx hb dX1_propose_67 (by decide) ?_
    exact b_X1_propose_71 C x0 x1 x2 x3 (1 : Int32) h H locs cells slots ls hH hL (lv_sub hl [0, 1, 2, 3] rfl) hrun

theorem b_X1_propose_41 {rr : (Int32 ⊕ Ex) × Hp}  (C : CX p l R s m args meth c D Hs cX1_propose "Massclaim" 6 (some .int) [] 7 110)  : ∀ (x0 : Nat) (x1 : Int32) (x2 : Int32) (x3 : Int32) (y0 : Int32) (h : Hp) (H : Heap) (locs : List Loc) (cells slots : Nat) (ls : Array Slot), HP D Hs h H → LO Hs locs → lv_has ls 6 [(0, rv x0), (1, .int x1), (2, .int x2), (3, .int x3)] → f_X1_propose_41 x0 x1 x2 x3 y0 h = some rr → W p l e R s m args below meth c H locs cells slots (ZM D Hs iI rr below args s) (F0 m 41 ls [.int y0]) := by
  obtain ⟨⟨hx, hb, hml, hown, hts⟩, -⟩ := id C
  have hl9 := C.2.1.2.2.1
  intro x0 x1 x2 x3 y0 h H locs cells slots ls hH hL hl hrun
  unfold f_X1_propose_41 at hrun
  refine V_bd (pc := 41) C hL rfl hrun (fun rr1 e1 => Z_runS (rest := []) C hH (m_X1_requireArgument hl9 e1) wS_X1_131 rfl ⟨by decide, by decide⟩ rfl (Nat.le_of_ble_eq_true rfl) hl.1 dX1_propose_41) (fun _ h29 H locs cells slots hH hL hrun => ?_)
  refine V_aload_n (pc := 44) hx hb dX1_propose_44 rfl (lv_at hl 0 rfl) ?_
  obtain ⟨c32, hrun⟩ := gd_some hrun
  refine V_bd (pc := 45) C hL rfl hrun (fun rr1 e1 => Z_runV (rest := []) C hH (m_X1_stage hl9 e1) wV_X1_123 c32 rfl (by decide) rfl rfl ⟨by decide, by decide⟩ rfl (Nat.le_of_ble_eq_true rfl) hl.1 dX1_propose_45) (fun v30 h31 H locs cells slots hH hL hrun => ?_)
  refine lv_if_eq (tgt := 59) (pc := 48) hx hb dX1_propose_48 (by decide) (fun c_ => ?_) (fun c_ => ?_)
  · have hrun := ite_t hrun c_
    exact b_X1_propose_59 C x0 x1 x2 x3 h31 H locs cells slots ls hH hL (lv_sub hl [0, 1, 2, 3] rfl) hrun
  · have hrun := ite_f hrun c_
    refine V_aload_n (pc := 51) hx hb dX1_propose_51 rfl (lv_at hl 0 rfl) ?_
    obtain ⟨c35, hrun⟩ := gd_some hrun
    refine V_bd (pc := 52) C hL rfl hrun (fun rr1 e1 => Z_runV (rest := []) C hH (m_X1_stage hl9 e1) wV_X1_123 c35 rfl (by decide) rfl rfl ⟨by decide, by decide⟩ rfl (Nat.le_of_ble_eq_true rfl) hl.1 dX1_propose_52) (fun v33 h34 H locs cells slots hH hL hrun => ?_)
    refine lv_iconst (v := (4 : Int32)) (pc := 55) hx hb dX1_propose_55 (by decide) ?_
    refine lv_icmp_ne (tgt := 70) (pc := 56) hx hb dX1_propose_56 (by decide) (fun c_ => ?_) (fun c_ => ?_)
    · have hrun := ite_f hrun c_
      exact b_X1_propose_70 C x0 x1 x2 x3 h34 H locs cells slots ls hH hL (lv_sub hl [0, 1, 2, 3] rfl) hrun
    · have hrun := ite_t hrun c_
      exact b_X1_propose_59 C x0 x1 x2 x3 h34 H locs cells slots ls hH hL (lv_sub hl [0, 1, 2, 3] rfl) hrun

theorem b_X1_propose_40 {rr : (Int32 ⊕ Ex) × Hp}  (C : CX p l R s m args meth c D Hs cX1_propose "Massclaim" 6 (some .int) [] 7 110)  : ∀ (x0 : Nat) (x1 : Int32) (x2 : Int32) (x3 : Int32) (h : Hp) (H : Heap) (locs : List Loc) (cells slots : Nat) (ls : Array Slot), HP D Hs h H → LO Hs locs → lv_has ls 6 [(0, rv x0), (1, .int x1), (2, .int x2), (3, .int x3)] → f_X1_propose_40 x0 x1 x2 x3 h = some rr → W p l e R s m args below meth c H locs cells slots (ZM D Hs iI rr below args s) (F0 m 40 ls []) := by
  obtain ⟨⟨hx, hb, hml, hown, hts⟩, -⟩ := id C
  have hl9 := C.2.1.2.2.1
  intro x0 x1 x2 x3 h H locs cells slots ls hH hL hl hrun
  unfold f_X1_propose_40 at hrun
  refine lv_iconst (v := (0 : Int32)) (pc := 40) hx hb dX1_propose_40 (by decide) ?_
  exact b_X1_propose_41 C x0 x1 x2 x3 (0 : Int32) h H locs cells slots ls hH hL (lv_sub hl [0, 1, 2, 3] rfl) hrun

theorem b_X1_propose {rr : (Int32 ⊕ Ex) × Hp}  (C : CX p l R s m args meth c D Hs cX1_propose "Massclaim" 6 (some .int) [] 7 110)  : ∀ (x0 : Nat) (x1 : Int32) (x2 : Int32) (x3 : Int32) (h : Hp) (H : Heap) (locs : List Loc) (cells slots : Nat) (ls : Array Slot), HP D Hs h H → LO Hs locs → lv_has ls 6 [(0, rv x0), (1, .int x1), (2, .int x2), (3, .int x3)] → f_X1_propose x0 x1 x2 x3 h = some rr → W p l e R s m args below meth c H locs cells slots (ZM D Hs iI rr below args s) (F0 m 0 ls []) := by
  obtain ⟨⟨hx, hb, hml, hown, hts⟩, -⟩ := id C
  have hl9 := C.2.1.2.2.1
  intro x0 x1 x2 x3 h H locs cells slots ls hH hL hl hrun
  unfold f_X1_propose at hrun
  refine lv_iload_n (pc := 0) hx hb dX1_propose_0 rfl (lv_at hl 1 rfl) ?_
  refine lv_i2l (pc := 1) hx hb dX1_propose_1 rfl ?_
  refine lv_lconst (v := (1 : Int64)) (pc := 2) hx hb dX1_propose_2 (by decide) ?_
  refine lv_ldc2 (pc := 3) hx hb hown (hts _ q1328) dX1_propose_3 ?_
  refine V_bd (pc := 6) C hL rfl hrun (fun rr1 e1 => Z_runS (rest := []) C hH (m_X1_isIn hl9 e1) wS_X1_127 rfl ⟨by decide, by decide⟩ rfl (Nat.le_of_ble_eq_true rfl) hl.1 dX1_propose_6) (fun v36 h37 H locs cells slots hH hL hrun => ?_)
  refine lv_if_eq (tgt := 40) (pc := 9) hx hb dX1_propose_9 (by decide) (fun c_ => ?_) (fun c_ => ?_)
  · have hrun := ite_t hrun c_
    exact b_X1_propose_40 C x0 x1 x2 x3 h37 H locs cells slots ls hH hL (lv_sub hl [0, 1, 2, 3] rfl) hrun
  · have hrun := ite_f hrun c_
    refine lv_iload_n (pc := 12) hx hb dX1_propose_12 rfl (lv_at hl 2 rfl) ?_
    refine lv_i2l (pc := 13) hx hb dX1_propose_13 rfl ?_
    refine lv_lconst (v := (0 : Int64)) (pc := 14) hx hb dX1_propose_14 (by decide) ?_
    refine lv_ldc2 (pc := 15) hx hb hown (hts _ q1391) dX1_propose_15 ?_
    refine V_bd (pc := 18) C hL rfl hrun (fun rr1 e1 => Z_runS (rest := []) C hH (m_X1_isIn hl9 e1) wS_X1_127 rfl ⟨by decide, by decide⟩ rfl (Nat.le_of_ble_eq_true rfl) hl.1 dX1_propose_18) (fun v38 h39 H locs cells slots hH hL hrun => ?_)
    refine lv_if_eq (tgt := 40) (pc := 21) hx hb dX1_propose_21 (by decide) (fun c_ => ?_) (fun c_ => ?_)
    · have hrun := ite_t hrun c_
      exact b_X1_propose_40 C x0 x1 x2 x3 h39 H locs cells slots ls hH hL (lv_sub hl [0, 1, 2, 3] rfl) hrun
    · have hrun := ite_f hrun c_
      refine lv_iload_n (pc := 24) hx hb dX1_propose_24 rfl (lv_at hl 3 rfl) ?_
      refine lv_i2l (pc := 25) hx hb dX1_propose_25 rfl ?_
      refine lv_lconst (v := (0 : Int64)) (pc := 26) hx hb dX1_propose_26 (by decide) ?_
      refine lv_ldc2 (pc := 27) hx hb hown (hts _ q404) dX1_propose_27 ?_
      refine V_bd (pc := 30) C hL rfl hrun (fun rr1 e1 => Z_runS (rest := []) C hH (m_X1_isIn hl9 e1) wS_X1_127 rfl ⟨by decide, by decide⟩ rfl (Nat.le_of_ble_eq_true rfl) hl.1 dX1_propose_30) (fun v40 h41 H locs cells slots hH hL hrun => ?_)
      refine lv_if_eq (tgt := 40) (pc := 33) hx hb dX1_propose_33 (by decide) (fun c_ => ?_) (fun c_ => ?_)
      · have hrun := ite_t hrun c_
        exact b_X1_propose_40 C x0 x1 x2 x3 h41 H locs cells slots ls hH hL (lv_sub hl [0, 1, 2, 3] rfl) hrun
      · have hrun := ite_f hrun c_
        refine lv_iconst (v := (1 : Int32)) (pc := 36) hx hb dX1_propose_36 (by decide) ?_
        refine lv_goto (tgt := 41) (pc := 37) hx hb dX1_propose_37 (by decide) ?_
        exact b_X1_propose_41 C x0 x1 x2 x3 (1 : Int32) h41 H locs cells slots ls hH hL (lv_sub hl [0, 1, 2, 3] rfl) hrun

theorem m_X1_propose {l : Launch} {D : va_G} {Hs : Heap} {h : Hp} {rr : (Int32 ⊕ Ex) × Hp} (hl9 : l.stackTraces = false) {x0 : Nat} {x1 : Int32} {x2 : Int32} {x3 : Int32} (hrun : f_X1_propose x0 x1 x2 x3 h = some rr) : CM l yX1_propose (ws_ yX1_propose cX1_propose 6 (some .int)) 7 110 iI [rv x0, .int x1, .int x2, .int x3] D Hs h rr := by
  refine CM.of (lv := [(0, rv x0), (1, .int x1), (2, .int x2), (3, .int x3)]) (plainFor_of_name (by decide)) hl9 (by simp [lv_args, rv_cat, cat_i, cat_l, cat_f, cat_d]) (by simp [lg_sl, rv_cat, cat_i, cat_l, cat_f, cat_d]) ?_
  intro p e R s m args below meth c H ls C hH hl hin
  exact b_X1_propose C x0 x1 x2 x3 _ H [] _ _ ls hH (fun _ q => nomatch q) (lv_sub hl [0, 1, 2, 3] rfl) hrun

/-! MassclaimLaw.propose(LMassclaim;III[J)I -/
def f_X0_propose_15  (y0 : Nat) (h : Hp) : Rt Int32 :=
  some (.inl (1 : Int32), h)
def f_X0_propose_19  (y0 : Nat) (h : Hp) : Rt Int32 :=
  some (.inl (2 : Int32), h)
def f_X0_propose  (x0 : Nat) (x1 : Int32) (x2 : Int32) (x3 : Int32) (x4 : Nat) (h : Hp) : Rt Int32 :=
  gd (kC h x0 = 1) <| bdH (f_X1_propose x0 x1 x2 x3 h)
  (fun v1 h2 => gd (kC h2 x4 = 102 ∧ ixo (0 : Int32) (kN h2 x4)) <| vl (tL h2 x4 ((0 : Int32)).toNatClampNeg (v1.toInt64)) fun h5 => some (.inl (0 : Int32), h5))
  (fun ex6 h7 => if ex6.1 = 902 then
  (f_X0_propose_15 ex6.2 h7)
  else
  if ex6.1 = 903 then
  (f_X0_propose_19 ex6.2 h7)
  else
  none)
theorem b_X0_propose_15 {rr : (Int32 ⊕ Ex) × Hp}  (C : CX p l R s m args meth c D Hs cX0_propose "MassclaimLaw" 6 (some .int) [(0, 12, 15, 13), (0, 12, 19, 19)] 8 135)  : ∀ (y0 : Nat) (h : Hp) (H : Heap) (locs : List Loc) (cells slots : Nat) (ls : Array Slot), HP D Hs h H → LO Hs locs → lv_has ls 6 [] → f_X0_propose_15 y0 h = some rr → W p l e R s m args below meth c H locs cells slots (ZM D Hs iI rr below args s) (F0 m 15 ls [rv y0]) := by
  obtain ⟨⟨hx, hb, hml, hown, hts⟩, -⟩ := id C
  have hl9 := C.2.1.2.2.1
  intro y0 h H locs cells slots ls hH hL hl hrun
  unfold f_X0_propose_15 at hrun
  refine V_astore (i := 5) (lv' := [(5, rv y0)]) (pc := 15) hx hb dX0_propose_15 hl (by decide) rfl (fun ls hl => ?_)
  refine lv_iconst (v := (1 : Int32)) (pc := 17) hx hb dX0_propose_17 (by decide) ?_
  exact V_iret (pc := 18) C hH hL hrun dX0_propose_18

theorem b_X0_propose_19 {rr : (Int32 ⊕ Ex) × Hp}  (C : CX p l R s m args meth c D Hs cX0_propose "MassclaimLaw" 6 (some .int) [(0, 12, 15, 13), (0, 12, 19, 19)] 8 135)  : ∀ (y0 : Nat) (h : Hp) (H : Heap) (locs : List Loc) (cells slots : Nat) (ls : Array Slot), HP D Hs h H → LO Hs locs → lv_has ls 6 [] → f_X0_propose_19 y0 h = some rr → W p l e R s m args below meth c H locs cells slots (ZM D Hs iI rr below args s) (F0 m 19 ls [rv y0]) := by
  obtain ⟨⟨hx, hb, hml, hown, hts⟩, -⟩ := id C
  have hl9 := C.2.1.2.2.1
  intro y0 h H locs cells slots ls hH hL hl hrun
  unfold f_X0_propose_19 at hrun
  refine V_astore (i := 5) (lv' := [(5, rv y0)]) (pc := 19) hx hb dX0_propose_19 hl (by decide) rfl (fun ls hl => ?_)
  refine lv_iconst (v := (2 : Int32)) (pc := 21) hx hb dX0_propose_21 (by decide) ?_
  exact V_iret (pc := 22) C hH hL hrun dX0_propose_22

theorem b_X0_propose {rr : (Int32 ⊕ Ex) × Hp}  (C : CX p l R s m args meth c D Hs cX0_propose "MassclaimLaw" 6 (some .int) [(0, 12, 15, 13), (0, 12, 19, 19)] 8 135)  : ∀ (x0 : Nat) (x1 : Int32) (x2 : Int32) (x3 : Int32) (x4 : Nat) (h : Hp) (H : Heap) (locs : List Loc) (cells slots : Nat) (ls : Array Slot), HP D Hs h H → LO Hs locs → lv_has ls 6 [(0, rv x0), (1, .int x1), (2, .int x2), (3, .int x3), (4, rv x4)] → f_X0_propose x0 x1 x2 x3 x4 h = some rr → W p l e R s m args below meth c H locs cells slots (ZM D Hs iI rr below args s) (F0 m 0 ls []) := by
  obtain ⟨⟨hx, hb, hml, hown, hts⟩, -⟩ := id C
  have hl9 := C.2.1.2.2.1
  intro x0 x1 x2 x3 x4 h H locs cells slots ls hH hL hl hrun
  unfold f_X0_propose at hrun
  refine V_aload (pc := 0) hx hb dX0_propose_0 (lv_at hl 4 rfl) ?_
  refine lv_iconst (v := (0 : Int32)) (pc := 2) hx hb dX0_propose_2 (by decide) ?_
  refine V_aload_n (pc := 3) hx hb dX0_propose_3 rfl (lv_at hl 0 rfl) ?_
  refine lv_iload_n (pc := 4) hx hb dX0_propose_4 rfl (lv_at hl 1 rfl) ?_
  refine lv_iload_n (pc := 5) hx hb dX0_propose_5 rfl (lv_at hl 2 rfl) ?_
  refine lv_iload_n (pc := 6) hx hb dX0_propose_6 rfl (lv_at hl 3 rfl) ?_
  obtain ⟨c3, hrun⟩ := gd_some hrun
  refine V_bdH (pc := 7) hL hrun (fun rr1 e1 => Z_runV (rest := [.int (0 : Int32), rv x4]) C hH (m_X1_propose hl9 e1) wV_X0_84 c3 rfl (by decide) rfl rfl ⟨by decide, by decide⟩ rfl (by simp [csum, rv_cat, cat_i, cat_l, cat_f, cat_d]) hl.1 dX0_propose_7) (fun v1 h2 H locs cells slots hH hL hrun => ?_) (fun x_ q_ ce_ h7 H locs cells slots hH hL hrun hc_ hv_ hcl_ => ?_)
  · refine lv_i2l (pc := 10) hx hb dX0_propose_10 rfl ?_
    obtain ⟨c4, hrun⟩ := gd_some hrun
    refine V_last (pc := 11) C hH hL dX0_propose_11 c4 hrun (fun h5 H locs hH hL hrun => ?_)
    refine lv_goto (tgt := 23) (pc := 12) hx hb dX0_propose_12 (by decide) ?_
    refine lv_iconst (v := (0 : Int32)) (pc := 23) hx hb dX0_propose_23 (by decide) ?_
    exact V_iret (pc := 24) C hH hL hrun dX0_propose_24
  · by_cases n902 : x_ = 902
    · subst n902
      have hrun := ite_t hrun rfl
      refine vx_catch (E := "java/lang/IllegalArgumentException") (name := "java/lang/IllegalArgumentException") hown (tableOf []) ⟨0, 12, 15, 13⟩ (tableOf [(0, 12, 19, 19)]) (by rw [C.2.1.2.2.2.2]; rfl) (fun z hz => nomatch hz) (by decide) (by decide) (hts _ q449) (va_Nw.use rfl (C.2.1.2.2.2.1.2.1 _ q463 rfl)) hc_ hv_ hcl_ ?_
      exact b_X0_propose_15 C (q_ + 1) h7 H locs cells slots ls hH hL (lv_sub hl [] rfl) hrun
    have hrun := ite_f hrun n902
    by_cases n903 : x_ = 903
    · subst n903
      have hrun := ite_t hrun rfl
      refine vx_catch (E := "java/lang/IllegalStateException") (name := "java/lang/IllegalStateException") hown (tableOf [(0, 12, 15, 13)]) ⟨0, 12, 19, 19⟩ (tableOf []) (by rw [C.2.1.2.2.2.2]; rfl) (fun z hz => by simp only [tableOf, List.map, List.mem_cons, List.not_mem_nil, or_false] at hz; rcases hz with rfl <;> first | exact Or.inr ⟨by decide, "java/lang/IllegalArgumentException", hts _ q449, nc_at C (by decide)⟩) (by decide) (by decide) (hts _ q585) (va_Nw.use rfl (C.2.1.2.2.2.1.2.1 _ q702 rfl)) hc_ hv_ hcl_ ?_
      exact b_X0_propose_19 C (q_ + 1) h7 H locs cells slots ls hH hL (lv_sub hl [] rfl) hrun
    have hrun := ite_f hrun n903
    cases hrun

theorem m_X0_propose {l : Launch} {D : va_G} {Hs : Heap} {h : Hp} {rr : (Int32 ⊕ Ex) × Hp} (hl9 : l.stackTraces = false) {x0 : Nat} {x1 : Int32} {x2 : Int32} {x3 : Int32} {x4 : Nat} (hrun : f_X0_propose x0 x1 x2 x3 x4 h = some rr) : CM l yX0_propose (wsW_ yX0_propose cX0_propose 6 (some .int) [(0, 12, 15, 13), (0, 12, 19, 19)]) 8 135 iI [rv x0, .int x1, .int x2, .int x3, rv x4] D Hs h rr := by
  refine CM.ofH (lv := [(0, rv x0), (1, .int x1), (2, .int x2), (3, .int x3), (4, rv x4)]) (plainFor_of_name (by decide)) hl9 (by simp [lv_args, rv_cat, cat_i, cat_l, cat_f, cat_d]) (by simp [lg_sl, rv_cat, cat_i, cat_l, cat_f, cat_d]) ?_
  intro p e R s m args below meth c H ls C hH hl hin
  exact b_X0_propose C x0 x1 x2 x3 x4 _ H [] _ _ ls hH (fun _ q => nomatch q) (lv_sub hl [0, 1, 2, 3, 4] rfl) hrun

/-! MassclaimModel.propose(III)I -/
def f_X4_propose_88  (h : Hp) : Rt Int32 :=
  some (.inl (0 : Int32), h)
def f_X4_propose_119  : Nat → Nat → Int32 → Hp → Rt Int32
  | 0, _, _, _ => none
  | n + 1, x0, x5, h => gd (kC h x0 = 4) <| gd (kC h (kR h 302 x0) = 18) <| bd (f_J2_size (kR h 302 x0) h) fun v2 h3 => if v2 ≤ x5 then
  (gd (kC h3 x0 = 4) <| some (.inl (kI h3 309 x0), h3))
  else
  (gd (kC h3 x0 = 4) <| gd (kC h3 (kR h3 302 x0) = 18) <| bd (f_J2_get (kR h3 302 x0) x5 h3) fun v7 h8 => gd (v7 = 0 ∨ kC h8 v7 = 6) <| gd (kC h8 v7 = 6) <| vl (sI h8 515 v7 (0 : Int32)) fun h12 => gd (kC h12 x0 = 4) <| gd (kC h12 (kR h12 302 x0) = 18) <| bd (f_J2_get (kR h12 302 x0) x5 h12) fun v14 h15 => gd (v14 = 0 ∨ kC h15 v14 = 6) <| gd (kC h15 v14 = 6) <| vl (sI h15 516 v14 (0 : Int32)) fun h19 => vl (x5 + (1 : Int32)) fun v20 => f_X4_propose_119 n x0 v20 h19)
def f_X4_propose_81  (x0 : Nat) (x1 : Int32) (x2 : Int32) (x3 : Int32) (y0 : Nat) (y1 : Int32) (h : Hp) : Rt Int32 :=
  gd (kC h y0 = 4) <| bd (f_X4_isGood y0 y1 (2 : Int32) h) fun v21 h22 => if v21 = 0 then
  (f_X4_propose_88  h22)
  else
  (gd (kC h22 x0 = 4) <| vl (sI h22 309 x0 (1 : Int32)) fun h25 => gd (kC h25 x0 = 4) <| vl (sL h25 310 x0 (x1.toInt64)) fun h27 => gd (kC h27 x0 = 4) <| vl (sI h27 311 x0 x2) fun h29 => gd (kC h29 x0 = 4) <| vl (sI h29 312 x0 x3) fun h31 => gd (kC h31 x0 = 4) <| vl (sI h31 314 x0 (0 : Int32)) fun h33 => f_X4_propose_119 FU x0 (0 : Int32) h33)
def f_X4_propose_80  (x0 : Nat) (x1 : Int32) (x2 : Int32) (x3 : Int32) (y0 : Nat) (h : Hp) : Rt Int32 :=
  f_X4_propose_81 x0 x1 x2 x3 y0 (0 : Int32) h
def f_X4_propose_69  (x0 : Nat) (x1 : Int32) (x2 : Int32) (x3 : Int32) (y0 : Nat) (h : Hp) : Rt Int32 :=
  gd (kC h x0 = 4) <| if (kI h 303 x0) = 0 then
  (f_X4_propose_80 x0 x1 x2 x3 y0 h)
  else
  (f_X4_propose_81 x0 x1 x2 x3 y0 (1 : Int32) h)
def f_X4_propose_41  (x0 : Nat) (x1 : Int32) (x2 : Int32) (x3 : Int32) (y0 : Int32) (h : Hp) : Rt Int32 :=
  gd (kC h x0 = 4) <| bd (f_X4_isGood x0 y0 (1 : Int32) h) fun v35 h36 => if v35 = 0 then
  (f_X4_propose_88  h36)
  else
  (gd (kC h36 x0 = 4) <| if (kI h36 309 x0) = 0 then
  (f_X4_propose_69 x0 x1 x2 x3 x0 h36)
  else
  (if (kI h36 309 x0) = (4 : Int32) then
  (f_X4_propose_69 x0 x1 x2 x3 x0 h36)
  else
  (f_X4_propose_80 x0 x1 x2 x3 x0 h36)))
def f_X4_propose_40  (x0 : Nat) (x1 : Int32) (x2 : Int32) (x3 : Int32) (h : Hp) : Rt Int32 :=
  f_X4_propose_41 x0 x1 x2 x3 (0 : Int32) h
def f_X4_propose  (x0 : Nat) (x1 : Int32) (x2 : Int32) (x3 : Int32) (h : Hp) : Rt Int32 :=
  bd (f_X4_isWithin (x1.toInt64) (1 : Int64) (1000000000 : Int64) h) fun v39 h40 => if v39 = 0 then
  (f_X4_propose_40 x0 x1 x2 x3 h40)
  else
  (bd (f_X4_isWithin (x2.toInt64) (0 : Int64) (50 : Int64) h40) fun v41 h42 => if v41 = 0 then
  (f_X4_propose_40 x0 x1 x2 x3 h42)
  else
  (bd (f_X4_isWithin (x3.toInt64) (0 : Int64) (100 : Int64) h42) fun v43 h44 => if v43 = 0 then
  (f_X4_propose_40 x0 x1 x2 x3 h44)
  else
  (f_X4_propose_41 x0 x1 x2 x3 (1 : Int32) h44)))
theorem b_X4_propose_88 {rr : (Int32 ⊕ Ex) × Hp}  (C : CX p l R s m args meth c D Hs cX4_propose "MassclaimModel" 6 (some .int) [] 4 64)  : ∀ (h : Hp) (H : Heap) (locs : List Loc) (cells slots : Nat) (ls : Array Slot), HP D Hs h H → LO Hs locs → lv_has ls 6 [] → f_X4_propose_88 h = some rr → W p l e R s m args below meth c H locs cells slots (ZM D Hs iI rr below args s) (F0 m 88 ls []) := by
  obtain ⟨⟨hx, hb, hml, hown, hts⟩, -⟩ := id C
  have hl9 := C.2.1.2.2.1
  intro h H locs cells slots ls hH hL hl hrun
  unfold f_X4_propose_88 at hrun
  refine lv_iconst (v := (0 : Int32)) (pc := 88) hx hb dX4_propose_88 (by decide) ?_
  exact V_iret (pc := 89) C hH hL hrun dX4_propose_89

theorem b_X4_propose_119 {rr : (Int32 ⊕ Ex) × Hp}  (C : CX p l R s m args meth c D Hs cX4_propose "MassclaimModel" 6 (some .int) [] 4 64)  : ∀ (n : Nat) (x0 : Nat) (x5 : Int32) (h : Hp) (H : Heap) (locs : List Loc) (cells slots : Nat) (ls : Array Slot), HP D Hs h H → LO Hs locs → lv_has ls 6 [(0, rv x0), (5, .int x5)] → f_X4_propose_119 n x0 x5 h = some rr → W p l e R s m args below meth c H locs cells slots (ZM D Hs iI rr below args s) (F0 m 119 ls []) := by
  obtain ⟨⟨hx, hb, hml, hown, hts⟩, -⟩ := id C
  have hl9 := C.2.1.2.2.1
  intro n
  induction n with
  | zero =>
    intro x0 x5 h H locs cells slots ls hH hL hl hrun
    cases (show (none : Option _) = some rr from hrun)
  | succ n ih =>
    intro x0 x5 h H locs cells slots ls hH hL hl hrun
    rw [f_X4_propose_119] at hrun
    refine lv_iload (pc := 119) hx hb dX4_propose_119 (lv_at hl 1 rfl) ?_
    refine V_aload_n (pc := 121) hx hb dX4_propose_121 rfl (lv_at hl 0 rfl) ?_
    obtain ⟨c1, hrun⟩ := gd_some hrun
    refine V_getR (pc := 122) C hH fr_X4_16 dX4_propose_122 c1 rfl ?_
    obtain ⟨c4, hrun⟩ := gd_some hrun
    refine V_bd (pc := 125) C hL rfl hrun (fun rr1 e1 => Z_runV (rest := [.int x5]) C hH (m_J2_size hl9 e1) wV_X4_94 c4 rfl (by decide) rfl rfl ⟨by decide, by decide⟩ rfl (Nat.le_of_ble_eq_true rfl) hl.1 dX4_propose_125) (fun v2 h3 H locs cells slots hH hL hrun => ?_)
    refine lv_icmp_ge (tgt := 169) (pc := 128) hx hb dX4_propose_128 (by decide) (fun c_ => ?_) (fun c_ => ?_)
    · have hrun := ite_t hrun c_
      refine V_aload_n (pc := 169) hx hb dX4_propose_169 rfl (lv_at hl 0 rfl) ?_
      obtain ⟨c5, hrun⟩ := gd_some hrun
      refine V_getI (pc := 170) C hH fr_X4_53 dX4_propose_170 c5 rfl ?_
      exact V_iret (pc := 173) C hH hL hrun dX4_propose_173
    · have hrun := ite_f hrun c_
      refine V_aload_n (pc := 131) hx hb dX4_propose_131 rfl (lv_at hl 0 rfl) ?_
      obtain ⟨c6, hrun⟩ := gd_some hrun
      refine V_getR (pc := 132) C hH fr_X4_16 dX4_propose_132 c6 rfl ?_
      refine lv_iload (pc := 135) hx hb dX4_propose_135 (lv_at hl 1 rfl) ?_
      obtain ⟨c9, hrun⟩ := gd_some hrun
      refine V_bd (pc := 137) C hL rfl hrun (fun rr1 e1 => Z_runV (rest := []) C hH (m_J2_get hl9 e1) wV_X4_108 c9 rfl (by decide) rfl rfl ⟨by decide, by decide⟩ rfl (Nat.le_of_ble_eq_true rfl) hl.1 dX4_propose_137) (fun v7 h8 H locs cells slots hH hL hrun => ?_)
      obtain ⟨c10, hrun⟩ := gd_some hrun
      refine V_castX (pc := 140) (ci := 5) C hH rfl (by decide) q1946 dX4_propose_140 c10 ?_
      refine lv_iconst (v := (0 : Int32)) (pc := 143) hx hb dX4_propose_143 (by decide) ?_
      obtain ⟨c11, hrun⟩ := gd_some hrun
      refine V_putI (pc := 144) C hH hL fl_X4_341 dX4_propose_144 c11 (fok_i _) rfl (fun q => Bool.noConfusion q) hrun (fun h12 H locs hH hL hrun => ?_)
      refine V_aload_n (pc := 147) hx hb dX4_propose_147 rfl (lv_at hl 0 rfl) ?_
      obtain ⟨c13, hrun⟩ := gd_some hrun
      refine V_getR (pc := 148) C hH fr_X4_16 dX4_propose_148 c13 rfl ?_
      refine lv_iload (pc := 151) hx hb dX4_propose_151 (lv_at hl 1 rfl) ?_
      obtain ⟨c16, hrun⟩ := gd_some hrun
      refine V_bd (pc := 153) C hL rfl hrun (fun rr1 e1 => Z_runV (rest := []) C hH (m_J2_get hl9 e1) wV_X4_108 c16 rfl (by decide) rfl rfl ⟨by decide, by decide⟩ rfl (Nat.le_of_ble_eq_true rfl) hl.1 dX4_propose_153) (fun v14 h15 H locs cells slots hH hL hrun => ?_)
      obtain ⟨c17, hrun⟩ := gd_some hrun
      refine V_castX (pc := 156) (ci := 5) C hH rfl (by decide) q1946 dX4_propose_156 c17 ?_
      refine lv_iconst (v := (0 : Int32)) (pc := 159) hx hb dX4_propose_159 (by decide) ?_
      obtain ⟨c18, hrun⟩ := gd_some hrun
      refine V_putI (pc := 160) C hH hL fl_X4_344 dX4_propose_160 c18 (fok_z (Or.inl rfl)) rfl (fun q => Bool.noConfusion q) hrun (fun h19 H locs hH hL hrun => ?_)
      obtain ⟨v20, ev20⟩ : ∃ y : Int32, y = x5 + (1 : Int32) := ⟨_, rfl⟩
      have hrun := vl_at hrun v20 ev20
      refine lv_iinc (v := v20) (lv' := [(5, .int v20), (0, rv x0)]) (pc := 163) hx hb dX4_propose_163 hl (k := 1) rfl (by rw [ev20]; rfl) (by decide) (by first | rfl | simp [rv_cat, cat_i, cat_l, cat_f, cat_d]) (fun ls hl => ?_)
      refine lv_goto (tgt := 119) (pc := 166) hx hb dX4_propose_166 (by decide) ?_
      exact ih x0 v20 h19 H locs cells slots ls hH hL (lv_sub hl [1, 0] rfl) hrun

theorem b_X4_propose_81 {rr : (Int32 ⊕ Ex) × Hp}  (C : CX p l R s m args meth c D Hs cX4_propose "MassclaimModel" 6 (some .int) [] 4 64)  : ∀ (x0 : Nat) (x1 : Int32) (x2 : Int32) (x3 : Int32) (y0 : Nat) (y1 : Int32) (h : Hp) (H : Heap) (locs : List Loc) (cells slots : Nat) (ls : Array Slot), HP D Hs h H → LO Hs locs → lv_has ls 6 [(0, rv x0), (1, .int x1), (2, .int x2), (3, .int x3)] → f_X4_propose_81 x0 x1 x2 x3 y0 y1 h = some rr → W p l e R s m args below meth c H locs cells slots (ZM D Hs iI rr below args s) (F0 m 81 ls [.int y1, rv y0]) := by
  obtain ⟨⟨hx, hb, hml, hown, hts⟩, -⟩ := id C
  have hl9 := C.2.1.2.2.1
  intro x0 x1 x2 x3 y0 y1 h H locs cells slots ls hH hL hl hrun
  unfold f_X4_propose_81 at hrun
  refine lv_iconst (v := (2 : Int32)) (pc := 81) hx hb dX4_propose_81 (by decide) ?_
  obtain ⟨c23, hrun⟩ := gd_some hrun
  refine V_bd (pc := 82) C hL rfl hrun (fun rr1 e1 => Z_runV (rest := []) C hH (m_X4_isGood hl9 e1) wV_X4_104 c23 rfl (by decide) rfl rfl ⟨by decide, by decide⟩ rfl (Nat.le_of_ble_eq_true rfl) hl.1 dX4_propose_82) (fun v21 h22 H locs cells slots hH hL hrun => ?_)
  refine lv_if_ne (tgt := 90) (pc := 85) hx hb dX4_propose_85 (by decide) (fun c_ => ?_) (fun c_ => ?_)
  · have hrun := ite_f hrun c_
    refine V_aload_n (pc := 90) hx hb dX4_propose_90 rfl (lv_at hl 0 rfl) ?_
    refine lv_iconst (v := (1 : Int32)) (pc := 91) hx hb dX4_propose_91 (by decide) ?_
    obtain ⟨c24, hrun⟩ := gd_some hrun
    refine V_putI (pc := 92) C hH hL fl_X4_53 dX4_propose_92 c24 (fok_i _) rfl (fun q => Bool.noConfusion q) hrun (fun h25 H locs hH hL hrun => ?_)
    refine V_aload_n (pc := 95) hx hb dX4_propose_95 rfl (lv_at hl 0 rfl) ?_
    refine lv_iload_n (pc := 96) hx hb dX4_propose_96 rfl (lv_at hl 1 rfl) ?_
    refine lv_i2l (pc := 97) hx hb dX4_propose_97 rfl ?_
    obtain ⟨c26, hrun⟩ := gd_some hrun
    refine V_putL (pc := 98) C hH hL fl_X4_56 dX4_propose_98 c26 (fok_l _) rfl (fun q => Bool.noConfusion q) hrun (fun h27 H locs hH hL hrun => ?_)
    refine V_aload_n (pc := 101) hx hb dX4_propose_101 rfl (lv_at hl 0 rfl) ?_
    refine lv_iload_n (pc := 102) hx hb dX4_propose_102 rfl (lv_at hl 2 rfl) ?_
    obtain ⟨c28, hrun⟩ := gd_some hrun
    refine V_putI (pc := 103) C hH hL fl_X4_335 dX4_propose_103 c28 (fok_i _) rfl (fun q => Bool.noConfusion q) hrun (fun h29 H locs hH hL hrun => ?_)
    refine V_aload_n (pc := 106) hx hb dX4_propose_106 rfl (lv_at hl 0 rfl) ?_
    refine lv_iload_n (pc := 107) hx hb dX4_propose_107 rfl (lv_at hl 3 rfl) ?_
    obtain ⟨c30, hrun⟩ := gd_some hrun
    refine V_putI (pc := 108) C hH hL fl_X4_338 dX4_propose_108 c30 (fok_i _) rfl (fun q => Bool.noConfusion q) hrun (fun h31 H locs hH hL hrun => ?_)
    refine V_aload_n (pc := 111) hx hb dX4_propose_111 rfl (lv_at hl 0 rfl) ?_
    refine lv_iconst (v := (0 : Int32)) (pc := 112) hx hb dX4_propose_112 (by decide) ?_
    obtain ⟨c32, hrun⟩ := gd_some hrun
    refine V_putI (pc := 113) C hH hL fl_X4_60 dX4_propose_113 c32 (fok_z (Or.inl rfl)) rfl (fun q => Bool.noConfusion q) hrun (fun h33 H locs hH hL hrun => ?_)
    refine lv_iconst (v := (0 : Int32)) (pc := 116) hx hb dX4_propose_116 (by decide) ?_
    refine lv_istore (i := 5) (lv' := [(5, .int (0 : Int32)), (0, rv x0), (1, .int x1), (2, .int x2), (3, .int x3)]) (pc := 117) hx hb dX4_propose_117 hl (by decide) rfl (fun ls hl => ?_)
    exact b_X4_propose_119 C FU x0 (0 : Int32) h33 H locs cells slots ls hH hL (lv_sub hl [1, 0] rfl) hrun
  · have hrun := ite_t hrun c_
    exact b_X4_propose_88 C h22 H locs cells slots ls hH hL (lv_sub hl [] rfl) hrun

theorem b_X4_propose_80 {rr : (Int32 ⊕ Ex) × Hp}  (C : CX p l R s m args meth c D Hs cX4_propose "MassclaimModel" 6 (some .int) [] 4 64)  : ∀ (x0 : Nat) (x1 : Int32) (x2 : Int32) (x3 : Int32) (y0 : Nat) (h : Hp) (H : Heap) (locs : List Loc) (cells slots : Nat) (ls : Array Slot), HP D Hs h H → LO Hs locs → lv_has ls 6 [(0, rv x0), (1, .int x1), (2, .int x2), (3, .int x3)] → f_X4_propose_80 x0 x1 x2 x3 y0 h = some rr → W p l e R s m args below meth c H locs cells slots (ZM D Hs iI rr below args s) (F0 m 80 ls [rv y0]) := by
  obtain ⟨⟨hx, hb, hml, hown, hts⟩, -⟩ := id C
  have hl9 := C.2.1.2.2.1
  intro x0 x1 x2 x3 y0 h H locs cells slots ls hH hL hl hrun
  unfold f_X4_propose_80 at hrun
  refine lv_iconst (v := (0 : Int32)) (pc := 80) hx hb dX4_propose_80 (by decide) ?_
  exact b_X4_propose_81 C x0 x1 x2 x3 y0 (0 : Int32) h H locs cells slots ls hH hL (lv_sub hl [0, 1, 2, 3] rfl) hrun

theorem b_X4_propose_69 {rr : (Int32 ⊕ Ex) × Hp}  (C : CX p l R s m args meth c D Hs cX4_propose "MassclaimModel" 6 (some .int) [] 4 64)  : ∀ (x0 : Nat) (x1 : Int32) (x2 : Int32) (x3 : Int32) (y0 : Nat) (h : Hp) (H : Heap) (locs : List Loc) (cells slots : Nat) (ls : Array Slot), HP D Hs h H → LO Hs locs → lv_has ls 6 [(0, rv x0), (1, .int x1), (2, .int x2), (3, .int x3)] → f_X4_propose_69 x0 x1 x2 x3 y0 h = some rr → W p l e R s m args below meth c H locs cells slots (ZM D Hs iI rr below args s) (F0 m 69 ls [rv y0]) := by
  obtain ⟨⟨hx, hb, hml, hown, hts⟩, -⟩ := id C
  have hl9 := C.2.1.2.2.1
  intro x0 x1 x2 x3 y0 h H locs cells slots ls hH hL hl hrun
  unfold f_X4_propose_69 at hrun
  refine V_aload_n (pc := 69) hx hb dX4_propose_69 rfl (lv_at hl 0 rfl) ?_
  obtain ⟨c34, hrun⟩ := gd_some hrun
  refine V_getI (pc := 70) C hH fr_X4_49 dX4_propose_70 c34 rfl ?_
  refine lv_if_eq (tgt := 80) (pc := 73) hx hb dX4_propose_73 (by decide) (fun c_ => ?_) (fun c_ => ?_)
  · have hrun := ite_t hrun c_
    exact b_X4_propose_80 C x0 x1 x2 x3 y0 h H locs cells slots ls hH hL (lv_sub hl [0, 1, 2, 3] rfl) hrun
  · have hrun := ite_f hrun c_
    refine lv_iconst (v := (1 : Int32)) (pc := 76) hx hb dX4_propose_76 (by decide) ?_
    refine lv_goto (tgt := 81) (pc := 77) hx hb dX4_propose_77 (by decide) ?_
    exact b_X4_propose_81 C x0 x1 x2 x3 y0 (1 : Int32) h H locs cells slots ls hH hL (lv_sub hl [0, 1, 2, 3] rfl) hrun

theorem b_X4_propose_41 {rr : (Int32 ⊕ Ex) × Hp}  (C : CX p l R s m args meth c D Hs cX4_propose "MassclaimModel" 6 (some .int) [] 4 64)  : ∀ (x0 : Nat) (x1 : Int32) (x2 : Int32) (x3 : Int32) (y0 : Int32) (h : Hp) (H : Heap) (locs : List Loc) (cells slots : Nat) (ls : Array Slot), HP D Hs h H → LO Hs locs → lv_has ls 6 [(0, rv x0), (1, .int x1), (2, .int x2), (3, .int x3)] → f_X4_propose_41 x0 x1 x2 x3 y0 h = some rr → W p l e R s m args below meth c H locs cells slots (ZM D Hs iI rr below args s) (F0 m 41 ls [.int y0]) := by
  obtain ⟨⟨hx, hb, hml, hown, hts⟩, -⟩ := id C
  have hl9 := C.2.1.2.2.1
  intro x0 x1 x2 x3 y0 h H locs cells slots ls hH hL hl hrun
  unfold f_X4_propose_41 at hrun
  refine lv_istore (i := 4) (lv' := [(4, .int y0), (0, rv x0), (1, .int x1), (2, .int x2), (3, .int x3)]) (pc := 41) hx hb dX4_propose_41 hl (by decide) rfl (fun ls hl => ?_)
  refine V_aload_n (pc := 43) hx hb dX4_propose_43 rfl (lv_at hl 1 rfl) ?_
  refine lv_iload (pc := 44) hx hb dX4_propose_44 (lv_at hl 0 rfl) ?_
  refine lv_iconst (v := (1 : Int32)) (pc := 46) hx hb dX4_propose_46 (by decide) ?_
  obtain ⟨c37, hrun⟩ := gd_some hrun
  refine V_bd (pc := 47) C hL rfl hrun (fun rr1 e1 => Z_runV (rest := []) C hH (m_X4_isGood hl9 e1) wV_X4_104 c37 rfl (by decide) rfl rfl ⟨by decide, by decide⟩ rfl (Nat.le_of_ble_eq_true rfl) hl.1 dX4_propose_47) (fun v35 h36 H locs cells slots hH hL hrun => ?_)
  refine lv_if_eq (tgt := 88) (pc := 50) hx hb dX4_propose_50 (by decide) (fun c_ => ?_) (fun c_ => ?_)
  · have hrun := ite_t hrun c_
    exact b_X4_propose_88 C h36 H locs cells slots ls hH hL (lv_sub hl [] rfl) hrun
  · have hrun := ite_f hrun c_
    refine V_aload_n (pc := 53) hx hb dX4_propose_53 rfl (lv_at hl 1 rfl) ?_
    refine V_aload_n (pc := 54) hx hb dX4_propose_54 rfl (lv_at hl 1 rfl) ?_
    obtain ⟨c38, hrun⟩ := gd_some hrun
    refine V_getI (pc := 55) C hH fr_X4_53 dX4_propose_55 c38 rfl ?_
    refine lv_if_eq (tgt := 69) (pc := 58) hx hb dX4_propose_58 (by decide) (fun c_ => ?_) (fun c_ => ?_)
    · have hrun := ite_t hrun c_
      exact b_X4_propose_69 C x0 x1 x2 x3 x0 h36 H locs cells slots ls hH hL (lv_sub hl [1, 2, 3, 4] rfl) hrun
    · have hrun := ite_f hrun c_
      refine V_aload_n (pc := 61) hx hb dX4_propose_61 rfl (lv_at hl 1 rfl) ?_
      refine V_getI (pc := 62) C hH fr_X4_53 dX4_propose_62 c38 rfl ?_
      refine lv_iconst (v := (4 : Int32)) (pc := 65) hx hb dX4_propose_65 (by decide) ?_
      refine lv_icmp_ne (tgt := 80) (pc := 66) hx hb dX4_propose_66 (by decide) (fun c_ => ?_) (fun c_ => ?_)
      · have hrun := ite_f hrun c_
        exact b_X4_propose_80 C x0 x1 x2 x3 x0 h36 H locs cells slots ls hH hL (lv_sub hl [1, 2, 3, 4] rfl) hrun
      · have hrun := ite_t hrun c_
        exact b_X4_propose_69 C x0 x1 x2 x3 x0 h36 H locs cells slots ls hH hL (lv_sub hl [1, 2, 3, 4] rfl) hrun

theorem b_X4_propose_40 {rr : (Int32 ⊕ Ex) × Hp}  (C : CX p l R s m args meth c D Hs cX4_propose "MassclaimModel" 6 (some .int) [] 4 64)  : ∀ (x0 : Nat) (x1 : Int32) (x2 : Int32) (x3 : Int32) (h : Hp) (H : Heap) (locs : List Loc) (cells slots : Nat) (ls : Array Slot), HP D Hs h H → LO Hs locs → lv_has ls 6 [(0, rv x0), (1, .int x1), (2, .int x2), (3, .int x3)] → f_X4_propose_40 x0 x1 x2 x3 h = some rr → W p l e R s m args below meth c H locs cells slots (ZM D Hs iI rr below args s) (F0 m 40 ls []) := by
  obtain ⟨⟨hx, hb, hml, hown, hts⟩, -⟩ := id C
  have hl9 := C.2.1.2.2.1
  intro x0 x1 x2 x3 h H locs cells slots ls hH hL hl hrun
  unfold f_X4_propose_40 at hrun
  refine lv_iconst (v := (0 : Int32)) (pc := 40) hx hb dX4_propose_40 (by decide) ?_
  exact b_X4_propose_41 C x0 x1 x2 x3 (0 : Int32) h H locs cells slots ls hH hL (lv_sub hl [0, 1, 2, 3] rfl) hrun

theorem b_X4_propose {rr : (Int32 ⊕ Ex) × Hp}  (C : CX p l R s m args meth c D Hs cX4_propose "MassclaimModel" 6 (some .int) [] 4 64)  : ∀ (x0 : Nat) (x1 : Int32) (x2 : Int32) (x3 : Int32) (h : Hp) (H : Heap) (locs : List Loc) (cells slots : Nat) (ls : Array Slot), HP D Hs h H → LO Hs locs → lv_has ls 6 [(0, rv x0), (1, .int x1), (2, .int x2), (3, .int x3)] → f_X4_propose x0 x1 x2 x3 h = some rr → W p l e R s m args below meth c H locs cells slots (ZM D Hs iI rr below args s) (F0 m 0 ls []) := by
  obtain ⟨⟨hx, hb, hml, hown, hts⟩, -⟩ := id C
  have hl9 := C.2.1.2.2.1
  intro x0 x1 x2 x3 h H locs cells slots ls hH hL hl hrun
  unfold f_X4_propose at hrun
  refine lv_iload_n (pc := 0) hx hb dX4_propose_0 rfl (lv_at hl 1 rfl) ?_
  refine lv_i2l (pc := 1) hx hb dX4_propose_1 rfl ?_
  refine lv_lconst (v := (1 : Int64)) (pc := 2) hx hb dX4_propose_2 (by decide) ?_
  refine lv_ldc2 (pc := 3) hx hb hown (hts _ q2206) dX4_propose_3 ?_
  refine V_bd (pc := 6) C hL rfl hrun (fun rr1 e1 => Z_runS (rest := []) C hH (m_X4_isWithin hl9 e1) wS_X4_100 rfl ⟨by decide, by decide⟩ rfl (Nat.le_of_ble_eq_true rfl) hl.1 dX4_propose_6) (fun v39 h40 H locs cells slots hH hL hrun => ?_)
  refine lv_if_eq (tgt := 40) (pc := 9) hx hb dX4_propose_9 (by decide) (fun c_ => ?_) (fun c_ => ?_)
  · have hrun := ite_t hrun c_
    exact b_X4_propose_40 C x0 x1 x2 x3 h40 H locs cells slots ls hH hL (lv_sub hl [0, 1, 2, 3] rfl) hrun
  · have hrun := ite_f hrun c_
    refine lv_iload_n (pc := 12) hx hb dX4_propose_12 rfl (lv_at hl 2 rfl) ?_
    refine lv_i2l (pc := 13) hx hb dX4_propose_13 rfl ?_
    refine lv_lconst (v := (0 : Int64)) (pc := 14) hx hb dX4_propose_14 (by decide) ?_
    refine lv_ldc2 (pc := 15) hx hb hown (hts _ q2258) dX4_propose_15 ?_
    refine V_bd (pc := 18) C hL rfl hrun (fun rr1 e1 => Z_runS (rest := []) C hH (m_X4_isWithin hl9 e1) wS_X4_100 rfl ⟨by decide, by decide⟩ rfl (Nat.le_of_ble_eq_true rfl) hl.1 dX4_propose_18) (fun v41 h42 H locs cells slots hH hL hrun => ?_)
    refine lv_if_eq (tgt := 40) (pc := 21) hx hb dX4_propose_21 (by decide) (fun c_ => ?_) (fun c_ => ?_)
    · have hrun := ite_t hrun c_
      exact b_X4_propose_40 C x0 x1 x2 x3 h42 H locs cells slots ls hH hL (lv_sub hl [0, 1, 2, 3] rfl) hrun
    · have hrun := ite_f hrun c_
      refine lv_iload_n (pc := 24) hx hb dX4_propose_24 rfl (lv_at hl 3 rfl) ?_
      refine lv_i2l (pc := 25) hx hb dX4_propose_25 rfl ?_
      refine lv_lconst (v := (0 : Int64)) (pc := 26) hx hb dX4_propose_26 (by decide) ?_
      refine lv_ldc2 (pc := 27) hx hb hown (hts _ q2205) dX4_propose_27 ?_
      refine V_bd (pc := 30) C hL rfl hrun (fun rr1 e1 => Z_runS (rest := []) C hH (m_X4_isWithin hl9 e1) wS_X4_100 rfl ⟨by decide, by decide⟩ rfl (Nat.le_of_ble_eq_true rfl) hl.1 dX4_propose_30) (fun v43 h44 H locs cells slots hH hL hrun => ?_)
      refine lv_if_eq (tgt := 40) (pc := 33) hx hb dX4_propose_33 (by decide) (fun c_ => ?_) (fun c_ => ?_)
      · have hrun := ite_t hrun c_
        exact b_X4_propose_40 C x0 x1 x2 x3 h44 H locs cells slots ls hH hL (lv_sub hl [0, 1, 2, 3] rfl) hrun
      · have hrun := ite_f hrun c_
        refine lv_iconst (v := (1 : Int32)) (pc := 36) hx hb dX4_propose_36 (by decide) ?_
        refine lv_goto (tgt := 41) (pc := 37) hx hb dX4_propose_37 (by decide) ?_
        exact b_X4_propose_41 C x0 x1 x2 x3 (1 : Int32) h44 H locs cells slots ls hH hL (lv_sub hl [0, 1, 2, 3] rfl) hrun

theorem m_X4_propose {l : Launch} {D : va_G} {Hs : Heap} {h : Hp} {rr : (Int32 ⊕ Ex) × Hp} (hl9 : l.stackTraces = false) {x0 : Nat} {x1 : Int32} {x2 : Int32} {x3 : Int32} (hrun : f_X4_propose x0 x1 x2 x3 h = some rr) : CM l yX4_propose (ws_ yX4_propose cX4_propose 6 (some .int)) 4 64 iI [rv x0, .int x1, .int x2, .int x3] D Hs h rr := by
  refine CM.of (lv := [(0, rv x0), (1, .int x1), (2, .int x2), (3, .int x3)]) (plainFor_of_name (by decide)) hl9 (by simp [lv_args, rv_cat, cat_i, cat_l, cat_f, cat_d]) (by simp [lg_sl, rv_cat, cat_i, cat_l, cat_f, cat_d]) ?_
  intro p e R s m args below meth c H ls C hH hl hin
  exact b_X4_propose C x0 x1 x2 x3 _ H [] _ _ ls hH (fun _ q => nomatch q) (lv_sub hl [0, 1, 2, 3] rfl) hrun

/-! Massclaim.reach()I -/
def f_X1_reach_72  (y0 : Int32) (h : Hp) : Rt Int32 :=
  some (.inl y0, h)
def f_X1_reach_50 (k10 : Nat → Int32 → Nat → Hp → Rt Int32) (x0 : Nat) (x2 : Nat) (y0 : Int32) (y1 : Int32) (h : Hp) : Rt Int32 :=
  vl (y0 + y1) fun v1 => k10 x0 v1 x2 h
def f_X1_reach_49 (k10 : Nat → Int32 → Nat → Hp → Rt Int32) (x0 : Nat) (x2 : Nat) (y0 : Int32) (h : Hp) : Rt Int32 :=
  f_X1_reach_50 k10 x0 x2 y0 (0 : Int32) h
def f_X1_reach_10  : Nat → Nat → Int32 → Nat → Hp → Rt Int32
  | 0, _, _, _, _ => none
  | n + 1, x0, x1, x2, h => gd (kC h x2 = 19) <| bd (f_J16_hasNext x2 h) fun v2 h3 => if v2 = 0 then
  (if x1 = 0 then
  (f_X1_reach_72 (0 : Int32) h3)
  else
  (gd (kC h3 x0 = 1) <| bd (f_X1_members x0 h3) fun v5 h6 => gd (¬ v5 = 0) <| f_X1_reach_72 (((100 : Int32) * x1) / v5) h6))
  else
  (gd (kC h3 x2 = 19) <| bd (f_J16_next x2 h3) fun v9 h10 => gd (v9 = 0 ∨ kC h10 v9 = 5) <| gd (kC h10 v9 = 5) <| bd (f_X5_isMember v9 h10) fun v13 h14 => if v13 = 0 then
  (f_X1_reach_49 (f_X1_reach_10 n) x0 x2 x1 h14)
  else
  (gd (kC h14 v9 = 5) <| if (kI h14 410 v9) = (-1 : Int32) then
  (f_X1_reach_49 (f_X1_reach_10 n) x0 x2 x1 h14)
  else
  (f_X1_reach_50 (f_X1_reach_10 n) x0 x2 x1 (1 : Int32) h14)))
def f_X1_reach  (x0 : Nat) (h : Hp) : Rt Int32 :=
  gd (kC h x0 = 1) <| gd (kC h (kR h 0 x0) = 2) <| bd (f_X2_iterator (kR h 0 x0) h) fun v18 h19 => f_X1_reach_10 FU x0 (0 : Int32) v18 h19
theorem b_X1_reach_72 {rr : (Int32 ⊕ Ex) × Hp}  (C : CX p l R s m args meth c D Hs cX1_reach "Massclaim" 4 (some .int) [] 5 104)  : ∀ (y0 : Int32) (h : Hp) (H : Heap) (locs : List Loc) (cells slots : Nat) (ls : Array Slot), HP D Hs h H → LO Hs locs → lv_has ls 4 [] → f_X1_reach_72 y0 h = some rr → W p l e R s m args below meth c H locs cells slots (ZM D Hs iI rr below args s) (F0 m 72 ls [.int y0]) := by
  obtain ⟨⟨hx, hb, hml, hown, hts⟩, -⟩ := id C
  have hl9 := C.2.1.2.2.1
  intro y0 h H locs cells slots ls hH hL hl hrun
  unfold f_X1_reach_72 at hrun
  exact V_iret (pc := 72) C hH hL hrun dX1_reach_72

theorem b_X1_reach_50 {rr : (Int32 ⊕ Ex) × Hp} {k10 : Nat → Int32 → Nat → Hp → Rt Int32} (C : CX p l R s m args meth c D Hs cX1_reach "Massclaim" 4 (some .int) [] 5 104) (K10 : ∀ (x0 : Nat) (x1 : Int32) (x2 : Nat) (h : Hp) (H : Heap) (locs : List Loc) (cells slots : Nat) (ls : Array Slot), HP D Hs h H → LO Hs locs → lv_has ls 4 [(0, rv x0), (1, .int x1), (2, rv x2)] → k10 x0 x1 x2 h = some rr → W p l e R s m args below meth c H locs cells slots (ZM D Hs iI rr below args s) (F0 m 10 ls [])) : ∀ (x0 : Nat) (x2 : Nat) (y0 : Int32) (y1 : Int32) (h : Hp) (H : Heap) (locs : List Loc) (cells slots : Nat) (ls : Array Slot), HP D Hs h H → LO Hs locs → lv_has ls 4 [(0, rv x0), (2, rv x2)] → f_X1_reach_50 k10 x0 x2 y0 y1 h = some rr → W p l e R s m args below meth c H locs cells slots (ZM D Hs iI rr below args s) (F0 m 50 ls [.int y1, .int y0]) := by
  obtain ⟨⟨hx, hb, hml, hown, hts⟩, -⟩ := id C
  have hl9 := C.2.1.2.2.1
  intro x0 x2 y0 y1 h H locs cells slots ls hH hL hl hrun
  unfold f_X1_reach_50 at hrun
  refine lv_iadd (pc := 50) hx hb dX1_reach_50 ?_
  refine lv_topi (fun v1 ev1 => ?_)
  have hrun := vl_at hrun v1 ev1
  refine lv_istore_n (i := 1) (lv' := [(1, .int v1), (0, rv x0), (2, rv x2)]) (pc := 51) hx hb dX1_reach_51 rfl hl (by decide) (by simp [rv_cat, cat_i, cat_l, cat_f, cat_d]) (fun ls hl => ?_)
  refine lv_goto (tgt := 10) (pc := 52) hx hb dX1_reach_52 (by decide) ?_
  exact K10 x0 v1 x2 h H locs cells slots ls hH hL (lv_sub hl [1, 0, 2] rfl) hrun

theorem b_X1_reach_49 {rr : (Int32 ⊕ Ex) × Hp} {k10 : Nat → Int32 → Nat → Hp → Rt Int32} (C : CX p l R s m args meth c D Hs cX1_reach "Massclaim" 4 (some .int) [] 5 104) (K10 : ∀ (x0 : Nat) (x1 : Int32) (x2 : Nat) (h : Hp) (H : Heap) (locs : List Loc) (cells slots : Nat) (ls : Array Slot), HP D Hs h H → LO Hs locs → lv_has ls 4 [(0, rv x0), (1, .int x1), (2, rv x2)] → k10 x0 x1 x2 h = some rr → W p l e R s m args below meth c H locs cells slots (ZM D Hs iI rr below args s) (F0 m 10 ls [])) : ∀ (x0 : Nat) (x2 : Nat) (y0 : Int32) (h : Hp) (H : Heap) (locs : List Loc) (cells slots : Nat) (ls : Array Slot), HP D Hs h H → LO Hs locs → lv_has ls 4 [(0, rv x0), (2, rv x2)] → f_X1_reach_49 k10 x0 x2 y0 h = some rr → W p l e R s m args below meth c H locs cells slots (ZM D Hs iI rr below args s) (F0 m 49 ls [.int y0]) := by
  obtain ⟨⟨hx, hb, hml, hown, hts⟩, -⟩ := id C
  have hl9 := C.2.1.2.2.1
  intro x0 x2 y0 h H locs cells slots ls hH hL hl hrun
  unfold f_X1_reach_49 at hrun
  refine lv_iconst (v := (0 : Int32)) (pc := 49) hx hb dX1_reach_49 (by decide) ?_
  exact b_X1_reach_50 C K10 x0 x2 y0 (0 : Int32) h H locs cells slots ls hH hL (lv_sub hl [0, 1] rfl) hrun

theorem b_X1_reach_10 {rr : (Int32 ⊕ Ex) × Hp}  (C : CX p l R s m args meth c D Hs cX1_reach "Massclaim" 4 (some .int) [] 5 104)  : ∀ (n : Nat) (x0 : Nat) (x1 : Int32) (x2 : Nat) (h : Hp) (H : Heap) (locs : List Loc) (cells slots : Nat) (ls : Array Slot), HP D Hs h H → LO Hs locs → lv_has ls 4 [(0, rv x0), (1, .int x1), (2, rv x2)] → f_X1_reach_10 n x0 x1 x2 h = some rr → W p l e R s m args below meth c H locs cells slots (ZM D Hs iI rr below args s) (F0 m 10 ls []) := by
  obtain ⟨⟨hx, hb, hml, hown, hts⟩, -⟩ := id C
  have hl9 := C.2.1.2.2.1
  intro n
  induction n with
  | zero =>
    intro x0 x1 x2 h H locs cells slots ls hH hL hl hrun
    cases (show (none : Option _) = some rr from hrun)
  | succ n ih =>
    intro x0 x1 x2 h H locs cells slots ls hH hL hl hrun
    rw [f_X1_reach_10] at hrun
    refine V_aload_n (pc := 10) hx hb dX1_reach_10 rfl (lv_at hl 2 rfl) ?_
    obtain ⟨c4, hrun⟩ := gd_some hrun
    refine V_bd5 (pc := 11) C hL rfl hrun (fun rr1 e1 => Z_runF (rest := []) C hH (m_J16_hasNext hl9 e1) rfl wF_X1_212_J16 c4 (by decide) rfl ⟨by decide, by decide⟩ rfl (Nat.le_of_ble_eq_true rfl) hl.1 dX1_reach_11) (fun v2 h3 H locs cells slots hH hL hrun => ?_)
    refine lv_if_eq (tgt := 55) (pc := 16) hx hb dX1_reach_16 (by decide) (fun c_ => ?_) (fun c_ => ?_)
    · have hrun := ite_t hrun c_
      refine lv_iload_n (pc := 55) hx hb dX1_reach_55 rfl (lv_at hl 1 rfl) ?_
      refine lv_if_ne (tgt := 63) (pc := 56) hx hb dX1_reach_56 (by decide) (fun c_ => ?_) (fun c_ => ?_)
      · have hrun := ite_f hrun c_
        refine lv_bipush (v := (100 : Int32)) (pc := 63) hx hb dX1_reach_63 (by decide) ?_
        refine lv_iload_n (pc := 65) hx hb dX1_reach_65 rfl (lv_at hl 1 rfl) ?_
        refine lv_imul (pc := 66) hx hb dX1_reach_66 ?_
        refine V_aload_n (pc := 67) hx hb dX1_reach_67 rfl (lv_at hl 0 rfl) ?_
        obtain ⟨c7, hrun⟩ := gd_some hrun
        refine V_bd (pc := 68) C hL rfl hrun (fun rr1 e1 => Z_runV (rest := [.int ((100 : Int32) * x1)]) C hH (m_X1_members hl9 e1) wV_X1_228 c7 rfl (by decide) rfl rfl ⟨by decide, by decide⟩ rfl (Nat.le_of_ble_eq_true rfl) hl.1 dX1_reach_68) (fun v5 h6 H locs cells slots hH hL hrun => ?_)
        obtain ⟨c8, hrun⟩ := gd_some hrun
        refine lv_idiv (pc := 71) hx hb dX1_reach_71 c8 ?_
        exact b_X1_reach_72 C (((100 : Int32) * x1) / v5) h6 H locs cells slots ls hH hL (lv_sub hl [] rfl) hrun
      · have hrun := ite_t hrun c_
        refine lv_iconst (v := (0 : Int32)) (pc := 59) hx hb dX1_reach_59 (by decide) ?_
        refine lv_goto (tgt := 72) (pc := 60) hx hb dX1_reach_60 (by decide) ?_
        exact b_X1_reach_72 C (0 : Int32) h3 H locs cells slots ls hH hL (lv_sub hl [] rfl) hrun
    · have hrun := ite_f hrun c_
      refine V_aload_n (pc := 19) hx hb dX1_reach_19 rfl (lv_at hl 2 rfl) ?_
      obtain ⟨c11, hrun⟩ := gd_some hrun
      refine V_bd5 (pc := 20) C hL rfl hrun (fun rr1 e1 => Z_runF (rest := []) C hH (m_J16_next hl9 e1) rfl wF_X1_217_J16 c11 (by decide) rfl ⟨by decide, by decide⟩ rfl (Nat.le_of_ble_eq_true rfl) hl.1 dX1_reach_20) (fun v9 h10 H locs cells slots hH hL hrun => ?_)
      obtain ⟨c12, hrun⟩ := gd_some hrun
      refine V_castX (pc := 25) (ci := 4) C hH rfl (by decide) q376 dX1_reach_25 c12 ?_
      refine V_astore_n (i := 3) (lv' := [(3, rv v9), (0, rv x0), (1, .int x1), (2, rv x2)]) (pc := 28) hx hb dX1_reach_28 rfl hl (by decide) (by simp [rv_cat, cat_i, cat_l, cat_f, cat_d]) (fun ls hl => ?_)
      refine lv_iload_n (pc := 29) hx hb dX1_reach_29 rfl (lv_at hl 2 rfl) ?_
      refine V_aload_n (pc := 30) hx hb dX1_reach_30 rfl (lv_at hl 0 rfl) ?_
      obtain ⟨c15, hrun⟩ := gd_some hrun
      refine V_bd (pc := 31) C hL rfl hrun (fun rr1 e1 => Z_runV (rest := [.int x1]) C hH (m_X5_isMember hl9 e1) wV_X1_148 c15 rfl (by decide) rfl rfl ⟨by decide, by decide⟩ rfl (Nat.le_of_ble_eq_true rfl) hl.1 dX1_reach_31) (fun v13 h14 H locs cells slots hH hL hrun => ?_)
      refine lv_if_eq (tgt := 49) (pc := 34) hx hb dX1_reach_34 (by decide) (fun c_ => ?_) (fun c_ => ?_)
      · have hrun := ite_t hrun c_
        exact b_X1_reach_49 C ih x0 x2 x1 h14 H locs cells slots ls hH hL (lv_sub hl [1, 3] rfl) hrun
      · have hrun := ite_f hrun c_
        refine V_aload_n (pc := 37) hx hb dX1_reach_37 rfl (lv_at hl 0 rfl) ?_
        obtain ⟨c16, hrun⟩ := gd_some hrun
        refine V_getNI (pc := 38) C hH fn_X1_248 dX1_reach_38 c16 rfl ?_
        refine lv_iconst (v := (-1 : Int32)) (pc := 41) hx hb dX1_reach_41 (by decide) ?_
        refine lv_icmp_eq (tgt := 49) (pc := 42) hx hb dX1_reach_42 (by decide) (fun c_ => ?_) (fun c_ => ?_)
        · have hrun := ite_t hrun c_
          exact b_X1_reach_49 C ih x0 x2 x1 h14 H locs cells slots ls hH hL (lv_sub hl [1, 3] rfl) hrun
        · have hrun := ite_f hrun c_
          refine lv_iconst (v := (1 : Int32)) (pc := 45) hx hb dX1_reach_45 (by decide) ?_
          refine lv_goto (tgt := 50) (pc := 46) hx hb dX1_reach_46 (by decide) ?_
          exact b_X1_reach_50 C ih x0 x2 x1 (1 : Int32) h14 H locs cells slots ls hH hL (lv_sub hl [1, 3] rfl) hrun

theorem b_X1_reach {rr : (Int32 ⊕ Ex) × Hp}  (C : CX p l R s m args meth c D Hs cX1_reach "Massclaim" 4 (some .int) [] 5 104)  : ∀ (x0 : Nat) (h : Hp) (H : Heap) (locs : List Loc) (cells slots : Nat) (ls : Array Slot), HP D Hs h H → LO Hs locs → lv_has ls 4 [(0, rv x0)] → f_X1_reach x0 h = some rr → W p l e R s m args below meth c H locs cells slots (ZM D Hs iI rr below args s) (F0 m 0 ls []) := by
  obtain ⟨⟨hx, hb, hml, hown, hts⟩, -⟩ := id C
  have hl9 := C.2.1.2.2.1
  intro x0 h H locs cells slots ls hH hL hl hrun
  unfold f_X1_reach at hrun
  refine lv_iconst (v := (0 : Int32)) (pc := 0) hx hb dX1_reach_0 (by decide) ?_
  refine lv_istore_n (i := 1) (lv' := [(1, .int (0 : Int32)), (0, rv x0)]) (pc := 1) hx hb dX1_reach_1 rfl hl (by decide) (by simp [rv_cat, cat_i, cat_l, cat_f, cat_d]) (fun ls hl => ?_)
  refine V_aload_n (pc := 2) hx hb dX1_reach_2 rfl (lv_at hl 1 rfl) ?_
  obtain ⟨c17, hrun⟩ := gd_some hrun
  refine V_getR (pc := 3) C hH fr_X1_42 dX1_reach_3 c17 rfl ?_
  obtain ⟨c20, hrun⟩ := gd_some hrun
  refine V_bd (pc := 6) C hL rfl hrun (fun rr1 e1 => Z_runV (rest := []) C hH (m_X2_iterator hl9 e1) wV_X1_208 c20 rfl (by decide) rfl rfl ⟨by decide, by decide⟩ rfl (Nat.le_of_ble_eq_true rfl) hl.1 dX1_reach_6) (fun v18 h19 H locs cells slots hH hL hrun => ?_)
  refine V_astore_n (i := 2) (lv' := [(2, rv v18), (1, .int (0 : Int32)), (0, rv x0)]) (pc := 9) hx hb dX1_reach_9 rfl hl (by decide) rfl (fun ls hl => ?_)
  exact b_X1_reach_10 C FU x0 (0 : Int32) v18 h19 H locs cells slots ls hH hL (lv_sub hl [2, 1, 0] rfl) hrun

theorem m_X1_reach {l : Launch} {D : va_G} {Hs : Heap} {h : Hp} {rr : (Int32 ⊕ Ex) × Hp} (hl9 : l.stackTraces = false) {x0 : Nat} (hrun : f_X1_reach x0 h = some rr) : CM l yX1_reach (ws_ yX1_reach cX1_reach 4 (some .int)) 5 104 iI [rv x0] D Hs h rr := by
  refine CM.of (lv := [(0, rv x0)]) (plainFor_of_name (by decide)) hl9 (by simp [lv_args, rv_cat, cat_i, cat_l, cat_f, cat_d]) (by simp [lg_sl, rv_cat, cat_i, cat_l, cat_f, cat_d]) ?_
  intro p e R s m args below meth c H ls C hH hl hin
  exact b_X1_reach C x0 _ H [] _ _ ls hH (fun _ q => nomatch q) (lv_sub hl [0] rfl) hrun

/-! Massclaim$Obstacle.<init>(I)V: TO BE PROVED -/
def f_X11_init (x0 : Nat) (x1 : Int32) (h : Hp) : Rt Unit :=
  gd (kC h x0 = 11) <| vl (sI h 1000 x0 x1) fun h1 => some (.inl (), h1)
theorem m_X11_init {l : Launch} {D : va_G} {Hs : Heap} {h : Hp} {rr : (Unit ⊕ Ex) × Hp} (hl9 : l.stackTraces = false) {x0 : Nat} {x1 : Int32} (hrun : f_X11_init x0 x1 h = some rr) : CM l yX11_init (ws_ yX11_init cX11_init 2 none) 20 500 iV [rv x0, .int x1] D Hs h rr := by
  sorry
/-! Massclaim.look(ZI)V -/
def f_X1_look  (x0 : Int32) (x1 : Int32) (h : Hp) : Rt Unit :=
  if x0 = 0 then
  (nw h 11 7 fun q1 h2 => gd (kC h2 q1 = 11) <| bd (f_X11_init q1 x1 h2) fun _ h4 => gd (kC h4 q1 = 11) <| some (.inr (11, q1), h4))
  else
  (some (.inl (), h))
theorem b_X1_look {rr : (Unit ⊕ Ex) × Hp}  (C : CX p l R s m args meth c D Hs cX1_look "Massclaim" 2 none [] 21 521)  : ∀ (x0 : Int32) (x1 : Int32) (h : Hp) (H : Heap) (locs : List Loc) (cells slots : Nat) (ls : Array Slot), HP D Hs h H → LO Hs locs → lv_has ls 2 [(0, .int x0), (1, .int x1)] → f_X1_look x0 x1 h = some rr → W p l e R s m args below meth c H locs cells slots (ZM D Hs iV rr below args s) (F0 m 0 ls []) := by
  obtain ⟨⟨hx, hb, hml, hown, hts⟩, -⟩ := id C
  have hl9 := C.2.1.2.2.1
  intro x0 x1 h H locs cells slots ls hH hL hl hrun
  unfold f_X1_look at hrun
  refine lv_iload_n (pc := 0) hx hb dX1_look_0 rfl (lv_at hl 0 rfl) ?_
  refine lv_if_ne (tgt := 13) (pc := 1) hx hb dX1_look_1 (by decide) (fun c_ => ?_) (fun c_ => ?_)
  · have hrun := ite_f hrun c_
    exact V_vret (pc := 13) C hH hL hrun dX1_look_13
  · have hrun := ite_t hrun c_
    refine V_new (pc := 4) C hH nl_X1_29 dX1_look_4 hrun (fun q1 h2 H cells slots hH hrun => ?_)
    refine lv_dup (pc := 7) hx hb dX1_look_7 (rv_cat _) ?_
    refine lv_iload_n (pc := 8) hx hb dX1_look_8 rfl (lv_at hl 1 rfl) ?_
    obtain ⟨c5, hrun⟩ := gd_some hrun
    refine V_bd (pc := 9) C hL rfl hrun (fun rr1 e1 => Z_runI (rest := [rv q1]) C hH (m_X11_init hl9 e1) wI_X1_31 (hH.pos c5) rfl ⟨by decide, by decide⟩ rfl (by simp [csum, rv_cat, cat_i, cat_l, cat_f, cat_d]) hl.1 dX1_look_9) (fun _ h4 H locs cells slots hH hL hrun => ?_)
    obtain ⟨c6, hrun⟩ := gd_some hrun
    exact V_athrow (pc := 12) C hH hL hrun c6 (by decide) rfl rfl rfl dX1_look_12

theorem m_X1_look {l : Launch} {D : va_G} {Hs : Heap} {h : Hp} {rr : (Unit ⊕ Ex) × Hp} (hl9 : l.stackTraces = false) {x0 : Int32} {x1 : Int32} (hrun : f_X1_look x0 x1 h = some rr) : CM l yX1_look (ws_ yX1_look cX1_look 2 none) 21 521 iV [.int x0, .int x1] D Hs h rr := by
  refine CM.of (lv := [(0, .int x0), (1, .int x1)]) (plainFor_of_name (by decide)) hl9 (by simp [lv_args, rv_cat, cat_i, cat_l, cat_f, cat_d]) (by simp [lg_sl, rv_cat, cat_i, cat_l, cat_f, cat_d]) ?_
  intro p e R s m args below meth c H ls C hH hl hin
  exact b_X1_look C x0 x1 _ H [] _ _ ls hH (fun _ q => nomatch q) (lv_sub hl [0, 1] rfl) hrun

/-! Massclaim.outs()I -/
def f_X1_outs_49 (k10 : Int32 → Nat → Hp → Rt Int32) (x2 : Nat) (y0 : Int32) (y1 : Int32) (h : Hp) : Rt Int32 :=
  vl (y0 + y1) fun v1 => k10 v1 x2 h
def f_X1_outs_48 (k10 : Int32 → Nat → Hp → Rt Int32) (x2 : Nat) (y0 : Int32) (h : Hp) : Rt Int32 :=
  f_X1_outs_49 k10 x2 y0 (0 : Int32) h
def f_X1_outs_10  : Nat → Int32 → Nat → Hp → Rt Int32
  | 0, _, _, _ => none
  | n + 1, x1, x2, h => gd (kC h x2 = 19) <| bd (f_J16_hasNext x2 h) fun v2 h3 => if v2 = 0 then
  (some (.inl x1, h3))
  else
  (gd (kC h3 x2 = 19) <| bd (f_J16_next x2 h3) fun v5 h6 => gd (v5 = 0 ∨ kC h6 v5 = 5) <| gd (kC h6 v5 = 5) <| if (kI h6 408 v5) = 0 then
  (f_X1_outs_48 (f_X1_outs_10 n) x2 x1 h6)
  else
  (bd (f_X5_fits v5 h6) fun v10 h11 => if v10 = 0 then
  (f_X1_outs_48 (f_X1_outs_10 n) x2 x1 h11)
  else
  (f_X1_outs_49 (f_X1_outs_10 n) x2 x1 (1 : Int32) h11)))
def f_X1_outs  (x0 : Nat) (h : Hp) : Rt Int32 :=
  gd (kC h x0 = 1) <| gd (kC h (kR h 0 x0) = 2) <| bd (f_X2_iterator (kR h 0 x0) h) fun v13 h14 => f_X1_outs_10 FU (0 : Int32) v13 h14
theorem b_X1_outs_49 {rr : (Int32 ⊕ Ex) × Hp} {k10 : Int32 → Nat → Hp → Rt Int32} (C : CX p l R s m args meth c D Hs cX1_outs "Massclaim" 4 (some .int) [] 4 81) (K10 : ∀ (x1 : Int32) (x2 : Nat) (h : Hp) (H : Heap) (locs : List Loc) (cells slots : Nat) (ls : Array Slot), HP D Hs h H → LO Hs locs → lv_has ls 4 [(1, .int x1), (2, rv x2)] → k10 x1 x2 h = some rr → W p l e R s m args below meth c H locs cells slots (ZM D Hs iI rr below args s) (F0 m 10 ls [])) : ∀ (x2 : Nat) (y0 : Int32) (y1 : Int32) (h : Hp) (H : Heap) (locs : List Loc) (cells slots : Nat) (ls : Array Slot), HP D Hs h H → LO Hs locs → lv_has ls 4 [(2, rv x2)] → f_X1_outs_49 k10 x2 y0 y1 h = some rr → W p l e R s m args below meth c H locs cells slots (ZM D Hs iI rr below args s) (F0 m 49 ls [.int y1, .int y0]) := by
  obtain ⟨⟨hx, hb, hml, hown, hts⟩, -⟩ := id C
  have hl9 := C.2.1.2.2.1
  intro x2 y0 y1 h H locs cells slots ls hH hL hl hrun
  unfold f_X1_outs_49 at hrun
  refine lv_iadd (pc := 49) hx hb dX1_outs_49 ?_
  refine lv_topi (fun v1 ev1 => ?_)
  have hrun := vl_at hrun v1 ev1
  refine lv_istore_n (i := 1) (lv' := [(1, .int v1), (2, rv x2)]) (pc := 50) hx hb dX1_outs_50 rfl hl (by decide) rfl (fun ls hl => ?_)
  refine lv_goto (tgt := 10) (pc := 51) hx hb dX1_outs_51 (by decide) ?_
  exact K10 v1 x2 h H locs cells slots ls hH hL (lv_sub hl [0, 1] rfl) hrun

theorem b_X1_outs_48 {rr : (Int32 ⊕ Ex) × Hp} {k10 : Int32 → Nat → Hp → Rt Int32} (C : CX p l R s m args meth c D Hs cX1_outs "Massclaim" 4 (some .int) [] 4 81) (K10 : ∀ (x1 : Int32) (x2 : Nat) (h : Hp) (H : Heap) (locs : List Loc) (cells slots : Nat) (ls : Array Slot), HP D Hs h H → LO Hs locs → lv_has ls 4 [(1, .int x1), (2, rv x2)] → k10 x1 x2 h = some rr → W p l e R s m args below meth c H locs cells slots (ZM D Hs iI rr below args s) (F0 m 10 ls [])) : ∀ (x2 : Nat) (y0 : Int32) (h : Hp) (H : Heap) (locs : List Loc) (cells slots : Nat) (ls : Array Slot), HP D Hs h H → LO Hs locs → lv_has ls 4 [(2, rv x2)] → f_X1_outs_48 k10 x2 y0 h = some rr → W p l e R s m args below meth c H locs cells slots (ZM D Hs iI rr below args s) (F0 m 48 ls [.int y0]) := by
  obtain ⟨⟨hx, hb, hml, hown, hts⟩, -⟩ := id C
  have hl9 := C.2.1.2.2.1
  intro x2 y0 h H locs cells slots ls hH hL hl hrun
  unfold f_X1_outs_48 at hrun
  refine lv_iconst (v := (0 : Int32)) (pc := 48) hx hb dX1_outs_48 (by decide) ?_
  exact b_X1_outs_49 C K10 x2 y0 (0 : Int32) h H locs cells slots ls hH hL (lv_sub hl [0] rfl) hrun

theorem b_X1_outs_10 {rr : (Int32 ⊕ Ex) × Hp}  (C : CX p l R s m args meth c D Hs cX1_outs "Massclaim" 4 (some .int) [] 4 81)  : ∀ (n : Nat) (x1 : Int32) (x2 : Nat) (h : Hp) (H : Heap) (locs : List Loc) (cells slots : Nat) (ls : Array Slot), HP D Hs h H → LO Hs locs → lv_has ls 4 [(1, .int x1), (2, rv x2)] → f_X1_outs_10 n x1 x2 h = some rr → W p l e R s m args below meth c H locs cells slots (ZM D Hs iI rr below args s) (F0 m 10 ls []) := by
  obtain ⟨⟨hx, hb, hml, hown, hts⟩, -⟩ := id C
  have hl9 := C.2.1.2.2.1
  intro n
  induction n with
  | zero =>
    intro x1 x2 h H locs cells slots ls hH hL hl hrun
    cases (show (none : Option _) = some rr from hrun)
  | succ n ih =>
    intro x1 x2 h H locs cells slots ls hH hL hl hrun
    rw [f_X1_outs_10] at hrun
    refine V_aload_n (pc := 10) hx hb dX1_outs_10 rfl (lv_at hl 1 rfl) ?_
    obtain ⟨c4, hrun⟩ := gd_some hrun
    refine V_bd5 (pc := 11) C hL rfl hrun (fun rr1 e1 => Z_runF (rest := []) C hH (m_J16_hasNext hl9 e1) rfl wF_X1_212_J16 c4 (by decide) rfl ⟨by decide, by decide⟩ rfl (Nat.le_of_ble_eq_true rfl) hl.1 dX1_outs_11) (fun v2 h3 H locs cells slots hH hL hrun => ?_)
    refine lv_if_eq (tgt := 54) (pc := 16) hx hb dX1_outs_16 (by decide) (fun c_ => ?_) (fun c_ => ?_)
    · have hrun := ite_t hrun c_
      refine lv_iload_n (pc := 54) hx hb dX1_outs_54 rfl (lv_at hl 0 rfl) ?_
      exact V_iret (pc := 55) C hH hL hrun dX1_outs_55
    · have hrun := ite_f hrun c_
      refine V_aload_n (pc := 19) hx hb dX1_outs_19 rfl (lv_at hl 1 rfl) ?_
      obtain ⟨c7, hrun⟩ := gd_some hrun
      refine V_bd5 (pc := 20) C hL rfl hrun (fun rr1 e1 => Z_runF (rest := []) C hH (m_J16_next hl9 e1) rfl wF_X1_217_J16 c7 (by decide) rfl ⟨by decide, by decide⟩ rfl (Nat.le_of_ble_eq_true rfl) hl.1 dX1_outs_20) (fun v5 h6 H locs cells slots hH hL hrun => ?_)
      obtain ⟨c8, hrun⟩ := gd_some hrun
      refine V_castX (pc := 25) (ci := 4) C hH rfl (by decide) q376 dX1_outs_25 c8 ?_
      refine V_astore_n (i := 3) (lv' := [(3, rv v5), (1, .int x1), (2, rv x2)]) (pc := 28) hx hb dX1_outs_28 rfl hl (by decide) (by simp [rv_cat, cat_i, cat_l, cat_f, cat_d]) (fun ls hl => ?_)
      refine lv_iload_n (pc := 29) hx hb dX1_outs_29 rfl (lv_at hl 1 rfl) ?_
      refine V_aload_n (pc := 30) hx hb dX1_outs_30 rfl (lv_at hl 0 rfl) ?_
      obtain ⟨c9, hrun⟩ := gd_some hrun
      refine V_getNI (pc := 31) C hH fn_X1_260 dX1_outs_31 c9 rfl ?_
      refine lv_if_eq (tgt := 48) (pc := 34) hx hb dX1_outs_34 (by decide) (fun c_ => ?_) (fun c_ => ?_)
      · have hrun := ite_t hrun c_
        exact b_X1_outs_48 C ih x2 x1 h6 H locs cells slots ls hH hL (lv_sub hl [2] rfl) hrun
      · have hrun := ite_f hrun c_
        refine V_aload_n (pc := 37) hx hb dX1_outs_37 rfl (lv_at hl 0 rfl) ?_
        refine V_bd (pc := 38) C hL rfl hrun (fun rr1 e1 => Z_runV (rest := [.int x1]) C hH (m_X5_fits hl9 e1) wV_X1_371 c9 rfl (by decide) rfl rfl ⟨by decide, by decide⟩ rfl (Nat.le_of_ble_eq_true rfl) hl.1 dX1_outs_38) (fun v10 h11 H locs cells slots hH hL hrun => ?_)
        refine lv_if_eq (tgt := 48) (pc := 41) hx hb dX1_outs_41 (by decide) (fun c_ => ?_) (fun c_ => ?_)
        · have hrun := ite_t hrun c_
          exact b_X1_outs_48 C ih x2 x1 h11 H locs cells slots ls hH hL (lv_sub hl [2] rfl) hrun
        · have hrun := ite_f hrun c_
          refine lv_iconst (v := (1 : Int32)) (pc := 44) hx hb dX1_outs_44 (by decide) ?_
          refine lv_goto (tgt := 49) (pc := 45) hx hb dX1_outs_45 (by decide) ?_
          exact b_X1_outs_49 C ih x2 x1 (1 : Int32) h11 H locs cells slots ls hH hL (lv_sub hl [2] rfl) hrun

theorem b_X1_outs {rr : (Int32 ⊕ Ex) × Hp}  (C : CX p l R s m args meth c D Hs cX1_outs "Massclaim" 4 (some .int) [] 4 81)  : ∀ (x0 : Nat) (h : Hp) (H : Heap) (locs : List Loc) (cells slots : Nat) (ls : Array Slot), HP D Hs h H → LO Hs locs → lv_has ls 4 [(0, rv x0)] → f_X1_outs x0 h = some rr → W p l e R s m args below meth c H locs cells slots (ZM D Hs iI rr below args s) (F0 m 0 ls []) := by
  obtain ⟨⟨hx, hb, hml, hown, hts⟩, -⟩ := id C
  have hl9 := C.2.1.2.2.1
  intro x0 h H locs cells slots ls hH hL hl hrun
  unfold f_X1_outs at hrun
  refine lv_iconst (v := (0 : Int32)) (pc := 0) hx hb dX1_outs_0 (by decide) ?_
  refine lv_istore_n (i := 1) (lv' := [(1, .int (0 : Int32)), (0, rv x0)]) (pc := 1) hx hb dX1_outs_1 rfl hl (by decide) (by simp [rv_cat, cat_i, cat_l, cat_f, cat_d]) (fun ls hl => ?_)
  refine V_aload_n (pc := 2) hx hb dX1_outs_2 rfl (lv_at hl 1 rfl) ?_
  obtain ⟨c12, hrun⟩ := gd_some hrun
  refine V_getR (pc := 3) C hH fr_X1_42 dX1_outs_3 c12 rfl ?_
  obtain ⟨c15, hrun⟩ := gd_some hrun
  refine V_bd (pc := 6) C hL rfl hrun (fun rr1 e1 => Z_runV (rest := []) C hH (m_X2_iterator hl9 e1) wV_X1_208 c15 rfl (by decide) rfl rfl ⟨by decide, by decide⟩ rfl (Nat.le_of_ble_eq_true rfl) hl.1 dX1_outs_6) (fun v13 h14 H locs cells slots hH hL hrun => ?_)
  refine V_astore_n (i := 2) (lv' := [(2, rv v13), (1, .int (0 : Int32)), (0, rv x0)]) (pc := 9) hx hb dX1_outs_9 rfl hl (by decide) rfl (fun ls hl => ?_)
  exact b_X1_outs_10 C FU (0 : Int32) v13 h14 H locs cells slots ls hH hL (lv_sub hl [1, 0] rfl) hrun

theorem m_X1_outs {l : Launch} {D : va_G} {Hs : Heap} {h : Hp} {rr : (Int32 ⊕ Ex) × Hp} (hl9 : l.stackTraces = false) {x0 : Nat} (hrun : f_X1_outs x0 h = some rr) : CM l yX1_outs (ws_ yX1_outs cX1_outs 4 (some .int)) 4 81 iI [rv x0] D Hs h rr := by
  refine CM.of (lv := [(0, rv x0)]) (plainFor_of_name (by decide)) hl9 (by simp [lv_args, rv_cat, cat_i, cat_l, cat_f, cat_d]) (by simp [lg_sl, rv_cat, cat_i, cat_l, cat_f, cat_d]) ?_
  intro p e R s m args below meth c H ls C hH hl hin
  exact b_X1_outs C x0 _ H [] _ _ ls hH (fun _ q => nomatch q) (lv_sub hl [0] rfl) hrun

/-! Massclaim.areFor()Z -/
def f_X1_areFor_158 (k10 : Nat → Int32 → Nat → Hp → Rt Int32) (x0 : Nat) (x2 : Nat) (y0 : Int32) (h : Hp) : Rt Int32 :=
  k10 x0 y0 x2 h
def f_X1_areFor_157 (k10 : Nat → Int32 → Nat → Hp → Rt Int32) (x0 : Nat) (x2 : Nat) (h : Hp) : Rt Int32 :=
  f_X1_areFor_158 k10 x0 x2 (0 : Int32) h
def f_X1_areFor_153 (k10 : Nat → Int32 → Nat → Hp → Rt Int32) (x0 : Nat) (x2 : Nat) (h : Hp) : Rt Int32 :=
  f_X1_areFor_158 k10 x0 x2 (1 : Int32) h
def f_X1_areFor_133 (k10 : Nat → Int32 → Nat → Hp → Rt Int32) (k44 : Nat → Int32 → Nat → Nat → Int32 → Int32 → Nat → Hp → Rt Int32) (x0 : Nat) (x1 : Int32) (x2 : Nat) (x3 : Nat) (x4 : Int32) (x6 : Nat) (y0 : Int32) (y1 : Int32) (h : Hp) : Rt Int32 :=
  vl (y0 + y1) fun v1 => k44 x0 x1 x2 x3 x4 v1 x6 h
def f_X1_areFor_132 (k10 : Nat → Int32 → Nat → Hp → Rt Int32) (k44 : Nat → Int32 → Nat → Nat → Int32 → Int32 → Nat → Hp → Rt Int32) (x0 : Nat) (x1 : Int32) (x2 : Nat) (x3 : Nat) (x4 : Int32) (x6 : Nat) (y0 : Int32) (h : Hp) : Rt Int32 :=
  f_X1_areFor_133 k10 k44 x0 x1 x2 x3 x4 x6 y0 (0 : Int32) h
def f_X1_areFor_101 (k10 : Nat → Int32 → Nat → Hp → Rt Int32) (k44 : Nat → Int32 → Nat → Nat → Int32 → Int32 → Nat → Hp → Rt Int32) (x0 : Nat) (x1 : Int32) (x2 : Nat) (x3 : Nat) (x5 : Int32) (x6 : Nat) (x7 : Nat) (x8 : Int32) (y0 : Int32) (y1 : Int32) (h : Hp) : Rt Int32 :=
  vl (y0 + y1) fun v2 => if x8 = 0 then
  (f_X1_areFor_132 k10 k44 x0 x1 x2 x3 v2 x6 x5 h)
  else
  (gd (kC h x7 = 5) <| if (kI h 413 x7) = (-1 : Int32) then
  (f_X1_areFor_132 k10 k44 x0 x1 x2 x3 v2 x6 x5 h)
  else
  (f_X1_areFor_133 k10 k44 x0 x1 x2 x3 v2 x6 x5 (((2 : Int32) * (kI h 413 x7)) - (1 : Int32)) h))
def f_X1_areFor_87 (k10 : Nat → Int32 → Nat → Hp → Rt Int32) (k44 : Nat → Int32 → Nat → Nat → Int32 → Int32 → Nat → Hp → Rt Int32) (x0 : Nat) (x1 : Int32) (x2 : Nat) (x3 : Nat) (x4 : Int32) (x5 : Int32) (x6 : Nat) (x7 : Nat) (y0 : Int32) (h : Hp) : Rt Int32 :=
  if y0 = 0 then
  (f_X1_areFor_101 k10 k44 x0 x1 x2 x3 x5 x6 x7 y0 x4 (0 : Int32) h)
  else
  (f_X1_areFor_101 k10 k44 x0 x1 x2 x3 x5 x6 x7 y0 x4 (1 : Int32) h)
def f_X1_areFor_86 (k10 : Nat → Int32 → Nat → Hp → Rt Int32) (k44 : Nat → Int32 → Nat → Nat → Int32 → Int32 → Nat → Hp → Rt Int32) (x0 : Nat) (x1 : Int32) (x2 : Nat) (x3 : Nat) (x4 : Int32) (x5 : Int32) (x6 : Nat) (x7 : Nat) (h : Hp) : Rt Int32 :=
  f_X1_areFor_87 k10 k44 x0 x1 x2 x3 x4 x5 x6 x7 (0 : Int32) h
def f_X1_areFor_44 (k10 : Nat → Int32 → Nat → Hp → Rt Int32) : Nat → Nat → Int32 → Nat → Nat → Int32 → Int32 → Nat → Hp → Rt Int32
  | 0, _, _, _, _, _, _, _, _ => none
  | n + 1, x0, x1, x2, x3, x4, x5, x6, h => gd (kC h x6 = 19) <| bd (f_J16_hasNext x6 h) fun v4 h5 => if v4 = 0 then
  (if x1 = 0 then
  (f_X1_areFor_157 k10 x0 x2 h5)
  else
  (if x4 = 0 then
  (f_X1_areFor_153 k10 x0 x2 h5)
  else
  (if x5 ≤ 0 then
  (f_X1_areFor_157 k10 x0 x2 h5)
  else
  (f_X1_areFor_153 k10 x0 x2 h5))))
  else
  (gd (kC h5 x6 = 19) <| bd (f_J16_next x6 h5) fun v7 h8 => gd (v7 = 0 ∨ kC h8 v7 = 5) <| gd (kC h8 x3 = 7) <| if (kI h8 603 x3) = 0 then
  (f_X1_areFor_86 k10 (f_X1_areFor_44 k10 n) x0 x1 x2 x3 x4 x5 x6 v7 h8)
  else
  (gd (kC h8 v7 = 5) <| bd (f_X5_subclass v7 h8) fun v12 h13 => if v12 = x3 then
  (f_X1_areFor_87 k10 (f_X1_areFor_44 k10 n) x0 x1 x2 x3 x4 x5 x6 v7 (1 : Int32) h13)
  else
  (f_X1_areFor_86 k10 (f_X1_areFor_44 k10 n) x0 x1 x2 x3 x4 x5 x6 v7 h13)))
def f_X1_areFor_10  : Nat → Nat → Int32 → Nat → Hp → Rt Int32
  | 0, _, _, _, _ => none
  | n + 1, x0, x1, x2, h => gd (kC h x2 = 19) <| bd (f_J16_hasNext x2 h) fun v15 h16 => if v15 = 0 then
  (gd (b01 x1) <| some (.inl x1, h16))
  else
  (gd (kC h16 x2 = 19) <| bd (f_J16_next x2 h16) fun v19 h20 => gd (v19 = 0 ∨ kC h20 v19 = 7) <| gd (kC h20 x0 = 1) <| gd (kC h20 (kR h20 0 x0) = 2) <| bd (f_X2_iterator (kR h20 0 x0) h20) fun v24 h25 => f_X1_areFor_44 (f_X1_areFor_10 n) FU x0 x1 x2 v19 (0 : Int32) (0 : Int32) v24 h25)
def f_X1_areFor  (x0 : Nat) (h : Hp) : Rt Int32 :=
  gd (kC h x0 = 1) <| gd (kC h (kR h 1 x0) = 2) <| bd (f_X2_iterator (kR h 1 x0) h) fun v28 h29 => f_X1_areFor_10 FU x0 (1 : Int32) v28 h29
theorem b_X1_areFor_158 {rr : (Int32 ⊕ Ex) × Hp} {k10 : Nat → Int32 → Nat → Hp → Rt Int32} (C : CX p l R s m args meth c D Hs cX1_areFor "Massclaim" 9 (some .boolean) [] 9 354) (K10 : ∀ (x0 : Nat) (x1 : Int32) (x2 : Nat) (h : Hp) (H : Heap) (locs : List Loc) (cells slots : Nat) (ls : Array Slot), HP D Hs h H → LO Hs locs → lv_has ls 9 [(0, rv x0), (1, .int x1), (2, rv x2)] → k10 x0 x1 x2 h = some rr → W p l e R s m args below meth c H locs cells slots (ZM D Hs iI rr below args s) (F0 m 10 ls [])) : ∀ (x0 : Nat) (x2 : Nat) (y0 : Int32) (h : Hp) (H : Heap) (locs : List Loc) (cells slots : Nat) (ls : Array Slot), HP D Hs h H → LO Hs locs → lv_has ls 9 [(0, rv x0), (2, rv x2)] → f_X1_areFor_158 k10 x0 x2 y0 h = some rr → W p l e R s m args below meth c H locs cells slots (ZM D Hs iI rr below args s) (F0 m 158 ls [.int y0]) := by
  obtain ⟨⟨hx, hb, hml, hown, hts⟩, -⟩ := id C
  have hl9 := C.2.1.2.2.1
  intro x0 x2 y0 h H locs cells slots ls hH hL hl hrun
  unfold f_X1_areFor_158 at hrun
  refine lv_istore_n (i := 1) (lv' := [(1, .int y0), (0, rv x0), (2, rv x2)]) (pc := 158) hx hb dX1_areFor_158 rfl hl (by decide) (by simp [rv_cat, cat_i, cat_l, cat_f, cat_d]) (fun ls hl => ?_)
  refine lv_goto (tgt := 10) (pc := 159) hx hb dX1_areFor_159 (by decide) ?_
  exact K10 x0 y0 x2 h H locs cells slots ls hH hL (lv_sub hl [1, 0, 2] rfl) hrun

theorem b_X1_areFor_157 {rr : (Int32 ⊕ Ex) × Hp} {k10 : Nat → Int32 → Nat → Hp → Rt Int32} (C : CX p l R s m args meth c D Hs cX1_areFor "Massclaim" 9 (some .boolean) [] 9 354) (K10 : ∀ (x0 : Nat) (x1 : Int32) (x2 : Nat) (h : Hp) (H : Heap) (locs : List Loc) (cells slots : Nat) (ls : Array Slot), HP D Hs h H → LO Hs locs → lv_has ls 9 [(0, rv x0), (1, .int x1), (2, rv x2)] → k10 x0 x1 x2 h = some rr → W p l e R s m args below meth c H locs cells slots (ZM D Hs iI rr below args s) (F0 m 10 ls [])) : ∀ (x0 : Nat) (x2 : Nat) (h : Hp) (H : Heap) (locs : List Loc) (cells slots : Nat) (ls : Array Slot), HP D Hs h H → LO Hs locs → lv_has ls 9 [(0, rv x0), (2, rv x2)] → f_X1_areFor_157 k10 x0 x2 h = some rr → W p l e R s m args below meth c H locs cells slots (ZM D Hs iI rr below args s) (F0 m 157 ls []) := by
  obtain ⟨⟨hx, hb, hml, hown, hts⟩, -⟩ := id C
  have hl9 := C.2.1.2.2.1
  intro x0 x2 h H locs cells slots ls hH hL hl hrun
  unfold f_X1_areFor_157 at hrun
  refine lv_iconst (v := (0 : Int32)) (pc := 157) hx hb dX1_areFor_157 (by decide) ?_
  exact b_X1_areFor_158 C K10 x0 x2 (0 : Int32) h H locs cells slots ls hH hL (lv_sub hl [0, 1] rfl) hrun

theorem b_X1_areFor_153 {rr : (Int32 ⊕ Ex) × Hp} {k10 : Nat → Int32 → Nat → Hp → Rt Int32} (C : CX p l R s m args meth c D Hs cX1_areFor "Massclaim" 9 (some .boolean) [] 9 354) (K10 : ∀ (x0 : Nat) (x1 : Int32) (x2 : Nat) (h : Hp) (H : Heap) (locs : List Loc) (cells slots : Nat) (ls : Array Slot), HP D Hs h H → LO Hs locs → lv_has ls 9 [(0, rv x0), (1, .int x1), (2, rv x2)] → k10 x0 x1 x2 h = some rr → W p l e R s m args below meth c H locs cells slots (ZM D Hs iI rr below args s) (F0 m 10 ls [])) : ∀ (x0 : Nat) (x2 : Nat) (h : Hp) (H : Heap) (locs : List Loc) (cells slots : Nat) (ls : Array Slot), HP D Hs h H → LO Hs locs → lv_has ls 9 [(0, rv x0), (2, rv x2)] → f_X1_areFor_153 k10 x0 x2 h = some rr → W p l e R s m args below meth c H locs cells slots (ZM D Hs iI rr below args s) (F0 m 153 ls []) := by
  obtain ⟨⟨hx, hb, hml, hown, hts⟩, -⟩ := id C
  have hl9 := C.2.1.2.2.1
  intro x0 x2 h H locs cells slots ls hH hL hl hrun
  unfold f_X1_areFor_153 at hrun
  refine lv_iconst (v := (1 : Int32)) (pc := 153) hx hb dX1_areFor_153 (by decide) ?_
  refine lv_goto (tgt := 158) (pc := 154) hx hb dX1_areFor_154 (by decide) ?_
  exact b_X1_areFor_158 C K10 x0 x2 (1 : Int32) h H locs cells slots ls hH hL (lv_sub hl [0, 1] rfl) hrun

theorem b_X1_areFor_133 {rr : (Int32 ⊕ Ex) × Hp} {k10 : Nat → Int32 → Nat → Hp → Rt Int32} {k44 : Nat → Int32 → Nat → Nat → Int32 → Int32 → Nat → Hp → Rt Int32} (C : CX p l R s m args meth c D Hs cX1_areFor "Massclaim" 9 (some .boolean) [] 9 354) (K10 : ∀ (x0 : Nat) (x1 : Int32) (x2 : Nat) (h : Hp) (H : Heap) (locs : List Loc) (cells slots : Nat) (ls : Array Slot), HP D Hs h H → LO Hs locs → lv_has ls 9 [(0, rv x0), (1, .int x1), (2, rv x2)] → k10 x0 x1 x2 h = some rr → W p l e R s m args below meth c H locs cells slots (ZM D Hs iI rr below args s) (F0 m 10 ls [])) (K44 : ∀ (x0 : Nat) (x1 : Int32) (x2 : Nat) (x3 : Nat) (x4 : Int32) (x5 : Int32) (x6 : Nat) (h : Hp) (H : Heap) (locs : List Loc) (cells slots : Nat) (ls : Array Slot), HP D Hs h H → LO Hs locs → lv_has ls 9 [(0, rv x0), (1, .int x1), (2, rv x2), (3, rv x3), (4, .int x4), (5, .int x5), (6, rv x6)] → k44 x0 x1 x2 x3 x4 x5 x6 h = some rr → W p l e R s m args below meth c H locs cells slots (ZM D Hs iI rr below args s) (F0 m 44 ls [])) : ∀ (x0 : Nat) (x1 : Int32) (x2 : Nat) (x3 : Nat) (x4 : Int32) (x6 : Nat) (y0 : Int32) (y1 : Int32) (h : Hp) (H : Heap) (locs : List Loc) (cells slots : Nat) (ls : Array Slot), HP D Hs h H → LO Hs locs → lv_has ls 9 [(0, rv x0), (1, .int x1), (2, rv x2), (3, rv x3), (4, .int x4), (6, rv x6)] → f_X1_areFor_133 k10 k44 x0 x1 x2 x3 x4 x6 y0 y1 h = some rr → W p l e R s m args below meth c H locs cells slots (ZM D Hs iI rr below args s) (F0 m 133 ls [.int y1, .int y0]) := by
  obtain ⟨⟨hx, hb, hml, hown, hts⟩, -⟩ := id C
  have hl9 := C.2.1.2.2.1
  intro x0 x1 x2 x3 x4 x6 y0 y1 h H locs cells slots ls hH hL hl hrun
  unfold f_X1_areFor_133 at hrun
  refine lv_iadd (pc := 133) hx hb dX1_areFor_133 ?_
  refine lv_topi (fun v1 ev1 => ?_)
  have hrun := vl_at hrun v1 ev1
  refine lv_istore (i := 5) (lv' := [(5, .int v1), (0, rv x0), (1, .int x1), (2, rv x2), (3, rv x3), (4, .int x4), (6, rv x6)]) (pc := 134) hx hb dX1_areFor_134 hl (by decide) rfl (fun ls hl => ?_)
  refine lv_goto (tgt := 44) (pc := 136) hx hb dX1_areFor_136 (by decide) ?_
  exact K44 x0 x1 x2 x3 x4 v1 x6 h H locs cells slots ls hH hL (lv_sub hl [1, 2, 3, 4, 5, 0, 6] rfl) hrun

theorem b_X1_areFor_132 {rr : (Int32 ⊕ Ex) × Hp} {k10 : Nat → Int32 → Nat → Hp → Rt Int32} {k44 : Nat → Int32 → Nat → Nat → Int32 → Int32 → Nat → Hp → Rt Int32} (C : CX p l R s m args meth c D Hs cX1_areFor "Massclaim" 9 (some .boolean) [] 9 354) (K10 : ∀ (x0 : Nat) (x1 : Int32) (x2 : Nat) (h : Hp) (H : Heap) (locs : List Loc) (cells slots : Nat) (ls : Array Slot), HP D Hs h H → LO Hs locs → lv_has ls 9 [(0, rv x0), (1, .int x1), (2, rv x2)] → k10 x0 x1 x2 h = some rr → W p l e R s m args below meth c H locs cells slots (ZM D Hs iI rr below args s) (F0 m 10 ls [])) (K44 : ∀ (x0 : Nat) (x1 : Int32) (x2 : Nat) (x3 : Nat) (x4 : Int32) (x5 : Int32) (x6 : Nat) (h : Hp) (H : Heap) (locs : List Loc) (cells slots : Nat) (ls : Array Slot), HP D Hs h H → LO Hs locs → lv_has ls 9 [(0, rv x0), (1, .int x1), (2, rv x2), (3, rv x3), (4, .int x4), (5, .int x5), (6, rv x6)] → k44 x0 x1 x2 x3 x4 x5 x6 h = some rr → W p l e R s m args below meth c H locs cells slots (ZM D Hs iI rr below args s) (F0 m 44 ls [])) : ∀ (x0 : Nat) (x1 : Int32) (x2 : Nat) (x3 : Nat) (x4 : Int32) (x6 : Nat) (y0 : Int32) (h : Hp) (H : Heap) (locs : List Loc) (cells slots : Nat) (ls : Array Slot), HP D Hs h H → LO Hs locs → lv_has ls 9 [(0, rv x0), (1, .int x1), (2, rv x2), (3, rv x3), (4, .int x4), (6, rv x6)] → f_X1_areFor_132 k10 k44 x0 x1 x2 x3 x4 x6 y0 h = some rr → W p l e R s m args below meth c H locs cells slots (ZM D Hs iI rr below args s) (F0 m 132 ls [.int y0]) := by
  obtain ⟨⟨hx, hb, hml, hown, hts⟩, -⟩ := id C
  have hl9 := C.2.1.2.2.1
  intro x0 x1 x2 x3 x4 x6 y0 h H locs cells slots ls hH hL hl hrun
  unfold f_X1_areFor_132 at hrun
  refine lv_iconst (v := (0 : Int32)) (pc := 132) hx hb dX1_areFor_132 (by decide) ?_
  exact b_X1_areFor_133 C K10 K44 x0 x1 x2 x3 x4 x6 y0 (0 : Int32) h H locs cells slots ls hH hL (lv_sub hl [0, 1, 2, 3, 4, 5] rfl) hrun

theorem b_X1_areFor_101 {rr : (Int32 ⊕ Ex) × Hp} {k10 : Nat → Int32 → Nat → Hp → Rt Int32} {k44 : Nat → Int32 → Nat → Nat → Int32 → Int32 → Nat → Hp → Rt Int32} (C : CX p l R s m args meth c D Hs cX1_areFor "Massclaim" 9 (some .boolean) [] 9 354) (K10 : ∀ (x0 : Nat) (x1 : Int32) (x2 : Nat) (h : Hp) (H : Heap) (locs : List Loc) (cells slots : Nat) (ls : Array Slot), HP D Hs h H → LO Hs locs → lv_has ls 9 [(0, rv x0), (1, .int x1), (2, rv x2)] → k10 x0 x1 x2 h = some rr → W p l e R s m args below meth c H locs cells slots (ZM D Hs iI rr below args s) (F0 m 10 ls [])) (K44 : ∀ (x0 : Nat) (x1 : Int32) (x2 : Nat) (x3 : Nat) (x4 : Int32) (x5 : Int32) (x6 : Nat) (h : Hp) (H : Heap) (locs : List Loc) (cells slots : Nat) (ls : Array Slot), HP D Hs h H → LO Hs locs → lv_has ls 9 [(0, rv x0), (1, .int x1), (2, rv x2), (3, rv x3), (4, .int x4), (5, .int x5), (6, rv x6)] → k44 x0 x1 x2 x3 x4 x5 x6 h = some rr → W p l e R s m args below meth c H locs cells slots (ZM D Hs iI rr below args s) (F0 m 44 ls [])) : ∀ (x0 : Nat) (x1 : Int32) (x2 : Nat) (x3 : Nat) (x5 : Int32) (x6 : Nat) (x7 : Nat) (x8 : Int32) (y0 : Int32) (y1 : Int32) (h : Hp) (H : Heap) (locs : List Loc) (cells slots : Nat) (ls : Array Slot), HP D Hs h H → LO Hs locs → lv_has ls 9 [(0, rv x0), (1, .int x1), (2, rv x2), (3, rv x3), (5, .int x5), (6, rv x6), (7, rv x7), (8, .int x8)] → f_X1_areFor_101 k10 k44 x0 x1 x2 x3 x5 x6 x7 x8 y0 y1 h = some rr → W p l e R s m args below meth c H locs cells slots (ZM D Hs iI rr below args s) (F0 m 101 ls [.int y1, .int y0]) := by
  obtain ⟨⟨hx, hb, hml, hown, hts⟩, -⟩ := id C
  have hl9 := C.2.1.2.2.1
  intro x0 x1 x2 x3 x5 x6 x7 x8 y0 y1 h H locs cells slots ls hH hL hl hrun
  unfold f_X1_areFor_101 at hrun
  refine lv_iadd (pc := 101) hx hb dX1_areFor_101 ?_
  refine lv_topi (fun v2 ev2 => ?_)
  have hrun := vl_at hrun v2 ev2
  refine lv_istore (i := 4) (lv' := [(4, .int v2), (0, rv x0), (1, .int x1), (2, rv x2), (3, rv x3), (5, .int x5), (6, rv x6), (7, rv x7), (8, .int x8)]) (pc := 102) hx hb dX1_areFor_102 hl (by decide) (by simp [rv_cat, cat_i, cat_l, cat_f, cat_d]) (fun ls hl => ?_)
  refine lv_iload (pc := 104) hx hb dX1_areFor_104 (lv_at hl 5 rfl) ?_
  refine lv_iload (pc := 106) hx hb dX1_areFor_106 (lv_at hl 8 rfl) ?_
  refine lv_if_eq (tgt := 132) (pc := 108) hx hb dX1_areFor_108 (by decide) (fun c_ => ?_) (fun c_ => ?_)
  · have hrun := ite_t hrun c_
    exact b_X1_areFor_132 C K10 K44 x0 x1 x2 x3 v2 x6 x5 h H locs cells slots ls hH hL (lv_sub hl [1, 2, 3, 4, 0, 6] rfl) hrun
  · have hrun := ite_f hrun c_
    refine V_aload (pc := 111) hx hb dX1_areFor_111 (lv_at hl 7 rfl) ?_
    obtain ⟨c3, hrun⟩ := gd_some hrun
    refine V_getNI (pc := 113) C hH fn_X1_362 dX1_areFor_113 c3 rfl ?_
    refine lv_iconst (v := (-1 : Int32)) (pc := 116) hx hb dX1_areFor_116 (by decide) ?_
    refine lv_icmp_eq (tgt := 132) (pc := 117) hx hb dX1_areFor_117 (by decide) (fun c_ => ?_) (fun c_ => ?_)
    · have hrun := ite_t hrun c_
      exact b_X1_areFor_132 C K10 K44 x0 x1 x2 x3 v2 x6 x5 h H locs cells slots ls hH hL (lv_sub hl [1, 2, 3, 4, 0, 6] rfl) hrun
    · have hrun := ite_f hrun c_
      refine lv_iconst (v := (2 : Int32)) (pc := 120) hx hb dX1_areFor_120 (by decide) ?_
      refine V_aload (pc := 121) hx hb dX1_areFor_121 (lv_at hl 7 rfl) ?_
      refine V_getNI (pc := 123) C hH fn_X1_362 dX1_areFor_123 c3 rfl ?_
      refine lv_imul (pc := 126) hx hb dX1_areFor_126 ?_
      refine lv_iconst (v := (1 : Int32)) (pc := 127) hx hb dX1_areFor_127 (by decide) ?_
      refine lv_isub (pc := 128) hx hb dX1_areFor_128 ?_
      refine lv_goto (tgt := 133) (pc := 129) hx hb dX1_areFor_129 (by decide) ?_
      exact b_X1_areFor_133 C K10 K44 x0 x1 x2 x3 v2 x6 x5 (((2 : Int32) * (kI h 413 x7)) - (1 : Int32)) h H locs cells slots ls hH hL (lv_sub hl [1, 2, 3, 4, 0, 6] rfl) hrun

theorem b_X1_areFor_87 {rr : (Int32 ⊕ Ex) × Hp} {k10 : Nat → Int32 → Nat → Hp → Rt Int32} {k44 : Nat → Int32 → Nat → Nat → Int32 → Int32 → Nat → Hp → Rt Int32} (C : CX p l R s m args meth c D Hs cX1_areFor "Massclaim" 9 (some .boolean) [] 9 354) (K10 : ∀ (x0 : Nat) (x1 : Int32) (x2 : Nat) (h : Hp) (H : Heap) (locs : List Loc) (cells slots : Nat) (ls : Array Slot), HP D Hs h H → LO Hs locs → lv_has ls 9 [(0, rv x0), (1, .int x1), (2, rv x2)] → k10 x0 x1 x2 h = some rr → W p l e R s m args below meth c H locs cells slots (ZM D Hs iI rr below args s) (F0 m 10 ls [])) (K44 : ∀ (x0 : Nat) (x1 : Int32) (x2 : Nat) (x3 : Nat) (x4 : Int32) (x5 : Int32) (x6 : Nat) (h : Hp) (H : Heap) (locs : List Loc) (cells slots : Nat) (ls : Array Slot), HP D Hs h H → LO Hs locs → lv_has ls 9 [(0, rv x0), (1, .int x1), (2, rv x2), (3, rv x3), (4, .int x4), (5, .int x5), (6, rv x6)] → k44 x0 x1 x2 x3 x4 x5 x6 h = some rr → W p l e R s m args below meth c H locs cells slots (ZM D Hs iI rr below args s) (F0 m 44 ls [])) : ∀ (x0 : Nat) (x1 : Int32) (x2 : Nat) (x3 : Nat) (x4 : Int32) (x5 : Int32) (x6 : Nat) (x7 : Nat) (y0 : Int32) (h : Hp) (H : Heap) (locs : List Loc) (cells slots : Nat) (ls : Array Slot), HP D Hs h H → LO Hs locs → lv_has ls 9 [(0, rv x0), (1, .int x1), (2, rv x2), (3, rv x3), (4, .int x4), (5, .int x5), (6, rv x6), (7, rv x7)] → f_X1_areFor_87 k10 k44 x0 x1 x2 x3 x4 x5 x6 x7 y0 h = some rr → W p l e R s m args below meth c H locs cells slots (ZM D Hs iI rr below args s) (F0 m 87 ls [.int y0]) := by
  obtain ⟨⟨hx, hb, hml, hown, hts⟩, -⟩ := id C
  have hl9 := C.2.1.2.2.1
  intro x0 x1 x2 x3 x4 x5 x6 x7 y0 h H locs cells slots ls hH hL hl hrun
  unfold f_X1_areFor_87 at hrun
  refine lv_istore (i := 8) (lv' := [(8, .int y0), (0, rv x0), (1, .int x1), (2, rv x2), (3, rv x3), (4, .int x4), (5, .int x5), (6, rv x6), (7, rv x7)]) (pc := 87) hx hb dX1_areFor_87 hl (by decide) (by simp [rv_cat, cat_i, cat_l, cat_f, cat_d]) (fun ls hl => ?_)
  refine lv_iload (pc := 89) hx hb dX1_areFor_89 (lv_at hl 5 rfl) ?_
  refine lv_iload (pc := 91) hx hb dX1_areFor_91 (lv_at hl 0 rfl) ?_
  refine lv_if_eq (tgt := 100) (pc := 93) hx hb dX1_areFor_93 (by decide) (fun c_ => ?_) (fun c_ => ?_)
  · have hrun := ite_t hrun c_
    refine lv_iconst (v := (0 : Int32)) (pc := 100) hx hb dX1_areFor_100 (by decide) ?_
    exact b_X1_areFor_101 C K10 K44 x0 x1 x2 x3 x5 x6 x7 y0 x4 (0 : Int32) h H locs cells slots ls hH hL (lv_sub hl [1, 2, 3, 4, 6, 7, 8, 0] rfl) hrun
  · have hrun := ite_f hrun c_
    refine lv_iconst (v := (1 : Int32)) (pc := 96) hx hb dX1_areFor_96 (by decide) ?_
    refine lv_goto (tgt := 101) (pc := 97) hx hb dX1_areFor_97 (by decide) ?_
    exact b_X1_areFor_101 C K10 K44 x0 x1 x2 x3 x5 x6 x7 y0 x4 (1 : Int32) h H locs cells slots ls hH hL (lv_sub hl [1, 2, 3, 4, 6, 7, 8, 0] rfl) hrun

theorem b_X1_areFor_86 {rr : (Int32 ⊕ Ex) × Hp} {k10 : Nat → Int32 → Nat → Hp → Rt Int32} {k44 : Nat → Int32 → Nat → Nat → Int32 → Int32 → Nat → Hp → Rt Int32} (C : CX p l R s m args meth c D Hs cX1_areFor "Massclaim" 9 (some .boolean) [] 9 354) (K10 : ∀ (x0 : Nat) (x1 : Int32) (x2 : Nat) (h : Hp) (H : Heap) (locs : List Loc) (cells slots : Nat) (ls : Array Slot), HP D Hs h H → LO Hs locs → lv_has ls 9 [(0, rv x0), (1, .int x1), (2, rv x2)] → k10 x0 x1 x2 h = some rr → W p l e R s m args below meth c H locs cells slots (ZM D Hs iI rr below args s) (F0 m 10 ls [])) (K44 : ∀ (x0 : Nat) (x1 : Int32) (x2 : Nat) (x3 : Nat) (x4 : Int32) (x5 : Int32) (x6 : Nat) (h : Hp) (H : Heap) (locs : List Loc) (cells slots : Nat) (ls : Array Slot), HP D Hs h H → LO Hs locs → lv_has ls 9 [(0, rv x0), (1, .int x1), (2, rv x2), (3, rv x3), (4, .int x4), (5, .int x5), (6, rv x6)] → k44 x0 x1 x2 x3 x4 x5 x6 h = some rr → W p l e R s m args below meth c H locs cells slots (ZM D Hs iI rr below args s) (F0 m 44 ls [])) : ∀ (x0 : Nat) (x1 : Int32) (x2 : Nat) (x3 : Nat) (x4 : Int32) (x5 : Int32) (x6 : Nat) (x7 : Nat) (h : Hp) (H : Heap) (locs : List Loc) (cells slots : Nat) (ls : Array Slot), HP D Hs h H → LO Hs locs → lv_has ls 9 [(0, rv x0), (1, .int x1), (2, rv x2), (3, rv x3), (4, .int x4), (5, .int x5), (6, rv x6), (7, rv x7)] → f_X1_areFor_86 k10 k44 x0 x1 x2 x3 x4 x5 x6 x7 h = some rr → W p l e R s m args below meth c H locs cells slots (ZM D Hs iI rr below args s) (F0 m 86 ls []) := by
  obtain ⟨⟨hx, hb, hml, hown, hts⟩, -⟩ := id C
  have hl9 := C.2.1.2.2.1
  intro x0 x1 x2 x3 x4 x5 x6 x7 h H locs cells slots ls hH hL hl hrun
  unfold f_X1_areFor_86 at hrun
  refine lv_iconst (v := (0 : Int32)) (pc := 86) hx hb dX1_areFor_86 (by decide) ?_
  exact b_X1_areFor_87 C K10 K44 x0 x1 x2 x3 x4 x5 x6 x7 (0 : Int32) h H locs cells slots ls hH hL (lv_sub hl [0, 1, 2, 3, 4, 5, 6, 7] rfl) hrun

theorem b_X1_areFor_44 {rr : (Int32 ⊕ Ex) × Hp} {k10 : Nat → Int32 → Nat → Hp → Rt Int32} (C : CX p l R s m args meth c D Hs cX1_areFor "Massclaim" 9 (some .boolean) [] 9 354) (K10 : ∀ (x0 : Nat) (x1 : Int32) (x2 : Nat) (h : Hp) (H : Heap) (locs : List Loc) (cells slots : Nat) (ls : Array Slot), HP D Hs h H → LO Hs locs → lv_has ls 9 [(0, rv x0), (1, .int x1), (2, rv x2)] → k10 x0 x1 x2 h = some rr → W p l e R s m args below meth c H locs cells slots (ZM D Hs iI rr below args s) (F0 m 10 ls [])) : ∀ (n : Nat) (x0 : Nat) (x1 : Int32) (x2 : Nat) (x3 : Nat) (x4 : Int32) (x5 : Int32) (x6 : Nat) (h : Hp) (H : Heap) (locs : List Loc) (cells slots : Nat) (ls : Array Slot), HP D Hs h H → LO Hs locs → lv_has ls 9 [(0, rv x0), (1, .int x1), (2, rv x2), (3, rv x3), (4, .int x4), (5, .int x5), (6, rv x6)] → f_X1_areFor_44 k10 n x0 x1 x2 x3 x4 x5 x6 h = some rr → W p l e R s m args below meth c H locs cells slots (ZM D Hs iI rr below args s) (F0 m 44 ls []) := by
  obtain ⟨⟨hx, hb, hml, hown, hts⟩, -⟩ := id C
  have hl9 := C.2.1.2.2.1
  intro n
  induction n with
  | zero =>
    intro x0 x1 x2 x3 x4 x5 x6 h H locs cells slots ls hH hL hl hrun
    cases (show (none : Option _) = some rr from hrun)
  | succ n ih =>
    intro x0 x1 x2 x3 x4 x5 x6 h H locs cells slots ls hH hL hl hrun
    rw [f_X1_areFor_44] at hrun
    refine V_aload (pc := 44) hx hb dX1_areFor_44 (lv_at hl 6 rfl) ?_
    obtain ⟨c6, hrun⟩ := gd_some hrun
    refine V_bd5 (pc := 46) C hL rfl hrun (fun rr1 e1 => Z_runF (rest := []) C hH (m_J16_hasNext hl9 e1) rfl wF_X1_212_J16 c6 (by decide) rfl ⟨by decide, by decide⟩ rfl (Nat.le_of_ble_eq_true rfl) hl.1 dX1_areFor_46) (fun v4 h5 H locs cells slots hH hL hrun => ?_)
    refine lv_if_eq (tgt := 139) (pc := 51) hx hb dX1_areFor_51 (by decide) (fun c_ => ?_) (fun c_ => ?_)
    · have hrun := ite_t hrun c_
      refine lv_iload_n (pc := 139) hx hb dX1_areFor_139 rfl (lv_at hl 1 rfl) ?_
      refine lv_if_eq (tgt := 157) (pc := 140) hx hb dX1_areFor_140 (by decide) (fun c_ => ?_) (fun c_ => ?_)
      · have hrun := ite_t hrun c_
        exact b_X1_areFor_157 C K10 x0 x2 h5 H locs cells slots ls hH hL (lv_sub hl [0, 2] rfl) hrun
      · have hrun := ite_f hrun c_
        refine lv_iload (pc := 143) hx hb dX1_areFor_143 (lv_at hl 4 rfl) ?_
        refine lv_if_eq (tgt := 153) (pc := 145) hx hb dX1_areFor_145 (by decide) (fun c_ => ?_) (fun c_ => ?_)
        · have hrun := ite_t hrun c_
          exact b_X1_areFor_153 C K10 x0 x2 h5 H locs cells slots ls hH hL (lv_sub hl [0, 2] rfl) hrun
        · have hrun := ite_f hrun c_
          refine lv_iload (pc := 148) hx hb dX1_areFor_148 (lv_at hl 5 rfl) ?_
          refine lv_if_le (tgt := 157) (pc := 150) hx hb dX1_areFor_150 (by decide) (fun c_ => ?_) (fun c_ => ?_)
          · have hrun := ite_t hrun c_
            exact b_X1_areFor_157 C K10 x0 x2 h5 H locs cells slots ls hH hL (lv_sub hl [0, 2] rfl) hrun
          · have hrun := ite_f hrun c_
            exact b_X1_areFor_153 C K10 x0 x2 h5 H locs cells slots ls hH hL (lv_sub hl [0, 2] rfl) hrun
    · have hrun := ite_f hrun c_
      refine V_aload (pc := 54) hx hb dX1_areFor_54 (lv_at hl 6 rfl) ?_
      obtain ⟨c9, hrun⟩ := gd_some hrun
      refine V_bd5 (pc := 56) C hL rfl hrun (fun rr1 e1 => Z_runF (rest := []) C hH (m_J16_next hl9 e1) rfl wF_X1_217_J16 c9 (by decide) rfl ⟨by decide, by decide⟩ rfl (Nat.le_of_ble_eq_true rfl) hl.1 dX1_areFor_56) (fun v7 h8 H locs cells slots hH hL hrun => ?_)
      obtain ⟨c10, hrun⟩ := gd_some hrun
      refine V_castX (pc := 61) (ci := 4) C hH rfl (by decide) q376 dX1_areFor_61 c10 ?_
      refine V_astore (i := 7) (lv' := [(7, rv v7), (0, rv x0), (1, .int x1), (2, rv x2), (3, rv x3), (4, .int x4), (5, .int x5), (6, rv x6)]) (pc := 64) hx hb dX1_areFor_64 hl (by decide) (by simp [rv_cat, cat_i, cat_l, cat_f, cat_d]) (fun ls hl => ?_)
      refine V_aload_n (pc := 66) hx hb dX1_areFor_66 rfl (lv_at hl 4 rfl) ?_
      obtain ⟨c11, hrun⟩ := gd_some hrun
      refine V_getNI (pc := 67) C hH fn_X1_368 dX1_areFor_67 c11 rfl ?_
      refine lv_if_eq (tgt := 86) (pc := 70) hx hb dX1_areFor_70 (by decide) (fun c_ => ?_) (fun c_ => ?_)
      · have hrun := ite_t hrun c_
        exact b_X1_areFor_86 C K10 ih x0 x1 x2 x3 x4 x5 x6 v7 h8 H locs cells slots ls hH hL (lv_sub hl [1, 2, 3, 4, 5, 6, 7, 0] rfl) hrun
      · have hrun := ite_f hrun c_
        refine V_aload (pc := 73) hx hb dX1_areFor_73 (lv_at hl 0 rfl) ?_
        obtain ⟨c14, hrun⟩ := gd_some hrun
        refine V_bd (pc := 75) C hL rfl hrun (fun rr1 e1 => Z_runV (rest := []) C hH (m_X5_subclass hl9 e1) wV_X1_238 c14 rfl (by decide) rfl rfl ⟨by decide, by decide⟩ rfl (Nat.le_of_ble_eq_true rfl) hl.1 dX1_areFor_75) (fun v12 h13 H locs cells slots hH hL hrun => ?_)
        refine V_aload_n (pc := 78) hx hb dX1_areFor_78 rfl (lv_at hl 4 rfl) ?_
        refine V_acmp_ne (tgt := 86) (pc := 79) hx hb dX1_areFor_79 (by decide) hrun (fun c_ hrun => ?_) (fun c_ hrun => ?_)
        · exact b_X1_areFor_86 C K10 ih x0 x1 x2 x3 x4 x5 x6 v7 h13 H locs cells slots ls hH hL (lv_sub hl [1, 2, 3, 4, 5, 6, 7, 0] rfl) hrun
        · refine lv_iconst (v := (1 : Int32)) (pc := 82) hx hb dX1_areFor_82 (by decide) ?_
          refine lv_goto (tgt := 87) (pc := 83) hx hb dX1_areFor_83 (by decide) ?_
          exact b_X1_areFor_87 C K10 ih x0 x1 x2 x3 x4 x5 x6 v7 (1 : Int32) h13 H locs cells slots ls hH hL (lv_sub hl [1, 2, 3, 4, 5, 6, 7, 0] rfl) hrun

theorem b_X1_areFor_10 {rr : (Int32 ⊕ Ex) × Hp}  (C : CX p l R s m args meth c D Hs cX1_areFor "Massclaim" 9 (some .boolean) [] 9 354)  : ∀ (n : Nat) (x0 : Nat) (x1 : Int32) (x2 : Nat) (h : Hp) (H : Heap) (locs : List Loc) (cells slots : Nat) (ls : Array Slot), HP D Hs h H → LO Hs locs → lv_has ls 9 [(0, rv x0), (1, .int x1), (2, rv x2)] → f_X1_areFor_10 n x0 x1 x2 h = some rr → W p l e R s m args below meth c H locs cells slots (ZM D Hs iI rr below args s) (F0 m 10 ls []) := by
  obtain ⟨⟨hx, hb, hml, hown, hts⟩, -⟩ := id C
  have hl9 := C.2.1.2.2.1
  intro n
  induction n with
  | zero =>
    intro x0 x1 x2 h H locs cells slots ls hH hL hl hrun
    cases (show (none : Option _) = some rr from hrun)
  | succ n ih =>
    intro x0 x1 x2 h H locs cells slots ls hH hL hl hrun
    rw [f_X1_areFor_10] at hrun
    refine V_aload_n (pc := 10) hx hb dX1_areFor_10 rfl (lv_at hl 2 rfl) ?_
    obtain ⟨c17, hrun⟩ := gd_some hrun
    refine V_bd5 (pc := 11) C hL rfl hrun (fun rr1 e1 => Z_runF (rest := []) C hH (m_J16_hasNext hl9 e1) rfl wF_X1_212_J16 c17 (by decide) rfl ⟨by decide, by decide⟩ rfl (Nat.le_of_ble_eq_true rfl) hl.1 dX1_areFor_11) (fun v15 h16 H locs cells slots hH hL hrun => ?_)
    refine lv_if_eq (tgt := 162) (pc := 16) hx hb dX1_areFor_16 (by decide) (fun c_ => ?_) (fun c_ => ?_)
    · have hrun := ite_t hrun c_
      refine lv_iload_n (pc := 162) hx hb dX1_areFor_162 rfl (lv_at hl 1 rfl) ?_
      obtain ⟨c18, hrun⟩ := gd_some hrun
      exact V_zret (pc := 163) C hH hL c18 hrun dX1_areFor_163
    · have hrun := ite_f hrun c_
      refine V_aload_n (pc := 19) hx hb dX1_areFor_19 rfl (lv_at hl 2 rfl) ?_
      obtain ⟨c21, hrun⟩ := gd_some hrun
      refine V_bd5 (pc := 20) C hL rfl hrun (fun rr1 e1 => Z_runF (rest := []) C hH (m_J16_next hl9 e1) rfl wF_X1_217_J16 c21 (by decide) rfl ⟨by decide, by decide⟩ rfl (Nat.le_of_ble_eq_true rfl) hl.1 dX1_areFor_20) (fun v19 h20 H locs cells slots hH hL hrun => ?_)
      obtain ⟨c22, hrun⟩ := gd_some hrun
      refine V_castX (pc := 25) (ci := 6) C hH rfl (by decide) q907 dX1_areFor_25 c22 ?_
      refine V_astore_n (i := 3) (lv' := [(3, rv v19), (0, rv x0), (1, .int x1), (2, rv x2)]) (pc := 28) hx hb dX1_areFor_28 rfl hl (by decide) (by simp [rv_cat, cat_i, cat_l, cat_f, cat_d]) (fun ls hl => ?_)
      refine lv_iconst (v := (0 : Int32)) (pc := 29) hx hb dX1_areFor_29 (by decide) ?_
      refine lv_istore (i := 4) (lv' := [(4, .int (0 : Int32)), (3, rv v19), (0, rv x0), (1, .int x1), (2, rv x2)]) (pc := 30) hx hb dX1_areFor_30 hl (by decide) (by simp [rv_cat, cat_i, cat_l, cat_f, cat_d]) (fun ls hl => ?_)
      refine lv_iconst (v := (0 : Int32)) (pc := 32) hx hb dX1_areFor_32 (by decide) ?_
      refine lv_istore (i := 5) (lv' := [(5, .int (0 : Int32)), (4, .int (0 : Int32)), (3, rv v19), (0, rv x0), (1, .int x1), (2, rv x2)]) (pc := 33) hx hb dX1_areFor_33 hl (by decide) rfl (fun ls hl => ?_)
      refine V_aload_n (pc := 35) hx hb dX1_areFor_35 rfl (lv_at hl 3 rfl) ?_
      obtain ⟨c23, hrun⟩ := gd_some hrun
      refine V_getR (pc := 36) C hH fr_X1_42 dX1_areFor_36 c23 rfl ?_
      obtain ⟨c26, hrun⟩ := gd_some hrun
      refine V_bd (pc := 39) C hL rfl hrun (fun rr1 e1 => Z_runV (rest := []) C hH (m_X2_iterator hl9 e1) wV_X1_208 c26 rfl (by decide) rfl rfl ⟨by decide, by decide⟩ rfl (Nat.le_of_ble_eq_true rfl) hl.1 dX1_areFor_39) (fun v24 h25 H locs cells slots hH hL hrun => ?_)
      refine V_astore (i := 6) (lv' := [(6, rv v24), (5, .int (0 : Int32)), (4, .int (0 : Int32)), (3, rv v19), (0, rv x0), (1, .int x1), (2, rv x2)]) (pc := 42) hx hb dX1_areFor_42 hl (by decide) rfl (fun ls hl => ?_)
      exact b_X1_areFor_44 C ih FU x0 x1 x2 v19 (0 : Int32) (0 : Int32) v24 h25 H locs cells slots ls hH hL (lv_sub hl [4, 5, 6, 3, 2, 1, 0] rfl) hrun

theorem b_X1_areFor {rr : (Int32 ⊕ Ex) × Hp}  (C : CX p l R s m args meth c D Hs cX1_areFor "Massclaim" 9 (some .boolean) [] 9 354)  : ∀ (x0 : Nat) (h : Hp) (H : Heap) (locs : List Loc) (cells slots : Nat) (ls : Array Slot), HP D Hs h H → LO Hs locs → lv_has ls 9 [(0, rv x0)] → f_X1_areFor x0 h = some rr → W p l e R s m args below meth c H locs cells slots (ZM D Hs iI rr below args s) (F0 m 0 ls []) := by
  obtain ⟨⟨hx, hb, hml, hown, hts⟩, -⟩ := id C
  have hl9 := C.2.1.2.2.1
  intro x0 h H locs cells slots ls hH hL hl hrun
  unfold f_X1_areFor at hrun
  refine lv_iconst (v := (1 : Int32)) (pc := 0) hx hb dX1_areFor_0 (by decide) ?_
  refine lv_istore_n (i := 1) (lv' := [(1, .int (1 : Int32)), (0, rv x0)]) (pc := 1) hx hb dX1_areFor_1 rfl hl (by decide) (by simp [rv_cat, cat_i, cat_l, cat_f, cat_d]) (fun ls hl => ?_)
  refine V_aload_n (pc := 2) hx hb dX1_areFor_2 rfl (lv_at hl 1 rfl) ?_
  obtain ⟨c27, hrun⟩ := gd_some hrun
  refine V_getR (pc := 3) C hH fr_X1_46 dX1_areFor_3 c27 rfl ?_
  obtain ⟨c30, hrun⟩ := gd_some hrun
  refine V_bd (pc := 6) C hL rfl hrun (fun rr1 e1 => Z_runV (rest := []) C hH (m_X2_iterator hl9 e1) wV_X1_208 c30 rfl (by decide) rfl rfl ⟨by decide, by decide⟩ rfl (Nat.le_of_ble_eq_true rfl) hl.1 dX1_areFor_6) (fun v28 h29 H locs cells slots hH hL hrun => ?_)
  refine V_astore_n (i := 2) (lv' := [(2, rv v28), (1, .int (1 : Int32)), (0, rv x0)]) (pc := 9) hx hb dX1_areFor_9 rfl hl (by decide) rfl (fun ls hl => ?_)
  exact b_X1_areFor_10 C FU x0 (1 : Int32) v28 h29 H locs cells slots ls hH hL (lv_sub hl [2, 1, 0] rfl) hrun

theorem m_X1_areFor {l : Launch} {D : va_G} {Hs : Heap} {h : Hp} {rr : (Int32 ⊕ Ex) × Hp} (hl9 : l.stackTraces = false) {x0 : Nat} (hrun : f_X1_areFor x0 h = some rr) : CM l yX1_areFor (ws_ yX1_areFor cX1_areFor 9 (some .boolean)) 9 354 iI [rv x0] D Hs h rr := by
  refine CM.of (lv := [(0, rv x0)]) (plainFor_of_name (by decide)) hl9 (by simp [lv_args, rv_cat, cat_i, cat_l, cat_f, cat_d]) (by simp [lg_sl, rv_cat, cat_i, cat_l, cat_f, cat_d]) ?_
  intro p e R s m args below meth c H ls C hH hl hin
  exact b_X1_areFor C x0 _ H [] _ _ ls hH (fun _ q => nomatch q) (lv_sub hl [0] rfl) hrun

/-! Massclaim.objectors()I -/
def f_X1_objectors_49 (k10 : Int32 → Nat → Hp → Rt Int32) (x2 : Nat) (y0 : Int32) (y1 : Int32) (h : Hp) : Rt Int32 :=
  vl (y0 + y1) fun v1 => k10 v1 x2 h
def f_X1_objectors_48 (k10 : Int32 → Nat → Hp → Rt Int32) (x2 : Nat) (y0 : Int32) (h : Hp) : Rt Int32 :=
  f_X1_objectors_49 k10 x2 y0 (0 : Int32) h
def f_X1_objectors_10  : Nat → Int32 → Nat → Hp → Rt Int32
  | 0, _, _, _ => none
  | n + 1, x1, x2, h => gd (kC h x2 = 19) <| bd (f_J16_hasNext x2 h) fun v2 h3 => if v2 = 0 then
  (some (.inl x1, h3))
  else
  (gd (kC h3 x2 = 19) <| bd (f_J16_next x2 h3) fun v5 h6 => gd (v5 = 0 ∨ kC h6 v5 = 5) <| gd (kC h6 v5 = 5) <| if (kI h6 414 v5) = 0 then
  (f_X1_objectors_48 (f_X1_objectors_10 n) x2 x1 h6)
  else
  (bd (f_X5_isMember v5 h6) fun v10 h11 => if v10 = 0 then
  (f_X1_objectors_48 (f_X1_objectors_10 n) x2 x1 h11)
  else
  (f_X1_objectors_49 (f_X1_objectors_10 n) x2 x1 (1 : Int32) h11)))
def f_X1_objectors  (x0 : Nat) (h : Hp) : Rt Int32 :=
  gd (kC h x0 = 1) <| gd (kC h (kR h 0 x0) = 2) <| bd (f_X2_iterator (kR h 0 x0) h) fun v13 h14 => f_X1_objectors_10 FU (0 : Int32) v13 h14
theorem b_X1_objectors_49 {rr : (Int32 ⊕ Ex) × Hp} {k10 : Int32 → Nat → Hp → Rt Int32} (C : CX p l R s m args meth c D Hs cX1_objectors "Massclaim" 4 (some .int) [] 4 81) (K10 : ∀ (x1 : Int32) (x2 : Nat) (h : Hp) (H : Heap) (locs : List Loc) (cells slots : Nat) (ls : Array Slot), HP D Hs h H → LO Hs locs → lv_has ls 4 [(1, .int x1), (2, rv x2)] → k10 x1 x2 h = some rr → W p l e R s m args below meth c H locs cells slots (ZM D Hs iI rr below args s) (F0 m 10 ls [])) : ∀ (x2 : Nat) (y0 : Int32) (y1 : Int32) (h : Hp) (H : Heap) (locs : List Loc) (cells slots : Nat) (ls : Array Slot), HP D Hs h H → LO Hs locs → lv_has ls 4 [(2, rv x2)] → f_X1_objectors_49 k10 x2 y0 y1 h = some rr → W p l e R s m args below meth c H locs cells slots (ZM D Hs iI rr below args s) (F0 m 49 ls [.int y1, .int y0]) := by
  obtain ⟨⟨hx, hb, hml, hown, hts⟩, -⟩ := id C
  have hl9 := C.2.1.2.2.1
  intro x2 y0 y1 h H locs cells slots ls hH hL hl hrun
  unfold f_X1_objectors_49 at hrun
  refine lv_iadd (pc := 49) hx hb dX1_objectors_49 ?_
  refine lv_topi (fun v1 ev1 => ?_)
  have hrun := vl_at hrun v1 ev1
  refine lv_istore_n (i := 1) (lv' := [(1, .int v1), (2, rv x2)]) (pc := 50) hx hb dX1_objectors_50 rfl hl (by decide) rfl (fun ls hl => ?_)
  refine lv_goto (tgt := 10) (pc := 51) hx hb dX1_objectors_51 (by decide) ?_
  exact K10 v1 x2 h H locs cells slots ls hH hL (lv_sub hl [0, 1] rfl) hrun

theorem b_X1_objectors_48 {rr : (Int32 ⊕ Ex) × Hp} {k10 : Int32 → Nat → Hp → Rt Int32} (C : CX p l R s m args meth c D Hs cX1_objectors "Massclaim" 4 (some .int) [] 4 81) (K10 : ∀ (x1 : Int32) (x2 : Nat) (h : Hp) (H : Heap) (locs : List Loc) (cells slots : Nat) (ls : Array Slot), HP D Hs h H → LO Hs locs → lv_has ls 4 [(1, .int x1), (2, rv x2)] → k10 x1 x2 h = some rr → W p l e R s m args below meth c H locs cells slots (ZM D Hs iI rr below args s) (F0 m 10 ls [])) : ∀ (x2 : Nat) (y0 : Int32) (h : Hp) (H : Heap) (locs : List Loc) (cells slots : Nat) (ls : Array Slot), HP D Hs h H → LO Hs locs → lv_has ls 4 [(2, rv x2)] → f_X1_objectors_48 k10 x2 y0 h = some rr → W p l e R s m args below meth c H locs cells slots (ZM D Hs iI rr below args s) (F0 m 48 ls [.int y0]) := by
  obtain ⟨⟨hx, hb, hml, hown, hts⟩, -⟩ := id C
  have hl9 := C.2.1.2.2.1
  intro x2 y0 h H locs cells slots ls hH hL hl hrun
  unfold f_X1_objectors_48 at hrun
  refine lv_iconst (v := (0 : Int32)) (pc := 48) hx hb dX1_objectors_48 (by decide) ?_
  exact b_X1_objectors_49 C K10 x2 y0 (0 : Int32) h H locs cells slots ls hH hL (lv_sub hl [0] rfl) hrun

theorem b_X1_objectors_10 {rr : (Int32 ⊕ Ex) × Hp}  (C : CX p l R s m args meth c D Hs cX1_objectors "Massclaim" 4 (some .int) [] 4 81)  : ∀ (n : Nat) (x1 : Int32) (x2 : Nat) (h : Hp) (H : Heap) (locs : List Loc) (cells slots : Nat) (ls : Array Slot), HP D Hs h H → LO Hs locs → lv_has ls 4 [(1, .int x1), (2, rv x2)] → f_X1_objectors_10 n x1 x2 h = some rr → W p l e R s m args below meth c H locs cells slots (ZM D Hs iI rr below args s) (F0 m 10 ls []) := by
  obtain ⟨⟨hx, hb, hml, hown, hts⟩, -⟩ := id C
  have hl9 := C.2.1.2.2.1
  intro n
  induction n with
  | zero =>
    intro x1 x2 h H locs cells slots ls hH hL hl hrun
    cases (show (none : Option _) = some rr from hrun)
  | succ n ih =>
    intro x1 x2 h H locs cells slots ls hH hL hl hrun
    rw [f_X1_objectors_10] at hrun
    refine V_aload_n (pc := 10) hx hb dX1_objectors_10 rfl (lv_at hl 1 rfl) ?_
    obtain ⟨c4, hrun⟩ := gd_some hrun
    refine V_bd5 (pc := 11) C hL rfl hrun (fun rr1 e1 => Z_runF (rest := []) C hH (m_J16_hasNext hl9 e1) rfl wF_X1_212_J16 c4 (by decide) rfl ⟨by decide, by decide⟩ rfl (Nat.le_of_ble_eq_true rfl) hl.1 dX1_objectors_11) (fun v2 h3 H locs cells slots hH hL hrun => ?_)
    refine lv_if_eq (tgt := 54) (pc := 16) hx hb dX1_objectors_16 (by decide) (fun c_ => ?_) (fun c_ => ?_)
    · have hrun := ite_t hrun c_
      refine lv_iload_n (pc := 54) hx hb dX1_objectors_54 rfl (lv_at hl 0 rfl) ?_
      exact V_iret (pc := 55) C hH hL hrun dX1_objectors_55
    · have hrun := ite_f hrun c_
      refine V_aload_n (pc := 19) hx hb dX1_objectors_19 rfl (lv_at hl 1 rfl) ?_
      obtain ⟨c7, hrun⟩ := gd_some hrun
      refine V_bd5 (pc := 20) C hL rfl hrun (fun rr1 e1 => Z_runF (rest := []) C hH (m_J16_next hl9 e1) rfl wF_X1_217_J16 c7 (by decide) rfl ⟨by decide, by decide⟩ rfl (Nat.le_of_ble_eq_true rfl) hl.1 dX1_objectors_20) (fun v5 h6 H locs cells slots hH hL hrun => ?_)
      obtain ⟨c8, hrun⟩ := gd_some hrun
      refine V_castX (pc := 25) (ci := 4) C hH rfl (by decide) q376 dX1_objectors_25 c8 ?_
      refine V_astore_n (i := 3) (lv' := [(3, rv v5), (1, .int x1), (2, rv x2)]) (pc := 28) hx hb dX1_objectors_28 rfl hl (by decide) (by simp [rv_cat, cat_i, cat_l, cat_f, cat_d]) (fun ls hl => ?_)
      refine lv_iload_n (pc := 29) hx hb dX1_objectors_29 rfl (lv_at hl 1 rfl) ?_
      refine V_aload_n (pc := 30) hx hb dX1_objectors_30 rfl (lv_at hl 0 rfl) ?_
      obtain ⟨c9, hrun⟩ := gd_some hrun
      refine V_getNI (pc := 31) C hH fn_X1_365 dX1_objectors_31 c9 rfl ?_
      refine lv_if_eq (tgt := 48) (pc := 34) hx hb dX1_objectors_34 (by decide) (fun c_ => ?_) (fun c_ => ?_)
      · have hrun := ite_t hrun c_
        exact b_X1_objectors_48 C ih x2 x1 h6 H locs cells slots ls hH hL (lv_sub hl [2] rfl) hrun
      · have hrun := ite_f hrun c_
        refine V_aload_n (pc := 37) hx hb dX1_objectors_37 rfl (lv_at hl 0 rfl) ?_
        refine V_bd (pc := 38) C hL rfl hrun (fun rr1 e1 => Z_runV (rest := [.int x1]) C hH (m_X5_isMember hl9 e1) wV_X1_148 c9 rfl (by decide) rfl rfl ⟨by decide, by decide⟩ rfl (Nat.le_of_ble_eq_true rfl) hl.1 dX1_objectors_38) (fun v10 h11 H locs cells slots hH hL hrun => ?_)
        refine lv_if_eq (tgt := 48) (pc := 41) hx hb dX1_objectors_41 (by decide) (fun c_ => ?_) (fun c_ => ?_)
        · have hrun := ite_t hrun c_
          exact b_X1_objectors_48 C ih x2 x1 h11 H locs cells slots ls hH hL (lv_sub hl [2] rfl) hrun
        · have hrun := ite_f hrun c_
          refine lv_iconst (v := (1 : Int32)) (pc := 44) hx hb dX1_objectors_44 (by decide) ?_
          refine lv_goto (tgt := 49) (pc := 45) hx hb dX1_objectors_45 (by decide) ?_
          exact b_X1_objectors_49 C ih x2 x1 (1 : Int32) h11 H locs cells slots ls hH hL (lv_sub hl [2] rfl) hrun

theorem b_X1_objectors {rr : (Int32 ⊕ Ex) × Hp}  (C : CX p l R s m args meth c D Hs cX1_objectors "Massclaim" 4 (some .int) [] 4 81)  : ∀ (x0 : Nat) (h : Hp) (H : Heap) (locs : List Loc) (cells slots : Nat) (ls : Array Slot), HP D Hs h H → LO Hs locs → lv_has ls 4 [(0, rv x0)] → f_X1_objectors x0 h = some rr → W p l e R s m args below meth c H locs cells slots (ZM D Hs iI rr below args s) (F0 m 0 ls []) := by
  obtain ⟨⟨hx, hb, hml, hown, hts⟩, -⟩ := id C
  have hl9 := C.2.1.2.2.1
  intro x0 h H locs cells slots ls hH hL hl hrun
  unfold f_X1_objectors at hrun
  refine lv_iconst (v := (0 : Int32)) (pc := 0) hx hb dX1_objectors_0 (by decide) ?_
  refine lv_istore_n (i := 1) (lv' := [(1, .int (0 : Int32)), (0, rv x0)]) (pc := 1) hx hb dX1_objectors_1 rfl hl (by decide) (by simp [rv_cat, cat_i, cat_l, cat_f, cat_d]) (fun ls hl => ?_)
  refine V_aload_n (pc := 2) hx hb dX1_objectors_2 rfl (lv_at hl 1 rfl) ?_
  obtain ⟨c12, hrun⟩ := gd_some hrun
  refine V_getR (pc := 3) C hH fr_X1_42 dX1_objectors_3 c12 rfl ?_
  obtain ⟨c15, hrun⟩ := gd_some hrun
  refine V_bd (pc := 6) C hL rfl hrun (fun rr1 e1 => Z_runV (rest := []) C hH (m_X2_iterator hl9 e1) wV_X1_208 c15 rfl (by decide) rfl rfl ⟨by decide, by decide⟩ rfl (Nat.le_of_ble_eq_true rfl) hl.1 dX1_objectors_6) (fun v13 h14 H locs cells slots hH hL hrun => ?_)
  refine V_astore_n (i := 2) (lv' := [(2, rv v13), (1, .int (0 : Int32)), (0, rv x0)]) (pc := 9) hx hb dX1_objectors_9 rfl hl (by decide) rfl (fun ls hl => ?_)
  exact b_X1_objectors_10 C FU (0 : Int32) v13 h14 H locs cells slots ls hH hL (lv_sub hl [1, 0] rfl) hrun

theorem m_X1_objectors {l : Launch} {D : va_G} {Hs : Heap} {h : Hp} {rr : (Int32 ⊕ Ex) × Hp} (hl9 : l.stackTraces = false) {x0 : Nat} (hrun : f_X1_objectors x0 h = some rr) : CM l yX1_objectors (ws_ yX1_objectors cX1_objectors 4 (some .int)) 4 81 iI [rv x0] D Hs h rr := by
  refine CM.of (lv := [(0, rv x0)]) (plainFor_of_name (by decide)) hl9 (by simp [lv_args, rv_cat, cat_i, cat_l, cat_f, cat_d]) (by simp [lg_sl, rv_cat, cat_i, cat_l, cat_f, cat_d]) ?_
  intro p e R s m args below meth c H ls C hH hl hin
  exact b_X1_objectors C x0 _ H [] _ _ ls hH (fun _ q => nomatch q) (lv_sub hl [0] rfl) hrun

/-! Massclaim.looksAtDeal()V -/
def f_X1_looksAtDeal_149  (y0 : Int32) (h : Hp) : Rt Unit :=
  bd (f_X1_look y0 (-6 : Int32) h) fun _ h2 => some (.inl (), h2)
def f_X1_looksAtDeal_129  (x0 : Nat) (y0 : Int32) (h : Hp) : Rt Unit :=
  bd (f_X1_look y0 (-5 : Int32) h) fun _ h4 => gd (kC h4 x0 = 1) <| gd (kC h4 (kR h4 9 x0) = 10) <| if (kI h4 905 (kR h4 9 x0)) = 0 then
  (f_X1_looksAtDeal_149 (1 : Int32) h4)
  else
  (f_X1_looksAtDeal_149 (0 : Int32) h4)
def f_X1_looksAtDeal_96  (x0 : Nat) (y0 : Int32) (h : Hp) : Rt Unit :=
  bd (f_X1_look y0 (-3 : Int32) h) fun _ h8 => gd (kC h8 x0 = 1) <| bd (f_X1_areFor x0 h8) fun v9 h10 => bd (f_X1_look v9 (-4 : Int32) h10) fun _ h13 => gd (kC h13 x0 = 1) <| bd (f_X1_objectors x0 h13) fun v14 h15 => gd (kC h15 x0 = 1) <| bd (f_X1_members x0 h15) fun v17 h18 => if v17 < ((10 : Int32) * v14) then
  (f_X1_looksAtDeal_129 x0 (0 : Int32) h18)
  else
  (f_X1_looksAtDeal_129 x0 (1 : Int32) h18)
def f_X1_looksAtDeal_72  (x0 : Nat) (y0 : Int32) (h : Hp) : Rt Unit :=
  bd (f_X1_look y0 (-8 : Int32) h) fun _ h21 => gd (kC h21 x0 = 1) <| bd (f_X1_outs x0 h21) fun v22 h23 => gd (kC h23 x0 = 1) <| gd (kC h23 (kR h23 9 x0) = 10) <| if (kI h23 901 (kR h23 9 x0)) < v22 then
  (f_X1_looksAtDeal_96 x0 (0 : Int32) h23)
  else
  (f_X1_looksAtDeal_96 x0 (1 : Int32) h23)
def f_X1_looksAtDeal_44  (y0 : Int32) (h : Hp) : Rt Unit :=
  bd (f_X1_look y0 (-7 : Int32) h) fun _ h28 => some (.inl (), h28)
def f_X1_looksAtDeal_25  (x0 : Nat) (y0 : Int32) (h : Hp) : Rt Unit :=
  bd (f_X1_look y0 (-2 : Int32) h) fun _ h30 => gd (kC h30 x0 = 1) <| bd (f_X1_shares x0 h30) fun v31 h32 => if v31 = (100 : Int32) then
  (f_X1_looksAtDeal_44 (1 : Int32) h32)
  else
  (f_X1_looksAtDeal_44 (0 : Int32) h32)
def f_X1_looksAtDeal  (x0 : Nat) (h : Hp) : Rt Unit :=
  gd (kC h x0 = 1) <| gd (kC h (kR h 9 x0) = 10) <| if (kI h 903 (kR h 9 x0)) = (1 : Int32) then
  (bd (f_X1_reach x0 h) fun v36 h37 => if v36 < (70 : Int32) then
  (f_X1_looksAtDeal_25 x0 (0 : Int32) h37)
  else
  (f_X1_looksAtDeal_25 x0 (1 : Int32) h37))
  else
  (if ((kI h 18 x0) - (kI h 904 (kR h 9 x0))) < (60 : Int32) then
  (f_X1_looksAtDeal_72 x0 (0 : Int32) h)
  else
  (f_X1_looksAtDeal_72 x0 (1 : Int32) h))
theorem b_X1_looksAtDeal_149 {rr : (Unit ⊕ Ex) × Hp}  (C : CX p l R s m args meth c D Hs cX1_looksAtDeal "Massclaim" 1 none [] 22 542)  : ∀ (y0 : Int32) (h : Hp) (H : Heap) (locs : List Loc) (cells slots : Nat) (ls : Array Slot), HP D Hs h H → LO Hs locs → lv_has ls 1 [] → f_X1_looksAtDeal_149 y0 h = some rr → W p l e R s m args below meth c H locs cells slots (ZM D Hs iV rr below args s) (F0 m 149 ls [.int y0]) := by
  obtain ⟨⟨hx, hb, hml, hown, hts⟩, -⟩ := id C
  have hl9 := C.2.1.2.2.1
  intro y0 h H locs cells slots ls hH hL hl hrun
  unfold f_X1_looksAtDeal_149 at hrun
  refine lv_bipush (v := (-6 : Int32)) (pc := 149) hx hb dX1_looksAtDeal_149 (by decide) ?_
  refine V_bd (pc := 151) C hL rfl hrun (fun rr1 e1 => Z_runS (rest := []) C hH (m_X1_look hl9 e1) wS_X1_377 rfl ⟨by decide, by decide⟩ rfl (Nat.le_of_ble_eq_true rfl) hl.1 dX1_looksAtDeal_151) (fun _ h2 H locs cells slots hH hL hrun => ?_)
  exact V_vret (pc := 154) C hH hL hrun dX1_looksAtDeal_154

theorem b_X1_looksAtDeal_129 {rr : (Unit ⊕ Ex) × Hp}  (C : CX p l R s m args meth c D Hs cX1_looksAtDeal "Massclaim" 1 none [] 22 542)  : ∀ (x0 : Nat) (y0 : Int32) (h : Hp) (H : Heap) (locs : List Loc) (cells slots : Nat) (ls : Array Slot), HP D Hs h H → LO Hs locs → lv_has ls 1 [(0, rv x0)] → f_X1_looksAtDeal_129 x0 y0 h = some rr → W p l e R s m args below meth c H locs cells slots (ZM D Hs iV rr below args s) (F0 m 129 ls [.int y0]) := by
  obtain ⟨⟨hx, hb, hml, hown, hts⟩, -⟩ := id C
  have hl9 := C.2.1.2.2.1
  intro x0 y0 h H locs cells slots ls hH hL hl hrun
  unfold f_X1_looksAtDeal_129 at hrun
  refine lv_bipush (v := (-5 : Int32)) (pc := 129) hx hb dX1_looksAtDeal_129 (by decide) ?_
  refine V_bd (pc := 131) C hL rfl hrun (fun rr1 e1 => Z_runS (rest := []) C hH (m_X1_look hl9 e1) wS_X1_377 rfl ⟨by decide, by decide⟩ rfl (Nat.le_of_ble_eq_true rfl) hl.1 dX1_looksAtDeal_131) (fun _ h4 H locs cells slots hH hL hrun => ?_)
  refine V_aload_n (pc := 134) hx hb dX1_looksAtDeal_134 rfl (lv_at hl 0 rfl) ?_
  obtain ⟨c5, hrun⟩ := gd_some hrun
  refine V_getR (pc := 135) C hH fr_X1_84 dX1_looksAtDeal_135 c5 rfl ?_
  obtain ⟨c6, hrun⟩ := gd_some hrun
  refine V_getNI (pc := 138) C hH fn_X1_394 dX1_looksAtDeal_138 c6 rfl ?_
  refine lv_if_ne (tgt := 148) (pc := 141) hx hb dX1_looksAtDeal_141 (by decide) (fun c_ => ?_) (fun c_ => ?_)
  · have hrun := ite_f hrun c_
    refine lv_iconst (v := (0 : Int32)) (pc := 148) hx hb dX1_looksAtDeal_148 (by decide) ?_
    exact b_X1_looksAtDeal_149 C (0 : Int32) h4 H locs cells slots ls hH hL (lv_sub hl [] rfl) hrun
  · have hrun := ite_t hrun c_
    refine lv_iconst (v := (1 : Int32)) (pc := 144) hx hb dX1_looksAtDeal_144 (by decide) ?_
    refine lv_goto (tgt := 149) (pc := 145) hx hb dX1_looksAtDeal_145 (by decide) ?_
    exact b_X1_looksAtDeal_149 C (1 : Int32) h4 H locs cells slots ls hH hL (lv_sub hl [] rfl) hrun

theorem b_X1_looksAtDeal_96 {rr : (Unit ⊕ Ex) × Hp}  (C : CX p l R s m args meth c D Hs cX1_looksAtDeal "Massclaim" 1 none [] 22 542)  : ∀ (x0 : Nat) (y0 : Int32) (h : Hp) (H : Heap) (locs : List Loc) (cells slots : Nat) (ls : Array Slot), HP D Hs h H → LO Hs locs → lv_has ls 1 [(0, rv x0)] → f_X1_looksAtDeal_96 x0 y0 h = some rr → W p l e R s m args below meth c H locs cells slots (ZM D Hs iV rr below args s) (F0 m 96 ls [.int y0]) := by
  obtain ⟨⟨hx, hb, hml, hown, hts⟩, -⟩ := id C
  have hl9 := C.2.1.2.2.1
  intro x0 y0 h H locs cells slots ls hH hL hl hrun
  unfold f_X1_looksAtDeal_96 at hrun
  refine lv_bipush (v := (-3 : Int32)) (pc := 96) hx hb dX1_looksAtDeal_96 (by decide) ?_
  refine V_bd (pc := 98) C hL rfl hrun (fun rr1 e1 => Z_runS (rest := []) C hH (m_X1_look hl9 e1) wS_X1_377 rfl ⟨by decide, by decide⟩ rfl (Nat.le_of_ble_eq_true rfl) hl.1 dX1_looksAtDeal_98) (fun _ h8 H locs cells slots hH hL hrun => ?_)
  refine V_aload_n (pc := 101) hx hb dX1_looksAtDeal_101 rfl (lv_at hl 0 rfl) ?_
  obtain ⟨c11, hrun⟩ := gd_some hrun
  refine V_bd (pc := 102) C hL rfl hrun (fun rr1 e1 => Z_runV (rest := []) C hH (m_X1_areFor hl9 e1) wV_X1_388 c11 rfl (by decide) rfl rfl ⟨by decide, by decide⟩ rfl (Nat.le_of_ble_eq_true rfl) hl.1 dX1_looksAtDeal_102) (fun v9 h10 H locs cells slots hH hL hrun => ?_)
  refine lv_bipush (v := (-4 : Int32)) (pc := 105) hx hb dX1_looksAtDeal_105 (by decide) ?_
  refine V_bd (pc := 107) C hL rfl hrun (fun rr1 e1 => Z_runS (rest := []) C hH (m_X1_look hl9 e1) wS_X1_377 rfl ⟨by decide, by decide⟩ rfl (Nat.le_of_ble_eq_true rfl) hl.1 dX1_looksAtDeal_107) (fun _ h13 H locs cells slots hH hL hrun => ?_)
  refine lv_bipush (v := (10 : Int32)) (pc := 110) hx hb dX1_looksAtDeal_110 (by decide) ?_
  refine V_aload_n (pc := 112) hx hb dX1_looksAtDeal_112 rfl (lv_at hl 0 rfl) ?_
  obtain ⟨c16, hrun⟩ := gd_some hrun
  refine V_bd (pc := 113) C hL rfl hrun (fun rr1 e1 => Z_runV (rest := [.int (10 : Int32)]) C hH (m_X1_objectors hl9 e1) wV_X1_391 c16 rfl (by decide) rfl rfl ⟨by decide, by decide⟩ rfl (Nat.le_of_ble_eq_true rfl) hl.1 dX1_looksAtDeal_113) (fun v14 h15 H locs cells slots hH hL hrun => ?_)
  refine lv_imul (pc := 116) hx hb dX1_looksAtDeal_116 ?_
  refine V_aload_n (pc := 117) hx hb dX1_looksAtDeal_117 rfl (lv_at hl 0 rfl) ?_
  obtain ⟨c19, hrun⟩ := gd_some hrun
  refine V_bd (pc := 118) C hL rfl hrun (fun rr1 e1 => Z_runV (rest := [.int ((10 : Int32) * v14)]) C hH (m_X1_members hl9 e1) wV_X1_228 c19 rfl (by decide) rfl rfl ⟨by decide, by decide⟩ rfl (Nat.le_of_ble_eq_true rfl) hl.1 dX1_looksAtDeal_118) (fun v17 h18 H locs cells slots hH hL hrun => ?_)
  refine lv_icmp_gt (tgt := 128) (pc := 121) hx hb dX1_looksAtDeal_121 (by decide) (fun c_ => ?_) (fun c_ => ?_)
  · have hrun := ite_t hrun c_
    refine lv_iconst (v := (0 : Int32)) (pc := 128) hx hb dX1_looksAtDeal_128 (by decide) ?_
    exact b_X1_looksAtDeal_129 C x0 (0 : Int32) h18 H locs cells slots ls hH hL (lv_sub hl [0] rfl) hrun
  · have hrun := ite_f hrun c_
    refine lv_iconst (v := (1 : Int32)) (pc := 124) hx hb dX1_looksAtDeal_124 (by decide) ?_
    refine lv_goto (tgt := 129) (pc := 125) hx hb dX1_looksAtDeal_125 (by decide) ?_
    exact b_X1_looksAtDeal_129 C x0 (1 : Int32) h18 H locs cells slots ls hH hL (lv_sub hl [0] rfl) hrun

theorem b_X1_looksAtDeal_72 {rr : (Unit ⊕ Ex) × Hp}  (C : CX p l R s m args meth c D Hs cX1_looksAtDeal "Massclaim" 1 none [] 22 542)  : ∀ (x0 : Nat) (y0 : Int32) (h : Hp) (H : Heap) (locs : List Loc) (cells slots : Nat) (ls : Array Slot), HP D Hs h H → LO Hs locs → lv_has ls 1 [(0, rv x0)] → f_X1_looksAtDeal_72 x0 y0 h = some rr → W p l e R s m args below meth c H locs cells slots (ZM D Hs iV rr below args s) (F0 m 72 ls [.int y0]) := by
  obtain ⟨⟨hx, hb, hml, hown, hts⟩, -⟩ := id C
  have hl9 := C.2.1.2.2.1
  intro x0 y0 h H locs cells slots ls hH hL hl hrun
  unfold f_X1_looksAtDeal_72 at hrun
  refine lv_bipush (v := (-8 : Int32)) (pc := 72) hx hb dX1_looksAtDeal_72 (by decide) ?_
  refine V_bd (pc := 74) C hL rfl hrun (fun rr1 e1 => Z_runS (rest := []) C hH (m_X1_look hl9 e1) wS_X1_377 rfl ⟨by decide, by decide⟩ rfl (Nat.le_of_ble_eq_true rfl) hl.1 dX1_looksAtDeal_74) (fun _ h21 H locs cells slots hH hL hrun => ?_)
  refine V_aload_n (pc := 77) hx hb dX1_looksAtDeal_77 rfl (lv_at hl 0 rfl) ?_
  obtain ⟨c24, hrun⟩ := gd_some hrun
  refine V_bd (pc := 78) C hL rfl hrun (fun rr1 e1 => Z_runV (rest := []) C hH (m_X1_outs hl9 e1) wV_X1_384 c24 rfl (by decide) rfl rfl ⟨by decide, by decide⟩ rfl (Nat.le_of_ble_eq_true rfl) hl.1 dX1_looksAtDeal_78) (fun v22 h23 H locs cells slots hH hL hrun => ?_)
  refine V_aload_n (pc := 81) hx hb dX1_looksAtDeal_81 rfl (lv_at hl 0 rfl) ?_
  obtain ⟨c25, hrun⟩ := gd_some hrun
  refine V_getR (pc := 82) C hH fr_X1_84 dX1_looksAtDeal_82 c25 rfl ?_
  obtain ⟨c26, hrun⟩ := gd_some hrun
  refine V_getNI (pc := 85) C hH fn_X1_387 dX1_looksAtDeal_85 c26 rfl ?_
  refine lv_icmp_gt (tgt := 95) (pc := 88) hx hb dX1_looksAtDeal_88 (by decide) (fun c_ => ?_) (fun c_ => ?_)
  · have hrun := ite_t hrun c_
    refine lv_iconst (v := (0 : Int32)) (pc := 95) hx hb dX1_looksAtDeal_95 (by decide) ?_
    exact b_X1_looksAtDeal_96 C x0 (0 : Int32) h23 H locs cells slots ls hH hL (lv_sub hl [0] rfl) hrun
  · have hrun := ite_f hrun c_
    refine lv_iconst (v := (1 : Int32)) (pc := 91) hx hb dX1_looksAtDeal_91 (by decide) ?_
    refine lv_goto (tgt := 96) (pc := 92) hx hb dX1_looksAtDeal_92 (by decide) ?_
    exact b_X1_looksAtDeal_96 C x0 (1 : Int32) h23 H locs cells slots ls hH hL (lv_sub hl [0] rfl) hrun

theorem b_X1_looksAtDeal_44 {rr : (Unit ⊕ Ex) × Hp}  (C : CX p l R s m args meth c D Hs cX1_looksAtDeal "Massclaim" 1 none [] 22 542)  : ∀ (y0 : Int32) (h : Hp) (H : Heap) (locs : List Loc) (cells slots : Nat) (ls : Array Slot), HP D Hs h H → LO Hs locs → lv_has ls 1 [] → f_X1_looksAtDeal_44 y0 h = some rr → W p l e R s m args below meth c H locs cells slots (ZM D Hs iV rr below args s) (F0 m 44 ls [.int y0]) := by
  obtain ⟨⟨hx, hb, hml, hown, hts⟩, -⟩ := id C
  have hl9 := C.2.1.2.2.1
  intro y0 h H locs cells slots ls hH hL hl hrun
  unfold f_X1_looksAtDeal_44 at hrun
  refine lv_bipush (v := (-7 : Int32)) (pc := 44) hx hb dX1_looksAtDeal_44 (by decide) ?_
  refine V_bd (pc := 46) C hL rfl hrun (fun rr1 e1 => Z_runS (rest := []) C hH (m_X1_look hl9 e1) wS_X1_377 rfl ⟨by decide, by decide⟩ rfl (Nat.le_of_ble_eq_true rfl) hl.1 dX1_looksAtDeal_46) (fun _ h28 H locs cells slots hH hL hrun => ?_)
  exact V_vret (pc := 49) C hH hL hrun dX1_looksAtDeal_49

theorem b_X1_looksAtDeal_25 {rr : (Unit ⊕ Ex) × Hp}  (C : CX p l R s m args meth c D Hs cX1_looksAtDeal "Massclaim" 1 none [] 22 542)  : ∀ (x0 : Nat) (y0 : Int32) (h : Hp) (H : Heap) (locs : List Loc) (cells slots : Nat) (ls : Array Slot), HP D Hs h H → LO Hs locs → lv_has ls 1 [(0, rv x0)] → f_X1_looksAtDeal_25 x0 y0 h = some rr → W p l e R s m args below meth c H locs cells slots (ZM D Hs iV rr below args s) (F0 m 25 ls [.int y0]) := by
  obtain ⟨⟨hx, hb, hml, hown, hts⟩, -⟩ := id C
  have hl9 := C.2.1.2.2.1
  intro x0 y0 h H locs cells slots ls hH hL hl hrun
  unfold f_X1_looksAtDeal_25 at hrun
  refine lv_bipush (v := (-2 : Int32)) (pc := 25) hx hb dX1_looksAtDeal_25 (by decide) ?_
  refine V_bd (pc := 27) C hL rfl hrun (fun rr1 e1 => Z_runS (rest := []) C hH (m_X1_look hl9 e1) wS_X1_377 rfl ⟨by decide, by decide⟩ rfl (Nat.le_of_ble_eq_true rfl) hl.1 dX1_looksAtDeal_27) (fun _ h30 H locs cells slots hH hL hrun => ?_)
  refine V_aload_n (pc := 30) hx hb dX1_looksAtDeal_30 rfl (lv_at hl 0 rfl) ?_
  obtain ⟨c33, hrun⟩ := gd_some hrun
  refine V_bd (pc := 31) C hL rfl hrun (fun rr1 e1 => Z_runV (rest := []) C hH (m_X1_shares hl9 e1) wV_X1_318 c33 rfl (by decide) rfl rfl ⟨by decide, by decide⟩ rfl (Nat.le_of_ble_eq_true rfl) hl.1 dX1_looksAtDeal_31) (fun v31 h32 H locs cells slots hH hL hrun => ?_)
  refine lv_bipush (v := (100 : Int32)) (pc := 34) hx hb dX1_looksAtDeal_34 (by decide) ?_
  refine lv_icmp_ne (tgt := 43) (pc := 36) hx hb dX1_looksAtDeal_36 (by decide) (fun c_ => ?_) (fun c_ => ?_)
  · have hrun := ite_f hrun c_
    refine lv_iconst (v := (0 : Int32)) (pc := 43) hx hb dX1_looksAtDeal_43 (by decide) ?_
    exact b_X1_looksAtDeal_44 C (0 : Int32) h32 H locs cells slots ls hH hL (lv_sub hl [] rfl) hrun
  · have hrun := ite_t hrun c_
    refine lv_iconst (v := (1 : Int32)) (pc := 39) hx hb dX1_looksAtDeal_39 (by decide) ?_
    refine lv_goto (tgt := 44) (pc := 40) hx hb dX1_looksAtDeal_40 (by decide) ?_
    exact b_X1_looksAtDeal_44 C (1 : Int32) h32 H locs cells slots ls hH hL (lv_sub hl [] rfl) hrun

theorem b_X1_looksAtDeal {rr : (Unit ⊕ Ex) × Hp}  (C : CX p l R s m args meth c D Hs cX1_looksAtDeal "Massclaim" 1 none [] 22 542)  : ∀ (x0 : Nat) (h : Hp) (H : Heap) (locs : List Loc) (cells slots : Nat) (ls : Array Slot), HP D Hs h H → LO Hs locs → lv_has ls 1 [(0, rv x0)] → f_X1_looksAtDeal x0 h = some rr → W p l e R s m args below meth c H locs cells slots (ZM D Hs iV rr below args s) (F0 m 0 ls []) := by
  obtain ⟨⟨hx, hb, hml, hown, hts⟩, -⟩ := id C
  have hl9 := C.2.1.2.2.1
  intro x0 h H locs cells slots ls hH hL hl hrun
  unfold f_X1_looksAtDeal at hrun
  refine V_aload_n (pc := 0) hx hb dX1_looksAtDeal_0 rfl (lv_at hl 0 rfl) ?_
  obtain ⟨c34, hrun⟩ := gd_some hrun
  refine V_getR (pc := 1) C hH fr_X1_84 dX1_looksAtDeal_1 c34 rfl ?_
  obtain ⟨c35, hrun⟩ := gd_some hrun
  refine V_getNI (pc := 4) C hH fn_X1_118 dX1_looksAtDeal_4 c35 rfl ?_
  refine lv_iconst (v := (1 : Int32)) (pc := 7) hx hb dX1_looksAtDeal_7 (by decide) ?_
  refine lv_icmp_ne (tgt := 50) (pc := 8) hx hb dX1_looksAtDeal_8 (by decide) (fun c_ => ?_) (fun c_ => ?_)
  · have hrun := ite_f hrun c_
    refine V_aload_n (pc := 50) hx hb dX1_looksAtDeal_50 rfl (lv_at hl 0 rfl) ?_
    refine V_getI (pc := 51) C hH fr_X1_115 dX1_looksAtDeal_51 c34 rfl ?_
    refine V_aload_n (pc := 54) hx hb dX1_looksAtDeal_54 rfl (lv_at hl 0 rfl) ?_
    refine V_getR (pc := 55) C hH fr_X1_84 dX1_looksAtDeal_55 c34 rfl ?_
    refine V_getNI (pc := 58) C hH fn_X1_381 dX1_looksAtDeal_58 c35 rfl ?_
    refine lv_isub (pc := 61) hx hb dX1_looksAtDeal_61 ?_
    refine lv_bipush (v := (60 : Int32)) (pc := 62) hx hb dX1_looksAtDeal_62 (by decide) ?_
    refine lv_icmp_lt (tgt := 71) (pc := 64) hx hb dX1_looksAtDeal_64 (by decide) (fun c_ => ?_) (fun c_ => ?_)
    · have hrun := ite_t hrun c_
      refine lv_iconst (v := (0 : Int32)) (pc := 71) hx hb dX1_looksAtDeal_71 (by decide) ?_
      exact b_X1_looksAtDeal_72 C x0 (0 : Int32) h H locs cells slots ls hH hL (lv_sub hl [0] rfl) hrun
    · have hrun := ite_f hrun c_
      refine lv_iconst (v := (1 : Int32)) (pc := 67) hx hb dX1_looksAtDeal_67 (by decide) ?_
      refine lv_goto (tgt := 72) (pc := 68) hx hb dX1_looksAtDeal_68 (by decide) ?_
      exact b_X1_looksAtDeal_72 C x0 (1 : Int32) h H locs cells slots ls hH hL (lv_sub hl [0] rfl) hrun
  · have hrun := ite_t hrun c_
    refine V_aload_n (pc := 11) hx hb dX1_looksAtDeal_11 rfl (lv_at hl 0 rfl) ?_
    refine V_bd (pc := 12) C hL rfl hrun (fun rr1 e1 => Z_runV (rest := []) C hH (m_X1_reach hl9 e1) wV_X1_374 c34 rfl (by decide) rfl rfl ⟨by decide, by decide⟩ rfl (Nat.le_of_ble_eq_true rfl) hl.1 dX1_looksAtDeal_12) (fun v36 h37 H locs cells slots hH hL hrun => ?_)
    refine lv_bipush (v := (70 : Int32)) (pc := 15) hx hb dX1_looksAtDeal_15 (by decide) ?_
    refine lv_icmp_lt (tgt := 24) (pc := 17) hx hb dX1_looksAtDeal_17 (by decide) (fun c_ => ?_) (fun c_ => ?_)
    · have hrun := ite_t hrun c_
      refine lv_iconst (v := (0 : Int32)) (pc := 24) hx hb dX1_looksAtDeal_24 (by decide) ?_
      exact b_X1_looksAtDeal_25 C x0 (0 : Int32) h37 H locs cells slots ls hH hL (lv_sub hl [0] rfl) hrun
    · have hrun := ite_f hrun c_
      refine lv_iconst (v := (1 : Int32)) (pc := 20) hx hb dX1_looksAtDeal_20 (by decide) ?_
      refine lv_goto (tgt := 25) (pc := 21) hx hb dX1_looksAtDeal_21 (by decide) ?_
      exact b_X1_looksAtDeal_25 C x0 (1 : Int32) h37 H locs cells slots ls hH hL (lv_sub hl [0] rfl) hrun

theorem m_X1_looksAtDeal {l : Launch} {D : va_G} {Hs : Heap} {h : Hp} {rr : (Unit ⊕ Ex) × Hp} (hl9 : l.stackTraces = false) {x0 : Nat} (hrun : f_X1_looksAtDeal x0 h = some rr) : CM l yX1_looksAtDeal (ws_ yX1_looksAtDeal cX1_looksAtDeal 1 none) 22 542 iV [rv x0] D Hs h rr := by
  refine CM.of (lv := [(0, rv x0)]) (plainFor_of_name (by decide)) hl9 (by simp [lv_args, rv_cat, cat_i, cat_l, cat_f, cat_d]) (by simp [lg_sl, rv_cat, cat_i, cat_l, cat_f, cat_d]) ?_
  intro p e R s m args below meth c H ls C hH hl hin
  exact b_X1_looksAtDeal C x0 _ H [] _ _ ls hH (fun _ q => nomatch q) (lv_sub hl [0] rfl) hrun

/-! Massclaim.becomesFinal()V -/
def f_X1_becomesFinal_176 (k101 : Nat → Nat → Hp → Rt Unit) (x0 : Nat) (x3 : Nat) (y0 : Int32) (h : Hp) : Rt Unit :=
  k101 x0 x3 h
def f_X1_becomesFinal_175 (k101 : Nat → Nat → Hp → Rt Unit) (x0 : Nat) (x3 : Nat) (h : Hp) : Rt Unit :=
  f_X1_becomesFinal_176 k101 x0 x3 (0 : Int32) h
def f_X1_becomesFinal_144 (k101 : Nat → Nat → Hp → Rt Unit) (x0 : Nat) (x3 : Nat) (x4 : Nat) (x5 : Int64) (y0 : Nat) (y1 : Int64) (h : Hp) : Rt Unit :=
  gd (kC h y0 = 8) <| vl (sL h 703 y0 y1) fun h2 => gd (kC h2 x4 = 8) <| if (kI h2 705 x4) = 0 then
  (f_X1_becomesFinal_175 k101 x0 x3 h2)
  else
  (if x5 ≤ (0 : Int64) then
  (f_X1_becomesFinal_175 k101 x0 x3 h2)
  else
  (gd (kC h2 x0 = 1) <| bd (f_X1_bears x0 x5 h2) fun v4 h5 => if v4 = 0 then
  (f_X1_becomesFinal_175 k101 x0 x3 h5)
  else
  (f_X1_becomesFinal_176 k101 x0 x3 (1 : Int32) h5)))
def f_X1_becomesFinal_101  : Nat → Nat → Nat → Hp → Rt Unit
  | 0, _, _, _ => none
  | n + 1, x0, x3, h => gd (kC h x3 = 19) <| bd (f_J16_hasNext x3 h) fun v7 h8 => if v7 = 0 then
  (some (.inl (), h8))
  else
  (gd (kC h8 x3 = 19) <| bd (f_J16_next x3 h8) fun v10 h11 => gd (v10 = 0 ∨ kC h11 v10 = 8) <| gd (kC h11 v10 = 8) <| vl (kL h11 703 v10) fun v15 => if (kI h11 705 v10) = 0 then
  (f_X1_becomesFinal_144 (f_X1_becomesFinal_101 n) x0 x3 v10 v15 v10 v15 h11)
  else
  (f_X1_becomesFinal_144 (f_X1_becomesFinal_101 n) x0 x3 v10 v15 v10 (0 : Int64) h11))
def f_X1_becomesFinal_17  : Nat → Nat → Int64 → Nat → Hp → Rt Unit
  | 0, _, _, _, _ => none
  | n + 1, x0, x1, x3, h => gd (kC h x3 = 19) <| bd (f_J16_hasNext x3 h) fun v16 h17 => if v16 = 0 then
  (gd (kC h17 x0 = 1) <| gd (kC h17 (kR h17 2 x0) = 2) <| bd (f_X2_at (kR h17 2 x0) (0 : Int32) h17) fun v20 h21 => gd (v20 = 0 ∨ kC h21 v20 = 8) <| gd (kC h21 v20 = 8) <| vl (sL h21 703 v20 ((kL h21 703 v20) + x1)) fun h25 => gd (kC h25 x0 = 1) <| gd (kC h25 (kR h25 2 x0) = 2) <| bd (f_X2_iterator (kR h25 2 x0) h25) fun v27 h28 => f_X1_becomesFinal_101 FU x0 v27 h28)
  else
  (gd (kC h17 x3 = 19) <| bd (f_J16_next x3 h17) fun v30 h31 => gd (v30 = 0 ∨ kC h31 v30 = 8) <| gd (kC h31 x0 = 1) <| gd (kC h31 (kR h31 9 x0) = 10) <| gd (kC h31 v30 = 8) <| bd (f_X1_part ((kI h31 900 (kR h31 9 x0)).toInt64) ((kI h31 701 v30).toInt64) (100 : Int64) h31) fun v37 h38 => gd (kC h38 v30 = 8) <| vl (sL h38 703 v30 v37) fun h40 => gd (kC h40 v30 = 8) <| vl (x1 - (kL h40 703 v30)) fun v42 => f_X1_becomesFinal_17 n x0 v42 x3 h40)
def f_X1_becomesFinal  (x0 : Nat) (h : Hp) : Rt Unit :=
  gd (kC h x0 = 1) <| gd (kC h (kR h 9 x0) = 10) <| vl ((kI h 900 (kR h 9 x0)).toInt64) fun v45 => gd (kC h (kR h 2 x0) = 2) <| bd (f_X2_iterator (kR h 2 x0) h) fun v46 h47 => f_X1_becomesFinal_17 FU x0 v45 v46 h47
theorem b_X1_becomesFinal_176 {rr : (Unit ⊕ Ex) × Hp} {k101 : Nat → Nat → Hp → Rt Unit} (C : CX p l R s m args meth c D Hs cX1_becomesFinal "Massclaim" 8 none [] 9 360) (K101 : ∀ (x0 : Nat) (x3 : Nat) (h : Hp) (H : Heap) (locs : List Loc) (cells slots : Nat) (ls : Array Slot), HP D Hs h H → LO Hs locs → lv_has ls 8 [(0, rv x0), (3, rv x3)] → k101 x0 x3 h = some rr → W p l e R s m args below meth c H locs cells slots (ZM D Hs iV rr below args s) (F0 m 101 ls [])) : ∀ (x0 : Nat) (x3 : Nat) (y0 : Int32) (h : Hp) (H : Heap) (locs : List Loc) (cells slots : Nat) (ls : Array Slot), HP D Hs h H → LO Hs locs → lv_has ls 8 [(0, rv x0), (3, rv x3)] → f_X1_becomesFinal_176 k101 x0 x3 y0 h = some rr → W p l e R s m args below meth c H locs cells slots (ZM D Hs iV rr below args s) (F0 m 176 ls [.int y0]) := by
  obtain ⟨⟨hx, hb, hml, hown, hts⟩, -⟩ := id C
  have hl9 := C.2.1.2.2.1
  intro x0 x3 y0 h H locs cells slots ls hH hL hl hrun
  unfold f_X1_becomesFinal_176 at hrun
  refine lv_istore (i := 7) (lv' := [(7, .int y0), (0, rv x0), (3, rv x3)]) (pc := 176) hx hb dX1_becomesFinal_176 hl (by decide) rfl (fun ls hl => ?_)
  refine lv_goto (tgt := 101) (pc := 178) hx hb dX1_becomesFinal_178 (by decide) ?_
  exact K101 x0 x3 h H locs cells slots ls hH hL (lv_sub hl [1, 2] rfl) hrun

theorem b_X1_becomesFinal_175 {rr : (Unit ⊕ Ex) × Hp} {k101 : Nat → Nat → Hp → Rt Unit} (C : CX p l R s m args meth c D Hs cX1_becomesFinal "Massclaim" 8 none [] 9 360) (K101 : ∀ (x0 : Nat) (x3 : Nat) (h : Hp) (H : Heap) (locs : List Loc) (cells slots : Nat) (ls : Array Slot), HP D Hs h H → LO Hs locs → lv_has ls 8 [(0, rv x0), (3, rv x3)] → k101 x0 x3 h = some rr → W p l e R s m args below meth c H locs cells slots (ZM D Hs iV rr below args s) (F0 m 101 ls [])) : ∀ (x0 : Nat) (x3 : Nat) (h : Hp) (H : Heap) (locs : List Loc) (cells slots : Nat) (ls : Array Slot), HP D Hs h H → LO Hs locs → lv_has ls 8 [(0, rv x0), (3, rv x3)] → f_X1_becomesFinal_175 k101 x0 x3 h = some rr → W p l e R s m args below meth c H locs cells slots (ZM D Hs iV rr below args s) (F0 m 175 ls []) := by
  obtain ⟨⟨hx, hb, hml, hown, hts⟩, -⟩ := id C
  have hl9 := C.2.1.2.2.1
  intro x0 x3 h H locs cells slots ls hH hL hl hrun
  unfold f_X1_becomesFinal_175 at hrun
  refine lv_iconst (v := (0 : Int32)) (pc := 175) hx hb dX1_becomesFinal_175 (by decide) ?_
  exact b_X1_becomesFinal_176 C K101 x0 x3 (0 : Int32) h H locs cells slots ls hH hL (lv_sub hl [0, 1] rfl) hrun

theorem b_X1_becomesFinal_144 {rr : (Unit ⊕ Ex) × Hp} {k101 : Nat → Nat → Hp → Rt Unit} (C : CX p l R s m args meth c D Hs cX1_becomesFinal "Massclaim" 8 none [] 9 360) (K101 : ∀ (x0 : Nat) (x3 : Nat) (h : Hp) (H : Heap) (locs : List Loc) (cells slots : Nat) (ls : Array Slot), HP D Hs h H → LO Hs locs → lv_has ls 8 [(0, rv x0), (3, rv x3)] → k101 x0 x3 h = some rr → W p l e R s m args below meth c H locs cells slots (ZM D Hs iV rr below args s) (F0 m 101 ls [])) : ∀ (x0 : Nat) (x3 : Nat) (x4 : Nat) (x5 : Int64) (y0 : Nat) (y1 : Int64) (h : Hp) (H : Heap) (locs : List Loc) (cells slots : Nat) (ls : Array Slot), HP D Hs h H → LO Hs locs → lv_has ls 8 [(0, rv x0), (3, rv x3), (4, rv x4), (5, .long x5)] → f_X1_becomesFinal_144 k101 x0 x3 x4 x5 y0 y1 h = some rr → W p l e R s m args below meth c H locs cells slots (ZM D Hs iV rr below args s) (F0 m 144 ls [.long y1, rv y0]) := by
  obtain ⟨⟨hx, hb, hml, hown, hts⟩, -⟩ := id C
  have hl9 := C.2.1.2.2.1
  intro x0 x3 x4 x5 y0 y1 h H locs cells slots ls hH hL hl hrun
  unfold f_X1_becomesFinal_144 at hrun
  obtain ⟨c1, hrun⟩ := gd_some hrun
  refine V_putNL (pc := 144) C hH hL fn_X1_329 dX1_becomesFinal_144 c1 (fok_l _) rfl hrun (fun h2 H locs hH hL hrun => ?_)
  refine V_aload (pc := 147) hx hb dX1_becomesFinal_147 (lv_at hl 2 rfl) ?_
  obtain ⟨c3, hrun⟩ := gd_some hrun
  refine V_getNI (pc := 149) C hH fn_X1_326 dX1_becomesFinal_149 c3 rfl ?_
  refine lv_if_eq (tgt := 175) (pc := 152) hx hb dX1_becomesFinal_152 (by decide) (fun c_ => ?_) (fun c_ => ?_)
  · have hrun := ite_t hrun c_
    exact b_X1_becomesFinal_175 C K101 x0 x3 h2 H locs cells slots ls hH hL (lv_sub hl [0, 1] rfl) hrun
  · have hrun := ite_f hrun c_
    refine lv_lload (pc := 155) hx hb dX1_becomesFinal_155 (lv_at hl 3 rfl) ?_
    refine lv_lconst (v := (0 : Int64)) (pc := 157) hx hb dX1_becomesFinal_157 (by decide) ?_
    refine V_lcmp_le (tgt := 175) (pc := 158) hx hb dX1_becomesFinal_158 dX1_becomesFinal_159 (by decide) (fun c_ => ?_) (fun c_ => ?_)
    · have hrun := ite_t hrun c_
      exact b_X1_becomesFinal_175 C K101 x0 x3 h2 H locs cells slots ls hH hL (lv_sub hl [0, 1] rfl) hrun
    · have hrun := ite_f hrun c_
      refine V_aload_n (pc := 162) hx hb dX1_becomesFinal_162 rfl (lv_at hl 0 rfl) ?_
      refine lv_lload (pc := 163) hx hb dX1_becomesFinal_163 (lv_at hl 3 rfl) ?_
      obtain ⟨c6, hrun⟩ := gd_some hrun
      refine V_bd (pc := 165) C hL rfl hrun (fun rr1 e1 => Z_runV (rest := []) C hH (m_X1_bears hl9 e1) wV_X1_355 c6 rfl (by decide) rfl rfl ⟨by decide, by decide⟩ rfl (Nat.le_of_ble_eq_true rfl) hl.1 dX1_becomesFinal_165) (fun v4 h5 H locs cells slots hH hL hrun => ?_)
      refine lv_if_eq (tgt := 175) (pc := 168) hx hb dX1_becomesFinal_168 (by decide) (fun c_ => ?_) (fun c_ => ?_)
      · have hrun := ite_t hrun c_
        exact b_X1_becomesFinal_175 C K101 x0 x3 h5 H locs cells slots ls hH hL (lv_sub hl [0, 1] rfl) hrun
      · have hrun := ite_f hrun c_
        refine lv_iconst (v := (1 : Int32)) (pc := 171) hx hb dX1_becomesFinal_171 (by decide) ?_
        refine lv_goto (tgt := 176) (pc := 172) hx hb dX1_becomesFinal_172 (by decide) ?_
        exact b_X1_becomesFinal_176 C K101 x0 x3 (1 : Int32) h5 H locs cells slots ls hH hL (lv_sub hl [0, 1] rfl) hrun

theorem b_X1_becomesFinal_101 {rr : (Unit ⊕ Ex) × Hp}  (C : CX p l R s m args meth c D Hs cX1_becomesFinal "Massclaim" 8 none [] 9 360)  : ∀ (n : Nat) (x0 : Nat) (x3 : Nat) (h : Hp) (H : Heap) (locs : List Loc) (cells slots : Nat) (ls : Array Slot), HP D Hs h H → LO Hs locs → lv_has ls 8 [(0, rv x0), (3, rv x3)] → f_X1_becomesFinal_101 n x0 x3 h = some rr → W p l e R s m args below meth c H locs cells slots (ZM D Hs iV rr below args s) (F0 m 101 ls []) := by
  obtain ⟨⟨hx, hb, hml, hown, hts⟩, -⟩ := id C
  have hl9 := C.2.1.2.2.1
  intro n
  induction n with
  | zero =>
    intro x0 x3 h H locs cells slots ls hH hL hl hrun
    cases (show (none : Option _) = some rr from hrun)
  | succ n ih =>
    intro x0 x3 h H locs cells slots ls hH hL hl hrun
    rw [f_X1_becomesFinal_101] at hrun
    refine V_aload_n (pc := 101) hx hb dX1_becomesFinal_101 rfl (lv_at hl 1 rfl) ?_
    obtain ⟨c9, hrun⟩ := gd_some hrun
    refine V_bd5 (pc := 102) C hL rfl hrun (fun rr1 e1 => Z_runF (rest := []) C hH (m_J16_hasNext hl9 e1) rfl wF_X1_212_J16 c9 (by decide) rfl ⟨by decide, by decide⟩ rfl (Nat.le_of_ble_eq_true rfl) hl.1 dX1_becomesFinal_102) (fun v7 h8 H locs cells slots hH hL hrun => ?_)
    refine lv_if_eq (tgt := 181) (pc := 107) hx hb dX1_becomesFinal_107 (by decide) (fun c_ => ?_) (fun c_ => ?_)
    · have hrun := ite_t hrun c_
      exact V_vret (pc := 181) C hH hL hrun dX1_becomesFinal_181
    · have hrun := ite_f hrun c_
      refine V_aload_n (pc := 110) hx hb dX1_becomesFinal_110 rfl (lv_at hl 1 rfl) ?_
      obtain ⟨c12, hrun⟩ := gd_some hrun
      refine V_bd5 (pc := 111) C hL rfl hrun (fun rr1 e1 => Z_runF (rest := []) C hH (m_J16_next hl9 e1) rfl wF_X1_217_J16 c12 (by decide) rfl ⟨by decide, by decide⟩ rfl (Nat.le_of_ble_eq_true rfl) hl.1 dX1_becomesFinal_111) (fun v10 h11 H locs cells slots hH hL hrun => ?_)
      obtain ⟨c13, hrun⟩ := gd_some hrun
      refine V_castX (pc := 116) (ci := 7) C hH rfl (by decide) q363 dX1_becomesFinal_116 c13 ?_
      refine V_astore (i := 4) (lv' := [(4, rv v10), (0, rv x0), (3, rv x3)]) (pc := 119) hx hb dX1_becomesFinal_119 hl (by decide) (by simp [rv_cat, cat_i, cat_l, cat_f, cat_d]) (fun ls hl => ?_)
      refine V_aload (pc := 121) hx hb dX1_becomesFinal_121 (lv_at hl 0 rfl) ?_
      obtain ⟨c14, hrun⟩ := gd_some hrun
      refine V_getNL (pc := 123) C hH fn_X1_329 dX1_becomesFinal_123 c14 rfl ?_
      refine lv_topl (fun v15 ev15 => ?_)
      have hrun := vl_at hrun v15 ev15
      refine lv_lstore (i := 5) (lv' := [(5, .long v15), (4, rv v10), (0, rv x0), (3, rv x3)]) (pc := 126) hx hb dX1_becomesFinal_126 hl (by decide) (by simp [rv_cat, cat_i, cat_l, cat_f, cat_d]) (fun ls hl => ?_)
      refine V_aload (pc := 128) hx hb dX1_becomesFinal_128 (lv_at hl 1 rfl) ?_
      refine V_aload (pc := 130) hx hb dX1_becomesFinal_130 (lv_at hl 1 rfl) ?_
      refine V_getNI (pc := 132) C hH fn_X1_326 dX1_becomesFinal_132 c14 rfl ?_
      refine lv_if_eq (tgt := 142) (pc := 135) hx hb dX1_becomesFinal_135 (by decide) (fun c_ => ?_) (fun c_ => ?_)
      · have hrun := ite_t hrun c_
        refine lv_lload (pc := 142) hx hb dX1_becomesFinal_142 (lv_at hl 0 rfl) ?_
        exact b_X1_becomesFinal_144 C ih x0 x3 v10 v15 v10 v15 h11 H locs cells slots ls hH hL (lv_sub hl [2, 3, 1, 0] rfl) hrun
      · have hrun := ite_f hrun c_
        refine lv_lconst (v := (0 : Int64)) (pc := 138) hx hb dX1_becomesFinal_138 (by decide) ?_
        refine lv_goto (tgt := 144) (pc := 139) hx hb dX1_becomesFinal_139 (by decide) ?_
        exact b_X1_becomesFinal_144 C ih x0 x3 v10 v15 v10 (0 : Int64) h11 H locs cells slots ls hH hL (lv_sub hl [2, 3, 1, 0] rfl) hrun

theorem b_X1_becomesFinal_17 {rr : (Unit ⊕ Ex) × Hp}  (C : CX p l R s m args meth c D Hs cX1_becomesFinal "Massclaim" 8 none [] 9 360)  : ∀ (n : Nat) (x0 : Nat) (x1 : Int64) (x3 : Nat) (h : Hp) (H : Heap) (locs : List Loc) (cells slots : Nat) (ls : Array Slot), HP D Hs h H → LO Hs locs → lv_has ls 8 [(0, rv x0), (1, .long x1), (3, rv x3)] → f_X1_becomesFinal_17 n x0 x1 x3 h = some rr → W p l e R s m args below meth c H locs cells slots (ZM D Hs iV rr below args s) (F0 m 17 ls []) := by
  obtain ⟨⟨hx, hb, hml, hown, hts⟩, -⟩ := id C
  have hl9 := C.2.1.2.2.1
  intro n
  induction n with
  | zero =>
    intro x0 x1 x3 h H locs cells slots ls hH hL hl hrun
    cases (show (none : Option _) = some rr from hrun)
  | succ n ih =>
    intro x0 x1 x3 h H locs cells slots ls hH hL hl hrun
    rw [f_X1_becomesFinal_17] at hrun
    refine V_aload_n (pc := 17) hx hb dX1_becomesFinal_17 rfl (lv_at hl 2 rfl) ?_
    obtain ⟨c18, hrun⟩ := gd_some hrun
    refine V_bd5 (pc := 18) C hL rfl hrun (fun rr1 e1 => Z_runF (rest := []) C hH (m_J16_hasNext hl9 e1) rfl wF_X1_212_J16 c18 (by decide) rfl ⟨by decide, by decide⟩ rfl (Nat.le_of_ble_eq_true rfl) hl.1 dX1_becomesFinal_18) (fun v16 h17 H locs cells slots hH hL hrun => ?_)
    refine lv_if_eq (tgt := 73) (pc := 23) hx hb dX1_becomesFinal_23 (by decide) (fun c_ => ?_) (fun c_ => ?_)
    · have hrun := ite_t hrun c_
      refine V_aload_n (pc := 73) hx hb dX1_becomesFinal_73 rfl (lv_at hl 0 rfl) ?_
      obtain ⟨c19, hrun⟩ := gd_some hrun
      refine V_getR (pc := 74) C hH fr_X1_49 dX1_becomesFinal_74 c19 rfl ?_
      refine lv_iconst (v := (0 : Int32)) (pc := 77) hx hb dX1_becomesFinal_77 (by decide) ?_
      obtain ⟨c22, hrun⟩ := gd_some hrun
      refine V_bd (pc := 78) C hL rfl hrun (fun rr1 e1 => Z_runV (rest := []) C hH (m_X2_at hl9 e1) wV_X1_136 c22 rfl (by decide) rfl rfl ⟨by decide, by decide⟩ rfl (Nat.le_of_ble_eq_true rfl) hl.1 dX1_becomesFinal_78) (fun v20 h21 H locs cells slots hH hL hrun => ?_)
      obtain ⟨c23, hrun⟩ := gd_some hrun
      refine V_castX (pc := 81) (ci := 7) C hH rfl (by decide) q363 dX1_becomesFinal_81 c23 ?_
      refine lv_dup (pc := 84) hx hb dX1_becomesFinal_84 (rv_cat _) ?_
      obtain ⟨c24, hrun⟩ := gd_some hrun
      refine V_getNL (pc := 85) C hH fn_X1_329 dX1_becomesFinal_85 c24 rfl ?_
      refine lv_lload_n (pc := 88) hx hb dX1_becomesFinal_88 rfl (lv_at hl 1 rfl) ?_
      refine lv_ladd (pc := 89) hx hb dX1_becomesFinal_89 ?_
      refine V_putNL (pc := 90) C hH hL fn_X1_329 dX1_becomesFinal_90 c24 (fok_l _) rfl hrun (fun h25 H locs hH hL hrun => ?_)
      refine V_aload_n (pc := 93) hx hb dX1_becomesFinal_93 rfl (lv_at hl 0 rfl) ?_
      obtain ⟨c26, hrun⟩ := gd_some hrun
      refine V_getR (pc := 94) C hH fr_X1_49 dX1_becomesFinal_94 c26 rfl ?_
      obtain ⟨c29, hrun⟩ := gd_some hrun
      refine V_bd (pc := 97) C hL rfl hrun (fun rr1 e1 => Z_runV (rest := []) C hH (m_X2_iterator hl9 e1) wV_X1_208 c29 rfl (by decide) rfl rfl ⟨by decide, by decide⟩ rfl (Nat.le_of_ble_eq_true rfl) hl.1 dX1_becomesFinal_97) (fun v27 h28 H locs cells slots hH hL hrun => ?_)
      refine V_astore_n (i := 3) (lv' := [(3, rv v27), (0, rv x0), (1, .long x1)]) (pc := 100) hx hb dX1_becomesFinal_100 rfl hl (by decide) rfl (fun ls hl => ?_)
      exact b_X1_becomesFinal_101 C FU x0 v27 h28 H locs cells slots ls hH hL (lv_sub hl [1, 0] rfl) hrun
    · have hrun := ite_f hrun c_
      refine V_aload_n (pc := 26) hx hb dX1_becomesFinal_26 rfl (lv_at hl 2 rfl) ?_
      obtain ⟨c32, hrun⟩ := gd_some hrun
      refine V_bd5 (pc := 27) C hL rfl hrun (fun rr1 e1 => Z_runF (rest := []) C hH (m_J16_next hl9 e1) rfl wF_X1_217_J16 c32 (by decide) rfl ⟨by decide, by decide⟩ rfl (Nat.le_of_ble_eq_true rfl) hl.1 dX1_becomesFinal_27) (fun v30 h31 H locs cells slots hH hL hrun => ?_)
      obtain ⟨c33, hrun⟩ := gd_some hrun
      refine V_castX (pc := 32) (ci := 7) C hH rfl (by decide) q363 dX1_becomesFinal_32 c33 ?_
      refine V_astore (i := 4) (lv' := [(4, rv v30), (0, rv x0), (1, .long x1), (3, rv x3)]) (pc := 35) hx hb dX1_becomesFinal_35 hl (by decide) (by simp [rv_cat, cat_i, cat_l, cat_f, cat_d]) (fun ls hl => ?_)
      refine V_aload (pc := 37) hx hb dX1_becomesFinal_37 (lv_at hl 0 rfl) ?_
      refine V_aload_n (pc := 39) hx hb dX1_becomesFinal_39 rfl (lv_at hl 1 rfl) ?_
      obtain ⟨c34, hrun⟩ := gd_some hrun
      refine V_getR (pc := 40) C hH fr_X1_84 dX1_becomesFinal_40 c34 rfl ?_
      obtain ⟨c35, hrun⟩ := gd_some hrun
      refine V_getNI (pc := 43) C hH fn_X1_397 dX1_becomesFinal_43 c35 rfl ?_
      refine lv_i2l (pc := 46) hx hb dX1_becomesFinal_46 rfl ?_
      refine V_aload (pc := 47) hx hb dX1_becomesFinal_47 (lv_at hl 0 rfl) ?_
      obtain ⟨c36, hrun⟩ := gd_some hrun
      refine V_getNI (pc := 49) C hH fn_X1_313 dX1_becomesFinal_49 c36 rfl ?_
      refine lv_i2l (pc := 52) hx hb dX1_becomesFinal_52 rfl ?_
      refine lv_ldc2 (pc := 53) hx hb hown (hts _ q404) dX1_becomesFinal_53 ?_
      refine V_bd (pc := 56) C hL rfl hrun (fun rr1 e1 => Z_runS (rest := [rv v30]) C hH (m_X1_part hl9 e1) wS_X1_347 rfl ⟨by decide, by decide⟩ rfl (by simp [csum, rv_cat, cat_i, cat_l, cat_f, cat_d]) hl.1 dX1_becomesFinal_56) (fun v37 h38 H locs cells slots hH hL hrun => ?_)
      obtain ⟨c39, hrun⟩ := gd_some hrun
      refine V_putNL (pc := 59) C hH hL fn_X1_329 dX1_becomesFinal_59 c39 (fok_l _) rfl hrun (fun h40 H locs hH hL hrun => ?_)
      refine lv_lload_n (pc := 62) hx hb dX1_becomesFinal_62 rfl (lv_at hl 2 rfl) ?_
      refine V_aload (pc := 63) hx hb dX1_becomesFinal_63 (lv_at hl 0 rfl) ?_
      obtain ⟨c41, hrun⟩ := gd_some hrun
      refine V_getNL (pc := 65) C hH fn_X1_329 dX1_becomesFinal_65 c41 rfl ?_
      refine lv_lsub (pc := 68) hx hb dX1_becomesFinal_68 ?_
      refine lv_topl (fun v42 ev42 => ?_)
      have hrun := vl_at hrun v42 ev42
      refine lv_lstore_n (i := 1) (lv' := [(1, .long v42), (4, rv v30), (0, rv x0), (3, rv x3)]) (pc := 69) hx hb dX1_becomesFinal_69 rfl hl (by decide) (by simp [rv_cat, cat_i, cat_l, cat_f, cat_d]) (fun ls hl => ?_)
      refine lv_goto (tgt := 17) (pc := 70) hx hb dX1_becomesFinal_70 (by decide) ?_
      exact ih x0 v42 x3 h40 H locs cells slots ls hH hL (lv_sub hl [2, 0, 3] rfl) hrun

theorem b_X1_becomesFinal {rr : (Unit ⊕ Ex) × Hp}  (C : CX p l R s m args meth c D Hs cX1_becomesFinal "Massclaim" 8 none [] 9 360)  : ∀ (x0 : Nat) (h : Hp) (H : Heap) (locs : List Loc) (cells slots : Nat) (ls : Array Slot), HP D Hs h H → LO Hs locs → lv_has ls 8 [(0, rv x0)] → f_X1_becomesFinal x0 h = some rr → W p l e R s m args below meth c H locs cells slots (ZM D Hs iV rr below args s) (F0 m 0 ls []) := by
  obtain ⟨⟨hx, hb, hml, hown, hts⟩, -⟩ := id C
  have hl9 := C.2.1.2.2.1
  intro x0 h H locs cells slots ls hH hL hl hrun
  unfold f_X1_becomesFinal at hrun
  refine V_aload_n (pc := 0) hx hb dX1_becomesFinal_0 rfl (lv_at hl 0 rfl) ?_
  obtain ⟨c43, hrun⟩ := gd_some hrun
  refine V_getR (pc := 1) C hH fr_X1_84 dX1_becomesFinal_1 c43 rfl ?_
  obtain ⟨c44, hrun⟩ := gd_some hrun
  refine V_getNI (pc := 4) C hH fn_X1_397 dX1_becomesFinal_4 c44 rfl ?_
  refine lv_i2l (pc := 7) hx hb dX1_becomesFinal_7 rfl ?_
  refine lv_topl (fun v45 ev45 => ?_)
  have hrun := vl_at hrun v45 ev45
  refine lv_lstore_n (i := 1) (lv' := [(1, .long v45), (0, rv x0)]) (pc := 8) hx hb dX1_becomesFinal_8 rfl hl (by decide) (by simp [rv_cat, cat_i, cat_l, cat_f, cat_d]) (fun ls hl => ?_)
  refine V_aload_n (pc := 9) hx hb dX1_becomesFinal_9 rfl (lv_at hl 1 rfl) ?_
  refine V_getR (pc := 10) C hH fr_X1_49 dX1_becomesFinal_10 c43 rfl ?_
  obtain ⟨c48, hrun⟩ := gd_some hrun
  refine V_bd (pc := 13) C hL rfl hrun (fun rr1 e1 => Z_runV (rest := []) C hH (m_X2_iterator hl9 e1) wV_X1_208 c48 rfl (by decide) rfl rfl ⟨by decide, by decide⟩ rfl (Nat.le_of_ble_eq_true rfl) hl.1 dX1_becomesFinal_13) (fun v46 h47 H locs cells slots hH hL hrun => ?_)
  refine V_astore_n (i := 3) (lv' := [(3, rv v46), (1, .long v45), (0, rv x0)]) (pc := 16) hx hb dX1_becomesFinal_16 rfl hl (by decide) rfl (fun ls hl => ?_)
  exact b_X1_becomesFinal_17 C FU x0 v45 v46 h47 H locs cells slots ls hH hL (lv_sub hl [2, 1, 0] rfl) hrun

theorem m_X1_becomesFinal {l : Launch} {D : va_G} {Hs : Heap} {h : Hp} {rr : (Unit ⊕ Ex) × Hp} (hl9 : l.stackTraces = false) {x0 : Nat} (hrun : f_X1_becomesFinal x0 h = some rr) : CM l yX1_becomesFinal (ws_ yX1_becomesFinal cX1_becomesFinal 8 none) 9 360 iV [rv x0] D Hs h rr := by
  refine CM.of (lv := [(0, rv x0)]) (plainFor_of_name (by decide)) hl9 (by simp [lv_args, rv_cat, cat_i, cat_l, cat_f, cat_d]) (by simp [lg_sl, rv_cat, cat_i, cat_l, cat_f, cat_d]) ?_
  intro p e R s m args below meth c H ls C hH hl hin
  exact b_X1_becomesFinal C x0 _ H [] _ _ ls hH (fun _ q => nomatch q) (lv_sub hl [0] rfl) hrun
end WK8

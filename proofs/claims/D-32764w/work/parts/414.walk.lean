section WK14
variable {p : Program} {l : Launch} {e : Env} {R : Room} {s : State} {m : MethodId} {args : Array Value} {below : List Frame} {meth : Method} {c : Code} {D : va_G} {Hs : Heap} {F X : Nat}
/-! Massclaim.due(I)J -/
def f_X1_due_11  : Nat → Int32 → Int64 → Nat → Hp → Rt Int64
  | 0, _, _, _, _ => none
  | n + 1, x1, x2, x4, h => gd (kC h x4 = 19) <| bd (f_J16_hasNext x4 h) fun v1 h2 => if v1 = 0 then
  (some (.inl x2, h2))
  else
  (gd (kC h2 x4 = 19) <| bd (f_J16_next x4 h2) fun v4 h5 => gd (v4 = 0 ∨ kC h5 v4 = 12) <| gd (kC h5 v4 = 12) <| bd (f_X12_due v4 x1 h5) fun v8 h9 => vl (x2 + v8) fun v11 => f_X1_due_11 n x1 v11 x4 h9)
def f_X1_due  (x0 : Nat) (x1 : Int32) (h : Hp) : Rt Int64 :=
  gd (kC h x0 = 1) <| gd (kC h (kR h 3 x0) = 2) <| bd (f_X2_iterator (kR h 3 x0) h) fun v13 h14 => f_X1_due_11 FU x1 (0 : Int64) v13 h14
theorem b_X1_due_11 {rr : (Int64 ⊕ Ex) × Hp}  (C : CX p l R s m args meth c D Hs cX1_due "Massclaim" 6 (some .long) [] 4 81)  : ∀ (n : Nat) (x1 : Int32) (x2 : Int64) (x4 : Nat) (h : Hp) (H : Heap) (locs : List Loc) (cells slots : Nat) (ls : Array Slot), HP D Hs h H → LO Hs locs → lv_has ls 6 [(1, .int x1), (2, .long x2), (4, rv x4)] → f_X1_due_11 n x1 x2 x4 h = some rr → W p l e R s m args below meth c H locs cells slots (ZM D Hs iL rr below args s) (F0 m 11 ls []) := by
  obtain ⟨⟨hx, hb, hml, hown, hts⟩, -⟩ := id C
  have hl9 := C.2.1.2.2.1
  intro n
  induction n with
  | zero =>
    intro x1 x2 x4 h H locs cells slots ls hH hL hl hrun
    cases (show (none : Option _) = some rr from hrun)
  | succ n ih =>
    intro x1 x2 x4 h H locs cells slots ls hH hL hl hrun
    rw [f_X1_due_11] at hrun
    refine V_aload (pc := 11) hx hb dX1_due_11 (lv_at hl 2 rfl) ?_
    obtain ⟨c3, hrun⟩ := gd_some hrun
    refine V_bd5 (pc := 13) C hL rfl hrun (fun rr1 e1 => Z_runF (rest := []) C hH (m_J16_hasNext hl9 e1) rfl wF_X1_212_J16 c3 (by decide) rfl ⟨by decide, by decide⟩ rfl (Nat.le_of_ble_eq_true rfl) hl.1 dX1_due_13) (fun v1 h2 H locs cells slots hH hL hrun => ?_)
    refine lv_if_eq (tgt := 45) (pc := 18) hx hb dX1_due_18 (by decide) (fun c_ => ?_) (fun c_ => ?_)
    · have hrun := ite_t hrun c_
      refine lv_lload_n (pc := 45) hx hb dX1_due_45 rfl (lv_at hl 1 rfl) ?_
      exact V_lret (pc := 46) C hH hL hrun dX1_due_46
    · have hrun := ite_f hrun c_
      refine V_aload (pc := 21) hx hb dX1_due_21 (lv_at hl 2 rfl) ?_
      obtain ⟨c6, hrun⟩ := gd_some hrun
      refine V_bd5 (pc := 23) C hL rfl hrun (fun rr1 e1 => Z_runF (rest := []) C hH (m_J16_next hl9 e1) rfl wF_X1_217_J16 c6 (by decide) rfl ⟨by decide, by decide⟩ rfl (Nat.le_of_ble_eq_true rfl) hl.1 dX1_due_23) (fun v4 h5 H locs cells slots hH hL hrun => ?_)
      obtain ⟨c7, hrun⟩ := gd_some hrun
      refine V_castX (pc := 28) (ci := 11) C hH rfl (by decide) q403 dX1_due_28 c7 ?_
      refine V_astore (i := 5) (lv' := [(5, rv v4), (1, .int x1), (2, .long x2), (4, rv x4)]) (pc := 31) hx hb dX1_due_31 hl (by decide) (by simp [rv_cat, cat_i, cat_l, cat_f, cat_d]) (fun ls hl => ?_)
      refine lv_lload_n (pc := 33) hx hb dX1_due_33 rfl (lv_at hl 2 rfl) ?_
      refine V_aload (pc := 34) hx hb dX1_due_34 (lv_at hl 0 rfl) ?_
      refine lv_iload_n (pc := 36) hx hb dX1_due_36 rfl (lv_at hl 1 rfl) ?_
      obtain ⟨c10, hrun⟩ := gd_some hrun
      refine V_bd (pc := 37) C hL rfl hrun (fun rr1 e1 => Z_runV (rest := [.long x2]) C hH (m_X12_due hl9 e1) wV_X1_443 c10 rfl (by decide) rfl rfl ⟨by decide, by decide⟩ rfl (Nat.le_of_ble_eq_true rfl) hl.1 dX1_due_37) (fun v8 h9 H locs cells slots hH hL hrun => ?_)
      refine lv_ladd (pc := 40) hx hb dX1_due_40 ?_
      refine lv_topl (fun v11 ev11 => ?_)
      have hrun := vl_at hrun v11 ev11
      refine lv_lstore_n (i := 2) (lv' := [(2, .long v11), (5, rv v4), (1, .int x1), (4, rv x4)]) (pc := 41) hx hb dX1_due_41 rfl hl (by decide) rfl (fun ls hl => ?_)
      refine lv_goto (tgt := 11) (pc := 42) hx hb dX1_due_42 (by decide) ?_
      exact ih x1 v11 x4 h9 H locs cells slots ls hH hL (lv_sub hl [2, 0, 3] rfl) hrun

theorem b_X1_due {rr : (Int64 ⊕ Ex) × Hp}  (C : CX p l R s m args meth c D Hs cX1_due "Massclaim" 6 (some .long) [] 4 81)  : ∀ (x0 : Nat) (x1 : Int32) (h : Hp) (H : Heap) (locs : List Loc) (cells slots : Nat) (ls : Array Slot), HP D Hs h H → LO Hs locs → lv_has ls 6 [(0, rv x0), (1, .int x1)] → f_X1_due x0 x1 h = some rr → W p l e R s m args below meth c H locs cells slots (ZM D Hs iL rr below args s) (F0 m 0 ls []) := by
  obtain ⟨⟨hx, hb, hml, hown, hts⟩, -⟩ := id C
  have hl9 := C.2.1.2.2.1
  intro x0 x1 h H locs cells slots ls hH hL hl hrun
  unfold f_X1_due at hrun
  refine lv_lconst (v := (0 : Int64)) (pc := 0) hx hb dX1_due_0 (by decide) ?_
  refine lv_lstore_n (i := 2) (lv' := [(2, .long (0 : Int64)), (0, rv x0), (1, .int x1)]) (pc := 1) hx hb dX1_due_1 rfl hl (by decide) rfl (fun ls hl => ?_)
  refine V_aload_n (pc := 2) hx hb dX1_due_2 rfl (lv_at hl 1 rfl) ?_
  obtain ⟨c12, hrun⟩ := gd_some hrun
  refine V_getR (pc := 3) C hH fr_X1_52 dX1_due_3 c12 rfl ?_
  obtain ⟨c15, hrun⟩ := gd_some hrun
  refine V_bd (pc := 6) C hL rfl hrun (fun rr1 e1 => Z_runV (rest := []) C hH (m_X2_iterator hl9 e1) wV_X1_208 c15 rfl (by decide) rfl rfl ⟨by decide, by decide⟩ rfl (Nat.le_of_ble_eq_true rfl) hl.1 dX1_due_6) (fun v13 h14 H locs cells slots hH hL hrun => ?_)
  refine V_astore (i := 4) (lv' := [(4, rv v13), (2, .long (0 : Int64)), (0, rv x0), (1, .int x1)]) (pc := 9) hx hb dX1_due_9 hl (by decide) rfl (fun ls hl => ?_)
  exact b_X1_due_11 C FU x1 (0 : Int64) v13 h14 H locs cells slots ls hH hL (lv_sub hl [3, 1, 0] rfl) hrun

theorem m_X1_due {l : Launch} {D : va_G} {Hs : Heap} {h : Hp} {rr : (Int64 ⊕ Ex) × Hp} (hl9 : l.stackTraces = false) {x0 : Nat} {x1 : Int32} (hrun : f_X1_due x0 x1 h = some rr) : CM l yX1_due (ws_ yX1_due cX1_due 6 (some .long)) 4 81 iL [rv x0, .int x1] D Hs h rr := by
  refine CM.of (lv := [(0, rv x0), (1, .int x1)]) (plainFor_of_name (by decide)) hl9 (by simp [lv_args, rv_cat, cat_i, cat_l, cat_f, cat_d]) (by simp [lg_sl, rv_cat, cat_i, cat_l, cat_f, cat_d]) ?_
  intro p e R s m args below meth c H ls C hH hl hin
  exact b_X1_due C x0 x1 _ H [] _ _ ls hH (fun _ q => nomatch q) (lv_sub hl [0, 1] rfl) hrun

/-! Massclaim.reserve(I)J -/
def f_X1_reserve_113 (k11 : Nat → Int32 → Int64 → Nat → Hp → Rt Int64) (x0 : Nat) (x1 : Int32) (x4 : Nat) (y0 : Int64) (y1 : Int64) (h : Hp) : Rt Int64 :=
  vl (y0 + y1) fun v1 => k11 x0 x1 v1 x4 h
def f_X1_reserve_62 (k11 : Nat → Int32 → Int64 → Nat → Hp → Rt Int64) (x0 : Nat) (x1 : Int32) (x2 : Int64) (x4 : Nat) (x5 : Nat) (y0 : Int32) (h : Hp) : Rt Int64 :=
  if y0 = 0 then
  (f_X1_reserve_113 k11 x0 x1 x4 x2 (0 : Int64) h)
  else
  (gd (kC h x0 = 1) <| gd (kC h (kR h 5 x0) = 104 ∧ ixo (2 : Int32) (kN h (kR h 5 x0))) <| gd (kC h x5 = 5) <| bd (f_X5_age x5 (kI h 18 x0) h) fun v4 h5 => bd (f_X1_band v4 h5) fun v7 h8 => gd (kC h8 (jR h (kR h 5 x0) ((2 : Int32)).toNatClampNeg) = 101 ∧ ixo v7 (kN h8 (jR h (kR h 5 x0) ((2 : Int32)).toNatClampNeg))) <| bd (f_X1_part ((kI h 14 x0).toInt64) ((jI h8 (jR h (kR h 5 x0) ((2 : Int32)).toNatClampNeg) (v7).toNatClampNeg).toInt64) (100 : Int64) h8) fun v10 h11 => bd (f_X1_part v10 (x1.toInt64) (100 : Int64) h11) fun v12 h13 => f_X1_reserve_113 k11 x0 x1 x4 x2 v12 h13)
def f_X1_reserve_61 (k11 : Nat → Int32 → Int64 → Nat → Hp → Rt Int64) (x0 : Nat) (x1 : Int32) (x2 : Int64) (x4 : Nat) (x5 : Nat) (h : Hp) : Rt Int64 :=
  f_X1_reserve_62 k11 x0 x1 x2 x4 x5 (0 : Int32) h
def f_X1_reserve_11  : Nat → Nat → Int32 → Int64 → Nat → Hp → Rt Int64
  | 0, _, _, _, _, _ => none
  | n + 1, x0, x1, x2, x4, h => gd (kC h x4 = 19) <| bd (f_J16_hasNext x4 h) fun v14 h15 => if v14 = 0 then
  (some (.inl x2, h15))
  else
  (gd (kC h15 x4 = 19) <| bd (f_J16_next x4 h15) fun v17 h18 => gd (v17 = 0 ∨ kC h18 v17 = 5) <| gd (kC h18 v17 = 5) <| bd (f_X5_isMember v17 h18) fun v21 h22 => if v21 = 0 then
  (f_X1_reserve_61 (f_X1_reserve_11 n) x0 x1 x2 x4 v17 h22)
  else
  (gd (kC h22 v17 = 5) <| bd (f_X5_isDead v17 h22) fun v24 h25 => if v24 = 0 then
  (gd (kC h25 v17 = 5) <| if (kI h25 405 v17) = 0 then
  (f_X1_reserve_62 (f_X1_reserve_11 n) x0 x1 x2 x4 v17 (1 : Int32) h25)
  else
  (f_X1_reserve_61 (f_X1_reserve_11 n) x0 x1 x2 x4 v17 h25))
  else
  (f_X1_reserve_61 (f_X1_reserve_11 n) x0 x1 x2 x4 v17 h25)))
def f_X1_reserve  (x0 : Nat) (x1 : Int32) (h : Hp) : Rt Int64 :=
  gd (kC h x0 = 1) <| gd (kC h (kR h 0 x0) = 2) <| bd (f_X2_iterator (kR h 0 x0) h) fun v29 h30 => f_X1_reserve_11 FU x0 x1 (0 : Int64) v29 h30
theorem b_X1_reserve_113 {rr : (Int64 ⊕ Ex) × Hp} {k11 : Nat → Int32 → Int64 → Nat → Hp → Rt Int64} (C : CX p l R s m args meth c D Hs cX1_reserve "Massclaim" 7 (some .long) [] 4 81) (K11 : ∀ (x0 : Nat) (x1 : Int32) (x2 : Int64) (x4 : Nat) (h : Hp) (H : Heap) (locs : List Loc) (cells slots : Nat) (ls : Array Slot), HP D Hs h H → LO Hs locs → lv_has ls 7 [(0, rv x0), (1, .int x1), (2, .long x2), (4, rv x4)] → k11 x0 x1 x2 x4 h = some rr → W p l e R s m args below meth c H locs cells slots (ZM D Hs iL rr below args s) (F0 m 11 ls [])) : ∀ (x0 : Nat) (x1 : Int32) (x4 : Nat) (y0 : Int64) (y1 : Int64) (h : Hp) (H : Heap) (locs : List Loc) (cells slots : Nat) (ls : Array Slot), HP D Hs h H → LO Hs locs → lv_has ls 7 [(0, rv x0), (1, .int x1), (4, rv x4)] → f_X1_reserve_113 k11 x0 x1 x4 y0 y1 h = some rr → W p l e R s m args below meth c H locs cells slots (ZM D Hs iL rr below args s) (F0 m 113 ls [.long y1, .long y0]) := by
  obtain ⟨⟨hx, hb, hml, hown, hts⟩, -⟩ := id C
  have hl9 := C.2.1.2.2.1
  intro x0 x1 x4 y0 y1 h H locs cells slots ls hH hL hl hrun
  unfold f_X1_reserve_113 at hrun
  refine lv_ladd (pc := 113) hx hb dX1_reserve_113 ?_
  refine lv_topl (fun v1 ev1 => ?_)
  have hrun := vl_at hrun v1 ev1
  refine lv_lstore_n (i := 2) (lv' := [(2, .long v1), (0, rv x0), (1, .int x1), (4, rv x4)]) (pc := 114) hx hb dX1_reserve_114 rfl hl (by decide) rfl (fun ls hl => ?_)
  refine lv_goto (tgt := 11) (pc := 115) hx hb dX1_reserve_115 (by decide) ?_
  exact K11 x0 x1 v1 x4 h H locs cells slots ls hH hL (lv_sub hl [1, 2, 0, 3] rfl) hrun

theorem b_X1_reserve_62 {rr : (Int64 ⊕ Ex) × Hp} {k11 : Nat → Int32 → Int64 → Nat → Hp → Rt Int64} (C : CX p l R s m args meth c D Hs cX1_reserve "Massclaim" 7 (some .long) [] 4 81) (K11 : ∀ (x0 : Nat) (x1 : Int32) (x2 : Int64) (x4 : Nat) (h : Hp) (H : Heap) (locs : List Loc) (cells slots : Nat) (ls : Array Slot), HP D Hs h H → LO Hs locs → lv_has ls 7 [(0, rv x0), (1, .int x1), (2, .long x2), (4, rv x4)] → k11 x0 x1 x2 x4 h = some rr → W p l e R s m args below meth c H locs cells slots (ZM D Hs iL rr below args s) (F0 m 11 ls [])) : ∀ (x0 : Nat) (x1 : Int32) (x2 : Int64) (x4 : Nat) (x5 : Nat) (y0 : Int32) (h : Hp) (H : Heap) (locs : List Loc) (cells slots : Nat) (ls : Array Slot), HP D Hs h H → LO Hs locs → lv_has ls 7 [(0, rv x0), (1, .int x1), (2, .long x2), (4, rv x4), (5, rv x5)] → f_X1_reserve_62 k11 x0 x1 x2 x4 x5 y0 h = some rr → W p l e R s m args below meth c H locs cells slots (ZM D Hs iL rr below args s) (F0 m 62 ls [.int y0]) := by
  obtain ⟨⟨hx, hb, hml, hown, hts⟩, -⟩ := id C
  have hl9 := C.2.1.2.2.1
  intro x0 x1 x2 x4 x5 y0 h H locs cells slots ls hH hL hl hrun
  unfold f_X1_reserve_62 at hrun
  refine lv_istore (i := 6) (lv' := [(6, .int y0), (0, rv x0), (1, .int x1), (2, .long x2), (4, rv x4), (5, rv x5)]) (pc := 62) hx hb dX1_reserve_62 hl (by decide) (by simp [rv_cat, cat_i, cat_l, cat_f, cat_d]) (fun ls hl => ?_)
  refine lv_lload_n (pc := 64) hx hb dX1_reserve_64 rfl (lv_at hl 3 rfl) ?_
  refine lv_iload (pc := 65) hx hb dX1_reserve_65 (lv_at hl 0 rfl) ?_
  refine lv_if_eq (tgt := 112) (pc := 67) hx hb dX1_reserve_67 (by decide) (fun c_ => ?_) (fun c_ => ?_)
  · have hrun := ite_t hrun c_
    refine lv_lconst (v := (0 : Int64)) (pc := 112) hx hb dX1_reserve_112 (by decide) ?_
    exact b_X1_reserve_113 C K11 x0 x1 x4 x2 (0 : Int64) h H locs cells slots ls hH hL (lv_sub hl [1, 2, 4] rfl) hrun
  · have hrun := ite_f hrun c_
    refine V_aload_n (pc := 70) hx hb dX1_reserve_70 rfl (lv_at hl 1 rfl) ?_
    obtain ⟨c2, hrun⟩ := gd_some hrun
    refine V_getI (pc := 71) C hH fr_X1_102 dX1_reserve_71 c2 rfl ?_
    refine lv_i2l (pc := 74) hx hb dX1_reserve_74 rfl ?_
    refine V_aload_n (pc := 75) hx hb dX1_reserve_75 rfl (lv_at hl 1 rfl) ?_
    refine V_getR (pc := 76) C hH fr_X1_60 dX1_reserve_76 c2 rfl ?_
    refine lv_iconst (v := (2 : Int32)) (pc := 79) hx hb dX1_reserve_79 (by decide) ?_
    obtain ⟨c3, hrun⟩ := gd_some hrun
    refine V_aald2 (pc := 80) C hH dX1_reserve_80 c3 ?_
    refine V_aload (pc := 81) hx hb dX1_reserve_81 (lv_at hl 5 rfl) ?_
    refine V_aload_n (pc := 83) hx hb dX1_reserve_83 rfl (lv_at hl 1 rfl) ?_
    refine V_getI (pc := 84) C hH fr_X1_115 dX1_reserve_84 c2 rfl ?_
    obtain ⟨c6, hrun⟩ := gd_some hrun
    refine V_bd (pc := 87) C hL rfl hrun (fun rr1 e1 => Z_runV (rest := [rv (jR h (kR h 5 x0) ((2 : Int32)).toNatClampNeg), .long ((kI h 14 x0).toInt64), .long x2]) C hH (m_X5_age hl9 e1) wV_X1_256 c6 rfl (by decide) rfl rfl ⟨by decide, by decide⟩ rfl (by simp [csum, rv_cat, cat_i, cat_l, cat_f, cat_d]) hl.1 dX1_reserve_87) (fun v4 h5 H locs cells slots hH hL hrun => ?_)
    refine V_bd (pc := 90) C hL rfl hrun (fun rr1 e1 => Z_runS (rest := [rv (jR h (kR h 5 x0) ((2 : Int32)).toNatClampNeg), .long ((kI h 14 x0).toInt64), .long x2]) C hH (m_X1_band hl9 e1) wS_X1_468 rfl ⟨by decide, by decide⟩ rfl (by simp [csum, rv_cat, cat_i, cat_l, cat_f, cat_d]) hl.1 dX1_reserve_90) (fun v7 h8 H locs cells slots hH hL hrun => ?_)
    obtain ⟨c9, hrun⟩ := gd_some hrun
    refine V_iald (pc := 93) C hH dX1_reserve_93 c9 ?_
    refine lv_i2l (pc := 94) hx hb dX1_reserve_94 rfl ?_
    refine lv_ldc2 (pc := 95) hx hb hown (hts _ q404) dX1_reserve_95 ?_
    refine V_bd (pc := 98) C hL rfl hrun (fun rr1 e1 => Z_runS (rest := [.long x2]) C hH (m_X1_part hl9 e1) wS_X1_347 rfl ⟨by decide, by decide⟩ rfl (Nat.le_of_ble_eq_true rfl) hl.1 dX1_reserve_98) (fun v10 h11 H locs cells slots hH hL hrun => ?_)
    refine lv_iload_n (pc := 101) hx hb dX1_reserve_101 rfl (lv_at hl 2 rfl) ?_
    refine lv_i2l (pc := 102) hx hb dX1_reserve_102 rfl ?_
    refine lv_ldc2 (pc := 103) hx hb hown (hts _ q404) dX1_reserve_103 ?_
    refine V_bd (pc := 106) C hL rfl hrun (fun rr1 e1 => Z_runS (rest := [.long x2]) C hH (m_X1_part hl9 e1) wS_X1_347 rfl ⟨by decide, by decide⟩ rfl (Nat.le_of_ble_eq_true rfl) hl.1 dX1_reserve_106) (fun v12 h13 H locs cells slots hH hL hrun => ?_)
    refine lv_goto (tgt := 113) (pc := 109) hx hb dX1_reserve_109 (by decide) ?_
    exact b_X1_reserve_113 C K11 x0 x1 x4 x2 v12 h13 H locs cells slots ls hH hL (lv_sub hl [1, 2, 4] rfl) hrun

theorem b_X1_reserve_61 {rr : (Int64 ⊕ Ex) × Hp} {k11 : Nat → Int32 → Int64 → Nat → Hp → Rt Int64} (C : CX p l R s m args meth c D Hs cX1_reserve "Massclaim" 7 (some .long) [] 4 81) (K11 : ∀ (x0 : Nat) (x1 : Int32) (x2 : Int64) (x4 : Nat) (h : Hp) (H : Heap) (locs : List Loc) (cells slots : Nat) (ls : Array Slot), HP D Hs h H → LO Hs locs → lv_has ls 7 [(0, rv x0), (1, .int x1), (2, .long x2), (4, rv x4)] → k11 x0 x1 x2 x4 h = some rr → W p l e R s m args below meth c H locs cells slots (ZM D Hs iL rr below args s) (F0 m 11 ls [])) : ∀ (x0 : Nat) (x1 : Int32) (x2 : Int64) (x4 : Nat) (x5 : Nat) (h : Hp) (H : Heap) (locs : List Loc) (cells slots : Nat) (ls : Array Slot), HP D Hs h H → LO Hs locs → lv_has ls 7 [(0, rv x0), (1, .int x1), (2, .long x2), (4, rv x4), (5, rv x5)] → f_X1_reserve_61 k11 x0 x1 x2 x4 x5 h = some rr → W p l e R s m args below meth c H locs cells slots (ZM D Hs iL rr below args s) (F0 m 61 ls []) := by
  obtain ⟨⟨hx, hb, hml, hown, hts⟩, -⟩ := id C
  have hl9 := C.2.1.2.2.1
  intro x0 x1 x2 x4 x5 h H locs cells slots ls hH hL hl hrun
  unfold f_X1_reserve_61 at hrun
  refine lv_iconst (v := (0 : Int32)) (pc := 61) hx hb dX1_reserve_61 (by decide) ?_
  exact b_X1_reserve_62 C K11 x0 x1 x2 x4 x5 (0 : Int32) h H locs cells slots ls hH hL (lv_sub hl [0, 1, 2, 3, 4] rfl) hrun

theorem b_X1_reserve_11 {rr : (Int64 ⊕ Ex) × Hp}  (C : CX p l R s m args meth c D Hs cX1_reserve "Massclaim" 7 (some .long) [] 4 81)  : ∀ (n : Nat) (x0 : Nat) (x1 : Int32) (x2 : Int64) (x4 : Nat) (h : Hp) (H : Heap) (locs : List Loc) (cells slots : Nat) (ls : Array Slot), HP D Hs h H → LO Hs locs → lv_has ls 7 [(0, rv x0), (1, .int x1), (2, .long x2), (4, rv x4)] → f_X1_reserve_11 n x0 x1 x2 x4 h = some rr → W p l e R s m args below meth c H locs cells slots (ZM D Hs iL rr below args s) (F0 m 11 ls []) := by
  obtain ⟨⟨hx, hb, hml, hown, hts⟩, -⟩ := id C
  have hl9 := C.2.1.2.2.1
  intro n
  induction n with
  | zero =>
    intro x0 x1 x2 x4 h H locs cells slots ls hH hL hl hrun
    cases (show (none : Option _) = some rr from hrun)
  | succ n ih =>
    intro x0 x1 x2 x4 h H locs cells slots ls hH hL hl hrun
    rw [f_X1_reserve_11] at hrun
    refine V_aload (pc := 11) hx hb dX1_reserve_11 (lv_at hl 3 rfl) ?_
    obtain ⟨c16, hrun⟩ := gd_some hrun
    refine V_bd5 (pc := 13) C hL rfl hrun (fun rr1 e1 => Z_runF (rest := []) C hH (m_J16_hasNext hl9 e1) rfl wF_X1_212_J16 c16 (by decide) rfl ⟨by decide, by decide⟩ rfl (Nat.le_of_ble_eq_true rfl) hl.1 dX1_reserve_13) (fun v14 h15 H locs cells slots hH hL hrun => ?_)
    refine lv_if_eq (tgt := 118) (pc := 18) hx hb dX1_reserve_18 (by decide) (fun c_ => ?_) (fun c_ => ?_)
    · have hrun := ite_t hrun c_
      refine lv_lload_n (pc := 118) hx hb dX1_reserve_118 rfl (lv_at hl 2 rfl) ?_
      exact V_lret (pc := 119) C hH hL hrun dX1_reserve_119
    · have hrun := ite_f hrun c_
      refine V_aload (pc := 21) hx hb dX1_reserve_21 (lv_at hl 3 rfl) ?_
      obtain ⟨c19, hrun⟩ := gd_some hrun
      refine V_bd5 (pc := 23) C hL rfl hrun (fun rr1 e1 => Z_runF (rest := []) C hH (m_J16_next hl9 e1) rfl wF_X1_217_J16 c19 (by decide) rfl ⟨by decide, by decide⟩ rfl (Nat.le_of_ble_eq_true rfl) hl.1 dX1_reserve_23) (fun v17 h18 H locs cells slots hH hL hrun => ?_)
      obtain ⟨c20, hrun⟩ := gd_some hrun
      refine V_castX (pc := 28) (ci := 4) C hH rfl (by decide) q376 dX1_reserve_28 c20 ?_
      refine V_astore (i := 5) (lv' := [(5, rv v17), (0, rv x0), (1, .int x1), (2, .long x2), (4, rv x4)]) (pc := 31) hx hb dX1_reserve_31 hl (by decide) (by simp [rv_cat, cat_i, cat_l, cat_f, cat_d]) (fun ls hl => ?_)
      refine V_aload (pc := 33) hx hb dX1_reserve_33 (lv_at hl 0 rfl) ?_
      obtain ⟨c23, hrun⟩ := gd_some hrun
      refine V_bd (pc := 35) C hL rfl hrun (fun rr1 e1 => Z_runV (rest := []) C hH (m_X5_isMember hl9 e1) wV_X1_148 c23 rfl (by decide) rfl rfl ⟨by decide, by decide⟩ rfl (Nat.le_of_ble_eq_true rfl) hl.1 dX1_reserve_35) (fun v21 h22 H locs cells slots hH hL hrun => ?_)
      refine lv_if_eq (tgt := 61) (pc := 38) hx hb dX1_reserve_38 (by decide) (fun c_ => ?_) (fun c_ => ?_)
      · have hrun := ite_t hrun c_
        exact b_X1_reserve_61 C ih x0 x1 x2 x4 v17 h22 H locs cells slots ls hH hL (lv_sub hl [1, 2, 3, 4, 0] rfl) hrun
      · have hrun := ite_f hrun c_
        refine V_aload (pc := 41) hx hb dX1_reserve_41 (lv_at hl 0 rfl) ?_
        obtain ⟨c26, hrun⟩ := gd_some hrun
        refine V_bd (pc := 43) C hL rfl hrun (fun rr1 e1 => Z_runV (rest := []) C hH (m_X5_isDead hl9 e1) wV_X1_179 c26 rfl (by decide) rfl rfl ⟨by decide, by decide⟩ rfl (Nat.le_of_ble_eq_true rfl) hl.1 dX1_reserve_43) (fun v24 h25 H locs cells slots hH hL hrun => ?_)
        refine lv_if_ne (tgt := 61) (pc := 46) hx hb dX1_reserve_46 (by decide) (fun c_ => ?_) (fun c_ => ?_)
        · have hrun := ite_f hrun c_
          exact b_X1_reserve_61 C ih x0 x1 x2 x4 v17 h25 H locs cells slots ls hH hL (lv_sub hl [1, 2, 3, 4, 0] rfl) hrun
        · have hrun := ite_t hrun c_
          refine V_aload (pc := 49) hx hb dX1_reserve_49 (lv_at hl 0 rfl) ?_
          obtain ⟨c27, hrun⟩ := gd_some hrun
          refine V_getNI (pc := 51) C hH fn_X1_145 dX1_reserve_51 c27 rfl ?_
          refine lv_if_ne (tgt := 61) (pc := 54) hx hb dX1_reserve_54 (by decide) (fun c_ => ?_) (fun c_ => ?_)
          · have hrun := ite_f hrun c_
            exact b_X1_reserve_61 C ih x0 x1 x2 x4 v17 h25 H locs cells slots ls hH hL (lv_sub hl [1, 2, 3, 4, 0] rfl) hrun
          · have hrun := ite_t hrun c_
            refine lv_iconst (v := (1 : Int32)) (pc := 57) hx hb dX1_reserve_57 (by decide) ?_
            refine lv_goto (tgt := 62) (pc := 58) hx hb dX1_reserve_58 (by decide) ?_
            exact b_X1_reserve_62 C ih x0 x1 x2 x4 v17 (1 : Int32) h25 H locs cells slots ls hH hL (lv_sub hl [1, 2, 3, 4, 0] rfl) hrun

theorem b_X1_reserve {rr : (Int64 ⊕ Ex) × Hp}  (C : CX p l R s m args meth c D Hs cX1_reserve "Massclaim" 7 (some .long) [] 4 81)  : ∀ (x0 : Nat) (x1 : Int32) (h : Hp) (H : Heap) (locs : List Loc) (cells slots : Nat) (ls : Array Slot), HP D Hs h H → LO Hs locs → lv_has ls 7 [(0, rv x0), (1, .int x1)] → f_X1_reserve x0 x1 h = some rr → W p l e R s m args below meth c H locs cells slots (ZM D Hs iL rr below args s) (F0 m 0 ls []) := by
  obtain ⟨⟨hx, hb, hml, hown, hts⟩, -⟩ := id C
  have hl9 := C.2.1.2.2.1
  intro x0 x1 h H locs cells slots ls hH hL hl hrun
  unfold f_X1_reserve at hrun
  refine lv_lconst (v := (0 : Int64)) (pc := 0) hx hb dX1_reserve_0 (by decide) ?_
  refine lv_lstore_n (i := 2) (lv' := [(2, .long (0 : Int64)), (0, rv x0), (1, .int x1)]) (pc := 1) hx hb dX1_reserve_1 rfl hl (by decide) rfl (fun ls hl => ?_)
  refine V_aload_n (pc := 2) hx hb dX1_reserve_2 rfl (lv_at hl 1 rfl) ?_
  obtain ⟨c28, hrun⟩ := gd_some hrun
  refine V_getR (pc := 3) C hH fr_X1_42 dX1_reserve_3 c28 rfl ?_
  obtain ⟨c31, hrun⟩ := gd_some hrun
  refine V_bd (pc := 6) C hL rfl hrun (fun rr1 e1 => Z_runV (rest := []) C hH (m_X2_iterator hl9 e1) wV_X1_208 c31 rfl (by decide) rfl rfl ⟨by decide, by decide⟩ rfl (Nat.le_of_ble_eq_true rfl) hl.1 dX1_reserve_6) (fun v29 h30 H locs cells slots hH hL hrun => ?_)
  refine V_astore (i := 4) (lv' := [(4, rv v29), (2, .long (0 : Int64)), (0, rv x0), (1, .int x1)]) (pc := 9) hx hb dX1_reserve_9 hl (by decide) rfl (fun ls hl => ?_)
  exact b_X1_reserve_11 C FU x0 x1 (0 : Int64) v29 h30 H locs cells slots ls hH hL (lv_sub hl [2, 3, 1, 0] rfl) hrun

theorem m_X1_reserve {l : Launch} {D : va_G} {Hs : Heap} {h : Hp} {rr : (Int64 ⊕ Ex) × Hp} (hl9 : l.stackTraces = false) {x0 : Nat} {x1 : Int32} (hrun : f_X1_reserve x0 x1 h = some rr) : CM l yX1_reserve (ws_ yX1_reserve cX1_reserve 7 (some .long)) 4 81 iL [rv x0, .int x1] D Hs h rr := by
  refine CM.of (lv := [(0, rv x0), (1, .int x1)]) (plainFor_of_name (by decide)) hl9 (by simp [lv_args, rv_cat, cat_i, cat_l, cat_f, cat_d]) (by simp [lg_sl, rv_cat, cat_i, cat_l, cat_f, cat_d]) ?_
  intro p e R s m args below meth c H ls C hH hl hin
  exact b_X1_reserve C x0 x1 _ H [] _ _ ls hH (fun _ q => nomatch q) (lv_sub hl [0, 1] rfl) hrun

/-! Massclaim.percent(I)Z -/
def f_X1_percent_72  (x2 : Int32) (y0 : Nat) (y1 : Int32) (h : Hp) : Rt Int32 :=
  gd (kC h y0 = 1) <| vl (sI h 16 y0 y1) fun h2 => gd (b01 x2) <| some (.inl x2, h2)
def f_X1_percent_58  (x0 : Nat) (x1 : Int32) (y0 : Int32) (h : Hp) : Rt Int32 :=
  if y0 = 0 then
  (gd (kC h x0 = 1) <| f_X1_percent_72 y0 x0 (kI h 16 x0) h)
  else
  (f_X1_percent_72 y0 x0 x1 h)
def f_X1_percent_31  (x0 : Nat) (x1 : Int32) (y0 : Int32) (h : Hp) : Rt Int32 :=
  bd (f_X1_requireState y0 h) fun _ h6 => gd (kC h6 x0 = 1) <| bd (f_X1_due x0 x1 h6) fun v8 h9 => gd (kC h9 x0 = 1) <| bd (f_X1_reserve x0 x1 h9) fun v10 h11 => if (kL h6 17 x0) < (v8 + v10) then
  (f_X1_percent_58 x0 x1 (0 : Int32) h11)
  else
  (f_X1_percent_58 x0 x1 (1 : Int32) h11)
def f_X1_percent  (x0 : Nat) (x1 : Int32) (h : Hp) : Rt Int32 :=
  gd (kC h x0 = 1) <| bd (f_X1_isIn (x1.toInt64) (((kI h 16 x0) + (1 : Int32)).toInt64) (100 : Int64) h) fun v14 h15 => bd (f_X1_requireArgument v14 h15) fun _ h17 => gd (kC h17 x0 = 1) <| bd (f_X1_stage x0 h17) fun v18 h19 => if v18 = (3 : Int32) then
  (f_X1_percent_31 x0 x1 (1 : Int32) h19)
  else
  (f_X1_percent_31 x0 x1 (0 : Int32) h19)
theorem b_X1_percent_72 {rr : (Int32 ⊕ Ex) × Hp}  (C : CX p l R s m args meth c D Hs cX1_percent "Massclaim" 3 (some .boolean) [] 7 110)  : ∀ (x2 : Int32) (y0 : Nat) (y1 : Int32) (h : Hp) (H : Heap) (locs : List Loc) (cells slots : Nat) (ls : Array Slot), HP D Hs h H → LO Hs locs → lv_has ls 3 [(2, .int x2)] → f_X1_percent_72 x2 y0 y1 h = some rr → W p l e R s m args below meth c H locs cells slots (ZM D Hs iI rr below args s) (F0 m 72 ls [.int y1, rv y0]) := by
  obtain ⟨⟨hx, hb, hml, hown, hts⟩, -⟩ := id C
  have hl9 := C.2.1.2.2.1
  intro x2 y0 y1 h H locs cells slots ls hH hL hl hrun
  unfold f_X1_percent_72 at hrun
  obtain ⟨c1, hrun⟩ := gd_some hrun
  refine V_putI (pc := 72) C hH hL fl_X1_108 dX1_percent_72 c1 (fok_i _) rfl (fun q => Bool.noConfusion q) hrun (fun h2 H locs hH hL hrun => ?_)
  refine lv_iload_n (pc := 75) hx hb dX1_percent_75 rfl (lv_at hl 0 rfl) ?_
  obtain ⟨c3, hrun⟩ := gd_some hrun
  exact V_zret (pc := 76) C hH hL c3 hrun dX1_percent_76

theorem b_X1_percent_58 {rr : (Int32 ⊕ Ex) × Hp}  (C : CX p l R s m args meth c D Hs cX1_percent "Massclaim" 3 (some .boolean) [] 7 110)  : ∀ (x0 : Nat) (x1 : Int32) (y0 : Int32) (h : Hp) (H : Heap) (locs : List Loc) (cells slots : Nat) (ls : Array Slot), HP D Hs h H → LO Hs locs → lv_has ls 3 [(0, rv x0), (1, .int x1)] → f_X1_percent_58 x0 x1 y0 h = some rr → W p l e R s m args below meth c H locs cells slots (ZM D Hs iI rr below args s) (F0 m 58 ls [.int y0]) := by
  obtain ⟨⟨hx, hb, hml, hown, hts⟩, -⟩ := id C
  have hl9 := C.2.1.2.2.1
  intro x0 x1 y0 h H locs cells slots ls hH hL hl hrun
  unfold f_X1_percent_58 at hrun
  refine lv_istore_n (i := 2) (lv' := [(2, .int y0), (0, rv x0), (1, .int x1)]) (pc := 58) hx hb dX1_percent_58 rfl hl (by decide) rfl (fun ls hl => ?_)
  refine V_aload_n (pc := 59) hx hb dX1_percent_59 rfl (lv_at hl 1 rfl) ?_
  refine lv_iload_n (pc := 60) hx hb dX1_percent_60 rfl (lv_at hl 0 rfl) ?_
  refine lv_if_eq (tgt := 68) (pc := 61) hx hb dX1_percent_61 (by decide) (fun c_ => ?_) (fun c_ => ?_)
  · have hrun := ite_t hrun c_
    refine V_aload_n (pc := 68) hx hb dX1_percent_68 rfl (lv_at hl 1 rfl) ?_
    obtain ⟨c4, hrun⟩ := gd_some hrun
    refine V_getI (pc := 69) C hH fr_X1_108 dX1_percent_69 c4 rfl ?_
    exact b_X1_percent_72 C y0 x0 (kI h 16 x0) h H locs cells slots ls hH hL (lv_sub hl [0] rfl) hrun
  · have hrun := ite_f hrun c_
    refine lv_iload_n (pc := 64) hx hb dX1_percent_64 rfl (lv_at hl 2 rfl) ?_
    refine lv_goto (tgt := 72) (pc := 65) hx hb dX1_percent_65 (by decide) ?_
    exact b_X1_percent_72 C y0 x0 x1 h H locs cells slots ls hH hL (lv_sub hl [0] rfl) hrun

theorem b_X1_percent_31 {rr : (Int32 ⊕ Ex) × Hp}  (C : CX p l R s m args meth c D Hs cX1_percent "Massclaim" 3 (some .boolean) [] 7 110)  : ∀ (x0 : Nat) (x1 : Int32) (y0 : Int32) (h : Hp) (H : Heap) (locs : List Loc) (cells slots : Nat) (ls : Array Slot), HP D Hs h H → LO Hs locs → lv_has ls 3 [(0, rv x0), (1, .int x1)] → f_X1_percent_31 x0 x1 y0 h = some rr → W p l e R s m args below meth c H locs cells slots (ZM D Hs iI rr below args s) (F0 m 31 ls [.int y0]) := by
  obtain ⟨⟨hx, hb, hml, hown, hts⟩, -⟩ := id C
  have hl9 := C.2.1.2.2.1
  intro x0 x1 y0 h H locs cells slots ls hH hL hl hrun
  unfold f_X1_percent_31 at hrun
  refine V_bd (pc := 31) C hL rfl hrun (fun rr1 e1 => Z_runS (rest := []) C hH (m_X1_requireState hl9 e1) wS_X1_182 rfl ⟨by decide, by decide⟩ rfl (Nat.le_of_ble_eq_true rfl) hl.1 dX1_percent_31) (fun _ h6 H locs cells slots hH hL hrun => ?_)
  refine V_aload_n (pc := 34) hx hb dX1_percent_34 rfl (lv_at hl 0 rfl) ?_
  obtain ⟨c7, hrun⟩ := gd_some hrun
  refine V_getL (pc := 35) C hH fr_X1_111 dX1_percent_35 c7 rfl ?_
  refine V_aload_n (pc := 38) hx hb dX1_percent_38 rfl (lv_at hl 0 rfl) ?_
  refine lv_iload_n (pc := 39) hx hb dX1_percent_39 rfl (lv_at hl 1 rfl) ?_
  refine V_bd (pc := 40) C hL rfl hrun (fun rr1 e1 => Z_runV (rest := [.long (kL h6 17 x0)]) C hH (m_X1_due hl9 e1) wV_X1_471 c7 rfl (by decide) rfl rfl ⟨by decide, by decide⟩ rfl (Nat.le_of_ble_eq_true rfl) hl.1 dX1_percent_40) (fun v8 h9 H locs cells slots hH hL hrun => ?_)
  refine V_aload_n (pc := 43) hx hb dX1_percent_43 rfl (lv_at hl 0 rfl) ?_
  refine lv_iload_n (pc := 44) hx hb dX1_percent_44 rfl (lv_at hl 1 rfl) ?_
  obtain ⟨c12, hrun⟩ := gd_some hrun
  refine V_bd (pc := 45) C hL rfl hrun (fun rr1 e1 => Z_runV (rest := [.long v8, .long (kL h6 17 x0)]) C hH (m_X1_reserve hl9 e1) wV_X1_472 c12 rfl (by decide) rfl rfl ⟨by decide, by decide⟩ rfl (Nat.le_of_ble_eq_true rfl) hl.1 dX1_percent_45) (fun v10 h11 H locs cells slots hH hL hrun => ?_)
  refine lv_ladd (pc := 48) hx hb dX1_percent_48 ?_
  refine V_lcmp_lt (tgt := 57) (pc := 49) hx hb dX1_percent_49 dX1_percent_50 (by decide) (fun c_ => ?_) (fun c_ => ?_)
  · have hrun := ite_t hrun c_
    refine lv_iconst (v := (0 : Int32)) (pc := 57) hx hb dX1_percent_57 (by decide) ?_
    exact b_X1_percent_58 C x0 x1 (0 : Int32) h11 H locs cells slots ls hH hL (lv_sub hl [0, 1] rfl) hrun
  · have hrun := ite_f hrun c_
    refine lv_iconst (v := (1 : Int32)) (pc := 53) hx hb dX1_percent_53 (by decide) ?_
    refine lv_goto (tgt := 58) (pc := 54) hx hb dX1_percent_54 (by decide) ?_
    exact b_X1_percent_58 C x0 x1 (1 : Int32) h11 H locs cells slots ls hH hL (lv_sub hl [0, 1] rfl) hrun

theorem b_X1_percent {rr : (Int32 ⊕ Ex) × Hp}  (C : CX p l R s m args meth c D Hs cX1_percent "Massclaim" 3 (some .boolean) [] 7 110)  : ∀ (x0 : Nat) (x1 : Int32) (h : Hp) (H : Heap) (locs : List Loc) (cells slots : Nat) (ls : Array Slot), HP D Hs h H → LO Hs locs → lv_has ls 3 [(0, rv x0), (1, .int x1)] → f_X1_percent x0 x1 h = some rr → W p l e R s m args below meth c H locs cells slots (ZM D Hs iI rr below args s) (F0 m 0 ls []) := by
  obtain ⟨⟨hx, hb, hml, hown, hts⟩, -⟩ := id C
  have hl9 := C.2.1.2.2.1
  intro x0 x1 h H locs cells slots ls hH hL hl hrun
  unfold f_X1_percent at hrun
  refine lv_iload_n (pc := 0) hx hb dX1_percent_0 rfl (lv_at hl 1 rfl) ?_
  refine lv_i2l (pc := 1) hx hb dX1_percent_1 rfl ?_
  refine V_aload_n (pc := 2) hx hb dX1_percent_2 rfl (lv_at hl 0 rfl) ?_
  obtain ⟨c13, hrun⟩ := gd_some hrun
  refine V_getI (pc := 3) C hH fr_X1_108 dX1_percent_3 c13 rfl ?_
  refine lv_iconst (v := (1 : Int32)) (pc := 6) hx hb dX1_percent_6 (by decide) ?_
  refine lv_iadd (pc := 7) hx hb dX1_percent_7 ?_
  refine lv_i2l (pc := 8) hx hb dX1_percent_8 rfl ?_
  refine lv_ldc2 (pc := 9) hx hb hown (hts _ q404) dX1_percent_9 ?_
  refine V_bd (pc := 12) C hL rfl hrun (fun rr1 e1 => Z_runS (rest := []) C hH (m_X1_isIn hl9 e1) wS_X1_127 rfl ⟨by decide, by decide⟩ rfl (Nat.le_of_ble_eq_true rfl) hl.1 dX1_percent_12) (fun v14 h15 H locs cells slots hH hL hrun => ?_)
  refine V_bd (pc := 15) C hL rfl hrun (fun rr1 e1 => Z_runS (rest := []) C hH (m_X1_requireArgument hl9 e1) wS_X1_131 rfl ⟨by decide, by decide⟩ rfl (Nat.le_of_ble_eq_true rfl) hl.1 dX1_percent_15) (fun _ h17 H locs cells slots hH hL hrun => ?_)
  refine V_aload_n (pc := 18) hx hb dX1_percent_18 rfl (lv_at hl 0 rfl) ?_
  obtain ⟨c20, hrun⟩ := gd_some hrun
  refine V_bd (pc := 19) C hL rfl hrun (fun rr1 e1 => Z_runV (rest := []) C hH (m_X1_stage hl9 e1) wV_X1_123 c20 rfl (by decide) rfl rfl ⟨by decide, by decide⟩ rfl (Nat.le_of_ble_eq_true rfl) hl.1 dX1_percent_19) (fun v18 h19 H locs cells slots hH hL hrun => ?_)
  refine lv_iconst (v := (3 : Int32)) (pc := 22) hx hb dX1_percent_22 (by decide) ?_
  refine lv_icmp_ne (tgt := 30) (pc := 23) hx hb dX1_percent_23 (by decide) (fun c_ => ?_) (fun c_ => ?_)
  · have hrun := ite_f hrun c_
    refine lv_iconst (v := (0 : Int32)) (pc := 30) hx hb dX1_percent_30 (by decide) ?_
    exact b_X1_percent_31 C x0 x1 (0 : Int32) h19 H locs cells slots ls hH hL (lv_sub hl [0, 1] rfl) hrun
  · have hrun := ite_t hrun c_
    refine lv_iconst (v := (1 : Int32)) (pc := 26) hx hb dX1_percent_26 (by decide) ?_
    refine lv_goto (tgt := 31) (pc := 27) hx hb dX1_percent_27 (by decide) ?_
    exact b_X1_percent_31 C x0 x1 (1 : Int32) h19 H locs cells slots ls hH hL (lv_sub hl [0, 1] rfl) hrun

theorem m_X1_percent {l : Launch} {D : va_G} {Hs : Heap} {h : Hp} {rr : (Int32 ⊕ Ex) × Hp} (hl9 : l.stackTraces = false) {x0 : Nat} {x1 : Int32} (hrun : f_X1_percent x0 x1 h = some rr) : CM l yX1_percent (ws_ yX1_percent cX1_percent 3 (some .boolean)) 7 110 iI [rv x0, .int x1] D Hs h rr := by
  refine CM.of (lv := [(0, rv x0), (1, .int x1)]) (plainFor_of_name (by decide)) hl9 (by simp [lv_args, rv_cat, cat_i, cat_l, cat_f, cat_d]) (by simp [lg_sl, rv_cat, cat_i, cat_l, cat_f, cat_d]) ?_
  intro p e R s m args below meth c H ls C hH hl hin
  exact b_X1_percent C x0 x1 _ H [] _ _ ls hH (fun _ q => nomatch q) (lv_sub hl [0, 1] rfl) hrun

/-! MassclaimLaw.percent(LMassclaim;I[J)I -/
def f_X0_percent_19  (y0 : Nat) (h : Hp) : Rt Int32 :=
  some (.inl (1 : Int32), h)
def f_X0_percent_22  (y0 : Nat) (h : Hp) : Rt Int32 :=
  some (.inl (2 : Int32), h)
def f_X0_percent_15  (y0 : Nat) (y1 : Int32) (y2 : Int64) (h : Hp) : Rt Int32 :=
  gd (kC h y0 = 102 ∧ ixo y1 (kN h y0)) <| vl (tL h y0 (y1).toNatClampNeg y2) fun h2 => some (.inl (0 : Int32), h2)
def f_X0_percent  (x0 : Nat) (x1 : Int32) (x2 : Nat) (h : Hp) : Rt Int32 :=
  gd (kC h x0 = 1) <| bdH (f_X1_percent x0 x1 h)
  (fun v3 h4 => if v3 = 0 then
  (f_X0_percent_15 x2 (0 : Int32) (0 : Int64) h4)
  else
  (f_X0_percent_15 x2 (0 : Int32) (1 : Int64) h4))
  (fun ex6 h7 => if ex6.1 = 902 then
  (f_X0_percent_19 ex6.2 h7)
  else
  if ex6.1 = 903 then
  (f_X0_percent_22 ex6.2 h7)
  else
  none)
theorem b_X0_percent_19 {rr : (Int32 ⊕ Ex) × Hp}  (C : CX p l R s m args meth c D Hs cX0_percent "MassclaimLaw" 4 (some .int) [(0, 16, 19, 13), (0, 16, 22, 19)] 8 132)  : ∀ (y0 : Nat) (h : Hp) (H : Heap) (locs : List Loc) (cells slots : Nat) (ls : Array Slot), HP D Hs h H → LO Hs locs → lv_has ls 4 [] → f_X0_percent_19 y0 h = some rr → W p l e R s m args below meth c H locs cells slots (ZM D Hs iI rr below args s) (F0 m 19 ls [rv y0]) := by
  obtain ⟨⟨hx, hb, hml, hown, hts⟩, -⟩ := id C
  have hl9 := C.2.1.2.2.1
  intro y0 h H locs cells slots ls hH hL hl hrun
  unfold f_X0_percent_19 at hrun
  refine V_astore_n (i := 3) (lv' := [(3, rv y0)]) (pc := 19) hx hb dX0_percent_19 rfl hl (by decide) rfl (fun ls hl => ?_)
  refine lv_iconst (v := (1 : Int32)) (pc := 20) hx hb dX0_percent_20 (by decide) ?_
  exact V_iret (pc := 21) C hH hL hrun dX0_percent_21

theorem b_X0_percent_22 {rr : (Int32 ⊕ Ex) × Hp}  (C : CX p l R s m args meth c D Hs cX0_percent "MassclaimLaw" 4 (some .int) [(0, 16, 19, 13), (0, 16, 22, 19)] 8 132)  : ∀ (y0 : Nat) (h : Hp) (H : Heap) (locs : List Loc) (cells slots : Nat) (ls : Array Slot), HP D Hs h H → LO Hs locs → lv_has ls 4 [] → f_X0_percent_22 y0 h = some rr → W p l e R s m args below meth c H locs cells slots (ZM D Hs iI rr below args s) (F0 m 22 ls [rv y0]) := by
  obtain ⟨⟨hx, hb, hml, hown, hts⟩, -⟩ := id C
  have hl9 := C.2.1.2.2.1
  intro y0 h H locs cells slots ls hH hL hl hrun
  unfold f_X0_percent_22 at hrun
  refine V_astore_n (i := 3) (lv' := [(3, rv y0)]) (pc := 22) hx hb dX0_percent_22 rfl hl (by decide) rfl (fun ls hl => ?_)
  refine lv_iconst (v := (2 : Int32)) (pc := 23) hx hb dX0_percent_23 (by decide) ?_
  exact V_iret (pc := 24) C hH hL hrun dX0_percent_24

theorem b_X0_percent_15 {rr : (Int32 ⊕ Ex) × Hp}  (C : CX p l R s m args meth c D Hs cX0_percent "MassclaimLaw" 4 (some .int) [(0, 16, 19, 13), (0, 16, 22, 19)] 8 132)  : ∀ (y0 : Nat) (y1 : Int32) (y2 : Int64) (h : Hp) (H : Heap) (locs : List Loc) (cells slots : Nat) (ls : Array Slot), HP D Hs h H → LO Hs locs → lv_has ls 4 [] → f_X0_percent_15 y0 y1 y2 h = some rr → W p l e R s m args below meth c H locs cells slots (ZM D Hs iI rr below args s) (F0 m 15 ls [.long y2, .int y1, rv y0]) := by
  obtain ⟨⟨hx, hb, hml, hown, hts⟩, -⟩ := id C
  have hl9 := C.2.1.2.2.1
  intro y0 y1 y2 h H locs cells slots ls hH hL hl hrun
  unfold f_X0_percent_15 at hrun
  obtain ⟨c1, hrun⟩ := gd_some hrun
  refine V_last (pc := 15) C hH hL dX0_percent_15 c1 hrun (fun h2 H locs hH hL hrun => ?_)
  refine lv_goto (tgt := 25) (pc := 16) hx hb dX0_percent_16 (by decide) ?_
  refine lv_iconst (v := (0 : Int32)) (pc := 25) hx hb dX0_percent_25 (by decide) ?_
  exact V_iret (pc := 26) C hH hL hrun dX0_percent_26

theorem b_X0_percent {rr : (Int32 ⊕ Ex) × Hp}  (C : CX p l R s m args meth c D Hs cX0_percent "MassclaimLaw" 4 (some .int) [(0, 16, 19, 13), (0, 16, 22, 19)] 8 132)  : ∀ (x0 : Nat) (x1 : Int32) (x2 : Nat) (h : Hp) (H : Heap) (locs : List Loc) (cells slots : Nat) (ls : Array Slot), HP D Hs h H → LO Hs locs → lv_has ls 4 [(0, rv x0), (1, .int x1), (2, rv x2)] → f_X0_percent x0 x1 x2 h = some rr → W p l e R s m args below meth c H locs cells slots (ZM D Hs iI rr below args s) (F0 m 0 ls []) := by
  obtain ⟨⟨hx, hb, hml, hown, hts⟩, -⟩ := id C
  have hl9 := C.2.1.2.2.1
  intro x0 x1 x2 h H locs cells slots ls hH hL hl hrun
  unfold f_X0_percent at hrun
  refine V_aload_n (pc := 0) hx hb dX0_percent_0 rfl (lv_at hl 2 rfl) ?_
  refine lv_iconst (v := (0 : Int32)) (pc := 1) hx hb dX0_percent_1 (by decide) ?_
  refine V_aload_n (pc := 2) hx hb dX0_percent_2 rfl (lv_at hl 0 rfl) ?_
  refine lv_iload_n (pc := 3) hx hb dX0_percent_3 rfl (lv_at hl 1 rfl) ?_
  obtain ⟨c5, hrun⟩ := gd_some hrun
  refine V_bdH (pc := 4) hL hrun (fun rr1 e1 => Z_runV (rest := [.int (0 : Int32), rv x2]) C hH (m_X1_percent hl9 e1) wV_X0_131 c5 rfl (by decide) rfl rfl ⟨by decide, by decide⟩ rfl (by simp [csum, rv_cat, cat_i, cat_l, cat_f, cat_d]) hl.1 dX0_percent_4) (fun v3 h4 H locs cells slots hH hL hrun => ?_) (fun x_ q_ ce_ h7 H locs cells slots hH hL hrun hc_ hv_ hcl_ => ?_)
  · refine lv_if_eq (tgt := 14) (pc := 7) hx hb dX0_percent_7 (by decide) (fun c_ => ?_) (fun c_ => ?_)
    · have hrun := ite_t hrun c_
      refine lv_lconst (v := (0 : Int64)) (pc := 14) hx hb dX0_percent_14 (by decide) ?_
      exact b_X0_percent_15 C x2 (0 : Int32) (0 : Int64) h4 H locs cells slots ls hH hL (lv_sub hl [] rfl) hrun
    · have hrun := ite_f hrun c_
      refine lv_lconst (v := (1 : Int64)) (pc := 10) hx hb dX0_percent_10 (by decide) ?_
      refine lv_goto (tgt := 15) (pc := 11) hx hb dX0_percent_11 (by decide) ?_
      exact b_X0_percent_15 C x2 (0 : Int32) (1 : Int64) h4 H locs cells slots ls hH hL (lv_sub hl [] rfl) hrun
  · by_cases n902 : x_ = 902
    · subst n902
      have hrun := ite_t hrun rfl
      refine vx_catch (E := "java/lang/IllegalArgumentException") (name := "java/lang/IllegalArgumentException") hown (tableOf []) ⟨0, 16, 19, 13⟩ (tableOf [(0, 16, 22, 19)]) (by rw [C.2.1.2.2.2.2]; rfl) (fun z hz => nomatch hz) (by decide) (by decide) (hts _ q449) (va_Nw.use rfl (C.2.1.2.2.2.1.2.1 _ q463 rfl)) hc_ hv_ hcl_ ?_
      exact b_X0_percent_19 C (q_ + 1) h7 H locs cells slots ls hH hL (lv_sub hl [] rfl) hrun
    have hrun := ite_f hrun n902
    by_cases n903 : x_ = 903
    · subst n903
      have hrun := ite_t hrun rfl
      refine vx_catch (E := "java/lang/IllegalStateException") (name := "java/lang/IllegalStateException") hown (tableOf [(0, 16, 19, 13)]) ⟨0, 16, 22, 19⟩ (tableOf []) (by rw [C.2.1.2.2.2.2]; rfl) (fun z hz => by simp only [tableOf, List.map, List.mem_cons, List.not_mem_nil, or_false] at hz; rcases hz with rfl <;> first | exact Or.inr ⟨by decide, "java/lang/IllegalArgumentException", hts _ q449, nc_at C (by decide)⟩) (by decide) (by decide) (hts _ q585) (va_Nw.use rfl (C.2.1.2.2.2.1.2.1 _ q702 rfl)) hc_ hv_ hcl_ ?_
      exact b_X0_percent_22 C (q_ + 1) h7 H locs cells slots ls hH hL (lv_sub hl [] rfl) hrun
    have hrun := ite_f hrun n903
    cases hrun

theorem m_X0_percent {l : Launch} {D : va_G} {Hs : Heap} {h : Hp} {rr : (Int32 ⊕ Ex) × Hp} (hl9 : l.stackTraces = false) {x0 : Nat} {x1 : Int32} {x2 : Nat} (hrun : f_X0_percent x0 x1 x2 h = some rr) : CM l yX0_percent (wsW_ yX0_percent cX0_percent 4 (some .int) [(0, 16, 19, 13), (0, 16, 22, 19)]) 8 132 iI [rv x0, .int x1, rv x2] D Hs h rr := by
  refine CM.ofH (lv := [(0, rv x0), (1, .int x1), (2, rv x2)]) (plainFor_of_name (by decide)) hl9 (by simp [lv_args, rv_cat, cat_i, cat_l, cat_f, cat_d]) (by simp [lg_sl, rv_cat, cat_i, cat_l, cat_f, cat_d]) ?_
  intro p e R s m args below meth c H ls C hH hl hin
  exact b_X0_percent C x0 x1 x2 _ H [] _ _ ls hH (fun _ q => nomatch q) (lv_sub hl [0, 1, 2] rfl) hrun

/-! MassclaimModel.allDue(I)J -/
def f_X4_allDue_5  : Nat → Nat → Int32 → Int64 → Int32 → Hp → Rt Int64
  | 0, _, _, _, _, _ => none
  | n + 1, x0, x1, x2, x4, h => gd (kC h x0 = 4) <| gd (kC h (kR h 320 x0) = 18) <| bd (f_J2_size (kR h 320 x0) h) fun v2 h3 => if v2 ≤ x4 then
  (some (.inl x2, h3))
  else
  (gd (kC h3 x0 = 4) <| gd (kC h3 (kR h3 320 x0) = 18) <| bd (f_J2_get (kR h3 320 x0) x4 h3) fun v6 h7 => gd (v6 = 0 ∨ kC h7 v6 = 13) <| gd (kC h7 x0 = 4) <| bd (f_X4_due x0 v6 x1 h7) fun v10 h11 => vl (x2 + v10) fun v13 => vl (x4 + (1 : Int32)) fun v14 => f_X4_allDue_5 n x0 x1 v13 v14 h11)
def f_X4_allDue  (x0 : Nat) (x1 : Int32) (h : Hp) : Rt Int64 :=
  f_X4_allDue_5 FU x0 x1 (0 : Int64) (0 : Int32) h
theorem b_X4_allDue_5 {rr : (Int64 ⊕ Ex) × Hp}  (C : CX p l R s m args meth c D Hs cX4_allDue "MassclaimModel" 5 (some .long) [] 5 94)  : ∀ (n : Nat) (x0 : Nat) (x1 : Int32) (x2 : Int64) (x4 : Int32) (h : Hp) (H : Heap) (locs : List Loc) (cells slots : Nat) (ls : Array Slot), HP D Hs h H → LO Hs locs → lv_has ls 5 [(0, rv x0), (1, .int x1), (2, .long x2), (4, .int x4)] → f_X4_allDue_5 n x0 x1 x2 x4 h = some rr → W p l e R s m args below meth c H locs cells slots (ZM D Hs iL rr below args s) (F0 m 5 ls []) := by
  obtain ⟨⟨hx, hb, hml, hown, hts⟩, -⟩ := id C
  have hl9 := C.2.1.2.2.1
  intro n
  induction n with
  | zero =>
    intro x0 x1 x2 x4 h H locs cells slots ls hH hL hl hrun
    cases (show (none : Option _) = some rr from hrun)
  | succ n ih =>
    intro x0 x1 x2 x4 h H locs cells slots ls hH hL hl hrun
    rw [f_X4_allDue_5] at hrun
    refine lv_iload (pc := 5) hx hb dX4_allDue_5 (lv_at hl 3 rfl) ?_
    refine V_aload_n (pc := 7) hx hb dX4_allDue_7 rfl (lv_at hl 0 rfl) ?_
    obtain ⟨c1, hrun⟩ := gd_some hrun
    refine V_getR (pc := 8) C hH fr_X4_30 dX4_allDue_8 c1 rfl ?_
    obtain ⟨c4, hrun⟩ := gd_some hrun
    refine V_bd (pc := 11) C hL rfl hrun (fun rr1 e1 => Z_runV (rest := [.int x4]) C hH (m_J2_size hl9 e1) wV_X4_94 c4 rfl (by decide) rfl rfl ⟨by decide, by decide⟩ rfl (Nat.le_of_ble_eq_true rfl) hl.1 dX4_allDue_11) (fun v2 h3 H locs cells slots hH hL hrun => ?_)
    refine lv_icmp_ge (tgt := 43) (pc := 14) hx hb dX4_allDue_14 (by decide) (fun c_ => ?_) (fun c_ => ?_)
    · have hrun := ite_t hrun c_
      refine lv_lload_n (pc := 43) hx hb dX4_allDue_43 rfl (lv_at hl 2 rfl) ?_
      exact V_lret (pc := 44) C hH hL hrun dX4_allDue_44
    · have hrun := ite_f hrun c_
      refine lv_lload_n (pc := 17) hx hb dX4_allDue_17 rfl (lv_at hl 2 rfl) ?_
      refine V_aload_n (pc := 18) hx hb dX4_allDue_18 rfl (lv_at hl 0 rfl) ?_
      refine V_aload_n (pc := 19) hx hb dX4_allDue_19 rfl (lv_at hl 0 rfl) ?_
      obtain ⟨c5, hrun⟩ := gd_some hrun
      refine V_getR (pc := 20) C hH fr_X4_30 dX4_allDue_20 c5 rfl ?_
      refine lv_iload (pc := 23) hx hb dX4_allDue_23 (lv_at hl 3 rfl) ?_
      obtain ⟨c8, hrun⟩ := gd_some hrun
      refine V_bd (pc := 25) C hL rfl hrun (fun rr1 e1 => Z_runV (rest := [rv x0, .long x2]) C hH (m_J2_get hl9 e1) wV_X4_108 c8 rfl (by decide) rfl rfl ⟨by decide, by decide⟩ rfl (by simp [csum, rv_cat, cat_i, cat_l, cat_f, cat_d]) hl.1 dX4_allDue_25) (fun v6 h7 H locs cells slots hH hL hrun => ?_)
      obtain ⟨c9, hrun⟩ := gd_some hrun
      refine V_castX (pc := 28) (ci := 12) C hH rfl (by decide) q1955 dX4_allDue_28 c9 ?_
      refine lv_iload_n (pc := 31) hx hb dX4_allDue_31 rfl (lv_at hl 1 rfl) ?_
      obtain ⟨c12, hrun⟩ := gd_some hrun
      refine V_bd (pc := 32) C hL rfl hrun (fun rr1 e1 => Z_runV (rest := [.long x2]) C hH (m_X4_due hl9 e1) wV_X4_412 c12 rfl (by decide) rfl rfl ⟨by decide, by decide⟩ rfl (Nat.le_of_ble_eq_true rfl) hl.1 dX4_allDue_32) (fun v10 h11 H locs cells slots hH hL hrun => ?_)
      refine lv_ladd (pc := 35) hx hb dX4_allDue_35 ?_
      refine lv_topl (fun v13 ev13 => ?_)
      have hrun := vl_at hrun v13 ev13
      refine lv_lstore_n (i := 2) (lv' := [(2, .long v13), (0, rv x0), (1, .int x1), (4, .int x4)]) (pc := 36) hx hb dX4_allDue_36 rfl hl (by decide) rfl (fun ls hl => ?_)
      obtain ⟨v14, ev14⟩ : ∃ y : Int32, y = x4 + (1 : Int32) := ⟨_, rfl⟩
      have hrun := vl_at hrun v14 ev14
      refine lv_iinc (v := v14) (lv' := [(4, .int v14), (2, .long v13), (0, rv x0), (1, .int x1)]) (pc := 37) hx hb dX4_allDue_37 hl (k := 3) rfl (by rw [ev14]; rfl) (by decide) (by first | rfl | simp [rv_cat, cat_i, cat_l, cat_f, cat_d]) (fun ls hl => ?_)
      refine lv_goto (tgt := 5) (pc := 40) hx hb dX4_allDue_40 (by decide) ?_
      exact ih x0 x1 v13 v14 h11 H locs cells slots ls hH hL (lv_sub hl [2, 3, 1, 0] rfl) hrun

theorem b_X4_allDue {rr : (Int64 ⊕ Ex) × Hp}  (C : CX p l R s m args meth c D Hs cX4_allDue "MassclaimModel" 5 (some .long) [] 5 94)  : ∀ (x0 : Nat) (x1 : Int32) (h : Hp) (H : Heap) (locs : List Loc) (cells slots : Nat) (ls : Array Slot), HP D Hs h H → LO Hs locs → lv_has ls 5 [(0, rv x0), (1, .int x1)] → f_X4_allDue x0 x1 h = some rr → W p l e R s m args below meth c H locs cells slots (ZM D Hs iL rr below args s) (F0 m 0 ls []) := by
  obtain ⟨⟨hx, hb, hml, hown, hts⟩, -⟩ := id C
  have hl9 := C.2.1.2.2.1
  intro x0 x1 h H locs cells slots ls hH hL hl hrun
  unfold f_X4_allDue at hrun
  refine lv_lconst (v := (0 : Int64)) (pc := 0) hx hb dX4_allDue_0 (by decide) ?_
  refine lv_lstore_n (i := 2) (lv' := [(2, .long (0 : Int64)), (0, rv x0), (1, .int x1)]) (pc := 1) hx hb dX4_allDue_1 rfl hl (by decide) rfl (fun ls hl => ?_)
  refine lv_iconst (v := (0 : Int32)) (pc := 2) hx hb dX4_allDue_2 (by decide) ?_
  refine lv_istore (i := 4) (lv' := [(4, .int (0 : Int32)), (2, .long (0 : Int64)), (0, rv x0), (1, .int x1)]) (pc := 3) hx hb dX4_allDue_3 hl (by decide) rfl (fun ls hl => ?_)
  exact b_X4_allDue_5 C FU x0 x1 (0 : Int64) (0 : Int32) h H locs cells slots ls hH hL (lv_sub hl [2, 3, 1, 0] rfl) hrun

theorem m_X4_allDue {l : Launch} {D : va_G} {Hs : Heap} {h : Hp} {rr : (Int64 ⊕ Ex) × Hp} (hl9 : l.stackTraces = false) {x0 : Nat} {x1 : Int32} (hrun : f_X4_allDue x0 x1 h = some rr) : CM l yX4_allDue (ws_ yX4_allDue cX4_allDue 5 (some .long)) 5 94 iL [rv x0, .int x1] D Hs h rr := by
  refine CM.of (lv := [(0, rv x0), (1, .int x1)]) (plainFor_of_name (by decide)) hl9 (by simp [lv_args, rv_cat, cat_i, cat_l, cat_f, cat_d]) (by simp [lg_sl, rv_cat, cat_i, cat_l, cat_f, cat_d]) ?_
  intro p e R s m args below meth c H ls C hH hl hin
  exact b_X4_allDue C x0 x1 _ H [] _ _ ls hH (fun _ q => nomatch q) (lv_sub hl [0, 1] rfl) hrun

/-! MassclaimModel.reserve(I)J -/
def f_X4_reserve_97 (k5 : Nat → Int32 → Int64 → Int32 → Hp → Rt Int64) (x0 : Nat) (x1 : Int32) (x2 : Int64) (x4 : Int32) (h : Hp) : Rt Int64 :=
  vl (x4 + (1 : Int32)) fun v1 => k5 x0 x1 x2 v1 h
def f_X4_reserve_5  : Nat → Nat → Int32 → Int64 → Int32 → Hp → Rt Int64
  | 0, _, _, _, _, _ => none
  | n + 1, x0, x1, x2, x4, h => gd (kC h x0 = 4) <| gd (kC h (kR h 302 x0) = 18) <| bd (f_J2_size (kR h 302 x0) h) fun v3 h4 => if v3 ≤ x4 then
  (some (.inl x2, h4))
  else
  (gd (kC h4 x0 = 4) <| gd (kC h4 (kR h4 302 x0) = 18) <| bd (f_J2_get (kR h4 302 x0) x4 h4) fun v7 h8 => gd (v7 = 0 ∨ kC h8 v7 = 6) <| gd (kC h8 x0 = 4) <| bd (f_X4_isIn x0 v7 h8) fun v11 h12 => if v11 = 0 then
  (f_X4_reserve_97 (f_X4_reserve_5 n) x0 x1 x2 x4 h12)
  else
  (gd (kC h12 v7 = 6) <| bd (f_X6_lives v7 h12) fun v14 h15 => if v14 = 0 then
  (f_X4_reserve_97 (f_X4_reserve_5 n) x0 x1 x2 x4 h15)
  else
  (gd (kC h15 v7 = 6) <| if (kI h15 504 v7) = 0 then
  (gd (kC h15 x0 = 4) <| bd (f_X6_age v7 (kI h15 301 x0) h15) fun v19 h20 => bd (f_X4_bandOf v19 h20) fun v21 h22 => gd (kC h22 (kR h15 315 x0) = 101 ∧ ixo ((8 : Int32) + v21) (kN h22 (kR h15 315 x0))) <| vl (x2 + ((((((kI h15 317 x0).toInt64) * ((jI h22 (kR h15 315 x0) (((8 : Int32) + v21)).toNatClampNeg).toInt64)) / (100 : Int64)) * (x1.toInt64)) / (100 : Int64))) fun v24 => f_X4_reserve_97 (f_X4_reserve_5 n) x0 x1 v24 x4 h22)
  else
  (f_X4_reserve_97 (f_X4_reserve_5 n) x0 x1 x2 x4 h15))))
def f_X4_reserve  (x0 : Nat) (x1 : Int32) (h : Hp) : Rt Int64 :=
  f_X4_reserve_5 FU x0 x1 (0 : Int64) (0 : Int32) h
theorem b_X4_reserve_97 {rr : (Int64 ⊕ Ex) × Hp} {k5 : Nat → Int32 → Int64 → Int32 → Hp → Rt Int64} (C : CX p l R s m args meth c D Hs cX4_reserve "MassclaimModel" 6 (some .long) [] 4 64) (K5 : ∀ (x0 : Nat) (x1 : Int32) (x2 : Int64) (x4 : Int32) (h : Hp) (H : Heap) (locs : List Loc) (cells slots : Nat) (ls : Array Slot), HP D Hs h H → LO Hs locs → lv_has ls 6 [(0, rv x0), (1, .int x1), (2, .long x2), (4, .int x4)] → k5 x0 x1 x2 x4 h = some rr → W p l e R s m args below meth c H locs cells slots (ZM D Hs iL rr below args s) (F0 m 5 ls [])) : ∀ (x0 : Nat) (x1 : Int32) (x2 : Int64) (x4 : Int32) (h : Hp) (H : Heap) (locs : List Loc) (cells slots : Nat) (ls : Array Slot), HP D Hs h H → LO Hs locs → lv_has ls 6 [(0, rv x0), (1, .int x1), (2, .long x2), (4, .int x4)] → f_X4_reserve_97 k5 x0 x1 x2 x4 h = some rr → W p l e R s m args below meth c H locs cells slots (ZM D Hs iL rr below args s) (F0 m 97 ls []) := by
  obtain ⟨⟨hx, hb, hml, hown, hts⟩, -⟩ := id C
  have hl9 := C.2.1.2.2.1
  intro x0 x1 x2 x4 h H locs cells slots ls hH hL hl hrun
  unfold f_X4_reserve_97 at hrun
  obtain ⟨v1, ev1⟩ : ∃ y : Int32, y = x4 + (1 : Int32) := ⟨_, rfl⟩
  have hrun := vl_at hrun v1 ev1
  refine lv_iinc (v := v1) (lv' := [(4, .int v1), (0, rv x0), (1, .int x1), (2, .long x2)]) (pc := 97) hx hb dX4_reserve_97 hl (k := 3) rfl (by rw [ev1]; rfl) (by decide) (by first | rfl | simp [rv_cat, cat_i, cat_l, cat_f, cat_d]) (fun ls hl => ?_)
  refine lv_goto (tgt := 5) (pc := 100) hx hb dX4_reserve_100 (by decide) ?_
  exact K5 x0 x1 x2 v1 h H locs cells slots ls hH hL (lv_sub hl [1, 2, 3, 0] rfl) hrun

theorem b_X4_reserve_5 {rr : (Int64 ⊕ Ex) × Hp}  (C : CX p l R s m args meth c D Hs cX4_reserve "MassclaimModel" 6 (some .long) [] 4 64)  : ∀ (n : Nat) (x0 : Nat) (x1 : Int32) (x2 : Int64) (x4 : Int32) (h : Hp) (H : Heap) (locs : List Loc) (cells slots : Nat) (ls : Array Slot), HP D Hs h H → LO Hs locs → lv_has ls 6 [(0, rv x0), (1, .int x1), (2, .long x2), (4, .int x4)] → f_X4_reserve_5 n x0 x1 x2 x4 h = some rr → W p l e R s m args below meth c H locs cells slots (ZM D Hs iL rr below args s) (F0 m 5 ls []) := by
  obtain ⟨⟨hx, hb, hml, hown, hts⟩, -⟩ := id C
  have hl9 := C.2.1.2.2.1
  intro n
  induction n with
  | zero =>
    intro x0 x1 x2 x4 h H locs cells slots ls hH hL hl hrun
    cases (show (none : Option _) = some rr from hrun)
  | succ n ih =>
    intro x0 x1 x2 x4 h H locs cells slots ls hH hL hl hrun
    rw [f_X4_reserve_5] at hrun
    refine lv_iload (pc := 5) hx hb dX4_reserve_5 (lv_at hl 3 rfl) ?_
    refine V_aload_n (pc := 7) hx hb dX4_reserve_7 rfl (lv_at hl 0 rfl) ?_
    obtain ⟨c2, hrun⟩ := gd_some hrun
    refine V_getR (pc := 8) C hH fr_X4_16 dX4_reserve_8 c2 rfl ?_
    obtain ⟨c5, hrun⟩ := gd_some hrun
    refine V_bd (pc := 11) C hL rfl hrun (fun rr1 e1 => Z_runV (rest := [.int x4]) C hH (m_J2_size hl9 e1) wV_X4_94 c5 rfl (by decide) rfl rfl ⟨by decide, by decide⟩ rfl (Nat.le_of_ble_eq_true rfl) hl.1 dX4_reserve_11) (fun v3 h4 H locs cells slots hH hL hrun => ?_)
    refine lv_icmp_ge (tgt := 103) (pc := 14) hx hb dX4_reserve_14 (by decide) (fun c_ => ?_) (fun c_ => ?_)
    · have hrun := ite_t hrun c_
      refine lv_lload_n (pc := 103) hx hb dX4_reserve_103 rfl (lv_at hl 2 rfl) ?_
      exact V_lret (pc := 104) C hH hL hrun dX4_reserve_104
    · have hrun := ite_f hrun c_
      refine V_aload_n (pc := 17) hx hb dX4_reserve_17 rfl (lv_at hl 0 rfl) ?_
      obtain ⟨c6, hrun⟩ := gd_some hrun
      refine V_getR (pc := 18) C hH fr_X4_16 dX4_reserve_18 c6 rfl ?_
      refine lv_iload (pc := 21) hx hb dX4_reserve_21 (lv_at hl 3 rfl) ?_
      obtain ⟨c9, hrun⟩ := gd_some hrun
      refine V_bd (pc := 23) C hL rfl hrun (fun rr1 e1 => Z_runV (rest := []) C hH (m_J2_get hl9 e1) wV_X4_108 c9 rfl (by decide) rfl rfl ⟨by decide, by decide⟩ rfl (Nat.le_of_ble_eq_true rfl) hl.1 dX4_reserve_23) (fun v7 h8 H locs cells slots hH hL hrun => ?_)
      obtain ⟨c10, hrun⟩ := gd_some hrun
      refine V_castX (pc := 26) (ci := 5) C hH rfl (by decide) q1946 dX4_reserve_26 c10 ?_
      refine V_astore (i := 5) (lv' := [(5, rv v7), (0, rv x0), (1, .int x1), (2, .long x2), (4, .int x4)]) (pc := 29) hx hb dX4_reserve_29 hl (by decide) rfl (fun ls hl => ?_)
      refine V_aload_n (pc := 31) hx hb dX4_reserve_31 rfl (lv_at hl 1 rfl) ?_
      refine V_aload (pc := 32) hx hb dX4_reserve_32 (lv_at hl 0 rfl) ?_
      obtain ⟨c13, hrun⟩ := gd_some hrun
      refine V_bd (pc := 34) C hL rfl hrun (fun rr1 e1 => Z_runV (rest := []) C hH (m_X4_isIn hl9 e1) wV_X4_120 c13 rfl (by decide) rfl rfl ⟨by decide, by decide⟩ rfl (Nat.le_of_ble_eq_true rfl) hl.1 dX4_reserve_34) (fun v11 h12 H locs cells slots hH hL hrun => ?_)
      refine lv_if_eq (tgt := 97) (pc := 37) hx hb dX4_reserve_37 (by decide) (fun c_ => ?_) (fun c_ => ?_)
      · have hrun := ite_t hrun c_
        exact b_X4_reserve_97 C ih x0 x1 x2 x4 h12 H locs cells slots ls hH hL (lv_sub hl [1, 2, 3, 4] rfl) hrun
      · have hrun := ite_f hrun c_
        refine V_aload (pc := 40) hx hb dX4_reserve_40 (lv_at hl 0 rfl) ?_
        obtain ⟨c16, hrun⟩ := gd_some hrun
        refine V_bd (pc := 42) C hL rfl hrun (fun rr1 e1 => Z_runV (rest := []) C hH (m_X6_lives hl9 e1) wV_X4_136 c16 rfl (by decide) rfl rfl ⟨by decide, by decide⟩ rfl (Nat.le_of_ble_eq_true rfl) hl.1 dX4_reserve_42) (fun v14 h15 H locs cells slots hH hL hrun => ?_)
        refine lv_if_eq (tgt := 97) (pc := 45) hx hb dX4_reserve_45 (by decide) (fun c_ => ?_) (fun c_ => ?_)
        · have hrun := ite_t hrun c_
          exact b_X4_reserve_97 C ih x0 x1 x2 x4 h15 H locs cells slots ls hH hL (lv_sub hl [1, 2, 3, 4] rfl) hrun
        · have hrun := ite_f hrun c_
          refine V_aload (pc := 48) hx hb dX4_reserve_48 (lv_at hl 0 rfl) ?_
          obtain ⟨c17, hrun⟩ := gd_some hrun
          refine V_getI (pc := 50) C hH fr_X4_117 dX4_reserve_50 c17 rfl ?_
          refine lv_if_ne (tgt := 97) (pc := 53) hx hb dX4_reserve_53 (by decide) (fun c_ => ?_) (fun c_ => ?_)
          · have hrun := ite_f hrun c_
            exact b_X4_reserve_97 C ih x0 x1 x2 x4 h15 H locs cells slots ls hH hL (lv_sub hl [1, 2, 3, 4] rfl) hrun
          · have hrun := ite_t hrun c_
            refine lv_lload_n (pc := 56) hx hb dX4_reserve_56 rfl (lv_at hl 3 rfl) ?_
            refine V_aload_n (pc := 57) hx hb dX4_reserve_57 rfl (lv_at hl 1 rfl) ?_
            obtain ⟨c18, hrun⟩ := gd_some hrun
            refine V_getI (pc := 58) C hH fr_X4_67 dX4_reserve_58 c18 rfl ?_
            refine lv_i2l (pc := 61) hx hb dX4_reserve_61 rfl ?_
            refine V_aload_n (pc := 62) hx hb dX4_reserve_62 rfl (lv_at hl 1 rfl) ?_
            refine V_getR (pc := 63) C hH fr_X4_26 dX4_reserve_63 c18 rfl ?_
            refine lv_bipush (v := (8 : Int32)) (pc := 66) hx hb dX4_reserve_66 (by decide) ?_
            refine V_aload (pc := 68) hx hb dX4_reserve_68 (lv_at hl 0 rfl) ?_
            refine V_aload_n (pc := 70) hx hb dX4_reserve_70 rfl (lv_at hl 1 rfl) ?_
            refine V_getI (pc := 71) C hH fr_X4_43 dX4_reserve_71 c18 rfl ?_
            refine V_bd (pc := 74) C hL rfl hrun (fun rr1 e1 => Z_runV (rest := [.int (8 : Int32), rv (kR h15 315 x0), .long ((kI h15 317 x0).toInt64), .long x2]) C hH (m_X6_age hl9 e1) wV_X4_143 c17 rfl (by decide) rfl rfl ⟨by decide, by decide⟩ rfl (by simp [csum, rv_cat, cat_i, cat_l, cat_f, cat_d]) hl.1 dX4_reserve_74) (fun v19 h20 H locs cells slots hH hL hrun => ?_)
            refine V_bd (pc := 77) C hL rfl hrun (fun rr1 e1 => Z_runS (rest := [.int (8 : Int32), rv (kR h15 315 x0), .long ((kI h15 317 x0).toInt64), .long x2]) C hH (m_X4_bandOf hl9 e1) wS_X4_376 rfl ⟨by decide, by decide⟩ rfl (by simp [csum, rv_cat, cat_i, cat_l, cat_f, cat_d]) hl.1 dX4_reserve_77) (fun v21 h22 H locs cells slots hH hL hrun => ?_)
            refine lv_iadd (pc := 80) hx hb dX4_reserve_80 ?_
            obtain ⟨c23, hrun⟩ := gd_some hrun
            refine V_iald (pc := 81) C hH dX4_reserve_81 c23 ?_
            refine lv_i2l (pc := 82) hx hb dX4_reserve_82 rfl ?_
            refine lv_lmul (pc := 83) hx hb dX4_reserve_83 ?_
            refine lv_ldc2 (pc := 84) hx hb hown (hts _ q2205) dX4_reserve_84 ?_
            refine lv_ldiv (pc := 87) hx hb dX4_reserve_87 (by decide) ?_
            refine lv_iload_n (pc := 88) hx hb dX4_reserve_88 rfl (lv_at hl 2 rfl) ?_
            refine lv_i2l (pc := 89) hx hb dX4_reserve_89 rfl ?_
            refine lv_lmul (pc := 90) hx hb dX4_reserve_90 ?_
            refine lv_ldc2 (pc := 91) hx hb hown (hts _ q2205) dX4_reserve_91 ?_
            refine lv_ldiv (pc := 94) hx hb dX4_reserve_94 (by decide) ?_
            refine lv_ladd (pc := 95) hx hb dX4_reserve_95 ?_
            refine lv_topl (fun v24 ev24 => ?_)
            have hrun := vl_at hrun v24 ev24
            refine lv_lstore_n (i := 2) (lv' := [(2, .long v24), (5, rv v7), (0, rv x0), (1, .int x1), (4, .int x4)]) (pc := 96) hx hb dX4_reserve_96 rfl hl (by decide) rfl (fun ls hl => ?_)
            exact b_X4_reserve_97 C ih x0 x1 v24 x4 h22 H locs cells slots ls hH hL (lv_sub hl [2, 3, 0, 4] rfl) hrun

theorem b_X4_reserve {rr : (Int64 ⊕ Ex) × Hp}  (C : CX p l R s m args meth c D Hs cX4_reserve "MassclaimModel" 6 (some .long) [] 4 64)  : ∀ (x0 : Nat) (x1 : Int32) (h : Hp) (H : Heap) (locs : List Loc) (cells slots : Nat) (ls : Array Slot), HP D Hs h H → LO Hs locs → lv_has ls 6 [(0, rv x0), (1, .int x1)] → f_X4_reserve x0 x1 h = some rr → W p l e R s m args below meth c H locs cells slots (ZM D Hs iL rr below args s) (F0 m 0 ls []) := by
  obtain ⟨⟨hx, hb, hml, hown, hts⟩, -⟩ := id C
  have hl9 := C.2.1.2.2.1
  intro x0 x1 h H locs cells slots ls hH hL hl hrun
  unfold f_X4_reserve at hrun
  refine lv_lconst (v := (0 : Int64)) (pc := 0) hx hb dX4_reserve_0 (by decide) ?_
  refine lv_lstore_n (i := 2) (lv' := [(2, .long (0 : Int64)), (0, rv x0), (1, .int x1)]) (pc := 1) hx hb dX4_reserve_1 rfl hl (by decide) rfl (fun ls hl => ?_)
  refine lv_iconst (v := (0 : Int32)) (pc := 2) hx hb dX4_reserve_2 (by decide) ?_
  refine lv_istore (i := 4) (lv' := [(4, .int (0 : Int32)), (2, .long (0 : Int64)), (0, rv x0), (1, .int x1)]) (pc := 3) hx hb dX4_reserve_3 hl (by decide) rfl (fun ls hl => ?_)
  exact b_X4_reserve_5 C FU x0 x1 (0 : Int64) (0 : Int32) h H locs cells slots ls hH hL (lv_sub hl [2, 3, 1, 0] rfl) hrun

theorem m_X4_reserve {l : Launch} {D : va_G} {Hs : Heap} {h : Hp} {rr : (Int64 ⊕ Ex) × Hp} (hl9 : l.stackTraces = false) {x0 : Nat} {x1 : Int32} (hrun : f_X4_reserve x0 x1 h = some rr) : CM l yX4_reserve (ws_ yX4_reserve cX4_reserve 6 (some .long)) 4 64 iL [rv x0, .int x1] D Hs h rr := by
  refine CM.of (lv := [(0, rv x0), (1, .int x1)]) (plainFor_of_name (by decide)) hl9 (by simp [lv_args, rv_cat, cat_i, cat_l, cat_f, cat_d]) (by simp [lg_sl, rv_cat, cat_i, cat_l, cat_f, cat_d]) ?_
  intro p e R s m args below meth c H ls C hH hl hin
  exact b_X4_reserve C x0 x1 _ H [] _ _ ls hH (fun _ q => nomatch q) (lv_sub hl [0, 1] rfl) hrun

/-! MassclaimModel.percent(I)Z -/
def f_X4_percent_44  (h : Hp) : Rt Int32 :=
  some (.inl (0 : Int32), h)
def f_X4_percent_84  (x2 : Int32) (y0 : Nat) (y1 : Int32) (h : Hp) : Rt Int32 :=
  gd (kC h y0 = 4) <| vl (sI h 319 y0 y1) fun h2 => gd (b01 x2) <| some (.inl x2, h2)
def f_X4_percent_70  (x0 : Nat) (x1 : Int32) (y0 : Int32) (h : Hp) : Rt Int32 :=
  if y0 = 0 then
  (gd (kC h x0 = 4) <| f_X4_percent_84 y0 x0 (kI h 319 x0) h)
  else
  (f_X4_percent_84 y0 x0 x1 h)
def f_X4_percent_37  (x0 : Nat) (x1 : Int32) (y0 : Nat) (y1 : Int32) (h : Hp) : Rt Int32 :=
  gd (kC h y0 = 4) <| bd (f_X4_isGood y0 y1 (2 : Int32) h) fun v5 h6 => if v5 = 0 then
  (f_X4_percent_44  h6)
  else
  (gd (kC h6 x0 = 4) <| bd (f_X4_allDue x0 x1 h6) fun v9 h10 => gd (kC h10 x0 = 4) <| bd (f_X4_reserve x0 x1 h10) fun v11 h12 => if (kL h6 322 x0) < (v9 + v11) then
  (f_X4_percent_70 x0 x1 (0 : Int32) h12)
  else
  (f_X4_percent_70 x0 x1 (1 : Int32) h12))
def f_X4_percent  (x0 : Nat) (x1 : Int32) (h : Hp) : Rt Int32 :=
  gd (kC h x0 = 4) <| bd (f_X4_isWithin (x1.toInt64) (((kI h 319 x0) + (1 : Int32)).toInt64) (100 : Int64) h) fun v15 h16 => gd (kC h16 x0 = 4) <| bd (f_X4_isGood x0 v15 (1 : Int32) h16) fun v17 h18 => if v17 = 0 then
  (f_X4_percent_44  h18)
  else
  (gd (kC h18 x0 = 4) <| if (kI h18 309 x0) = (3 : Int32) then
  (f_X4_percent_37 x0 x1 x0 (1 : Int32) h18)
  else
  (f_X4_percent_37 x0 x1 x0 (0 : Int32) h18))
theorem b_X4_percent_44 {rr : (Int32 ⊕ Ex) × Hp}  (C : CX p l R s m args meth c D Hs cX4_percent "MassclaimModel" 3 (some .boolean) [] 6 118)  : ∀ (h : Hp) (H : Heap) (locs : List Loc) (cells slots : Nat) (ls : Array Slot), HP D Hs h H → LO Hs locs → lv_has ls 3 [] → f_X4_percent_44 h = some rr → W p l e R s m args below meth c H locs cells slots (ZM D Hs iI rr below args s) (F0 m 44 ls []) := by
  obtain ⟨⟨hx, hb, hml, hown, hts⟩, -⟩ := id C
  have hl9 := C.2.1.2.2.1
  intro h H locs cells slots ls hH hL hl hrun
  unfold f_X4_percent_44 at hrun
  refine lv_iconst (v := (0 : Int32)) (pc := 44) hx hb dX4_percent_44 (by decide) ?_
  exact V_zret (pc := 45) C hH hL (Or.inl rfl) hrun dX4_percent_45

theorem b_X4_percent_84 {rr : (Int32 ⊕ Ex) × Hp}  (C : CX p l R s m args meth c D Hs cX4_percent "MassclaimModel" 3 (some .boolean) [] 6 118)  : ∀ (x2 : Int32) (y0 : Nat) (y1 : Int32) (h : Hp) (H : Heap) (locs : List Loc) (cells slots : Nat) (ls : Array Slot), HP D Hs h H → LO Hs locs → lv_has ls 3 [(2, .int x2)] → f_X4_percent_84 x2 y0 y1 h = some rr → W p l e R s m args below meth c H locs cells slots (ZM D Hs iI rr below args s) (F0 m 84 ls [.int y1, rv y0]) := by
  obtain ⟨⟨hx, hb, hml, hown, hts⟩, -⟩ := id C
  have hl9 := C.2.1.2.2.1
  intro x2 y0 y1 h H locs cells slots ls hH hL hl hrun
  unfold f_X4_percent_84 at hrun
  obtain ⟨c1, hrun⟩ := gd_some hrun
  refine V_putI (pc := 84) C hH hL fl_X4_73 dX4_percent_84 c1 (fok_i _) rfl (fun q => Bool.noConfusion q) hrun (fun h2 H locs hH hL hrun => ?_)
  refine lv_iload_n (pc := 87) hx hb dX4_percent_87 rfl (lv_at hl 0 rfl) ?_
  obtain ⟨c3, hrun⟩ := gd_some hrun
  exact V_zret (pc := 88) C hH hL c3 hrun dX4_percent_88

theorem b_X4_percent_70 {rr : (Int32 ⊕ Ex) × Hp}  (C : CX p l R s m args meth c D Hs cX4_percent "MassclaimModel" 3 (some .boolean) [] 6 118)  : ∀ (x0 : Nat) (x1 : Int32) (y0 : Int32) (h : Hp) (H : Heap) (locs : List Loc) (cells slots : Nat) (ls : Array Slot), HP D Hs h H → LO Hs locs → lv_has ls 3 [(0, rv x0), (1, .int x1)] → f_X4_percent_70 x0 x1 y0 h = some rr → W p l e R s m args below meth c H locs cells slots (ZM D Hs iI rr below args s) (F0 m 70 ls [.int y0]) := by
  obtain ⟨⟨hx, hb, hml, hown, hts⟩, -⟩ := id C
  have hl9 := C.2.1.2.2.1
  intro x0 x1 y0 h H locs cells slots ls hH hL hl hrun
  unfold f_X4_percent_70 at hrun
  refine lv_istore_n (i := 2) (lv' := [(2, .int y0), (0, rv x0), (1, .int x1)]) (pc := 70) hx hb dX4_percent_70 rfl hl (by decide) rfl (fun ls hl => ?_)
  refine V_aload_n (pc := 71) hx hb dX4_percent_71 rfl (lv_at hl 1 rfl) ?_
  refine lv_iload_n (pc := 72) hx hb dX4_percent_72 rfl (lv_at hl 0 rfl) ?_
  refine lv_if_eq (tgt := 80) (pc := 73) hx hb dX4_percent_73 (by decide) (fun c_ => ?_) (fun c_ => ?_)
  · have hrun := ite_t hrun c_
    refine V_aload_n (pc := 80) hx hb dX4_percent_80 rfl (lv_at hl 1 rfl) ?_
    obtain ⟨c4, hrun⟩ := gd_some hrun
    refine V_getI (pc := 81) C hH fr_X4_73 dX4_percent_81 c4 rfl ?_
    exact b_X4_percent_84 C y0 x0 (kI h 319 x0) h H locs cells slots ls hH hL (lv_sub hl [0] rfl) hrun
  · have hrun := ite_f hrun c_
    refine lv_iload_n (pc := 76) hx hb dX4_percent_76 rfl (lv_at hl 2 rfl) ?_
    refine lv_goto (tgt := 84) (pc := 77) hx hb dX4_percent_77 (by decide) ?_
    exact b_X4_percent_84 C y0 x0 x1 h H locs cells slots ls hH hL (lv_sub hl [0] rfl) hrun

theorem b_X4_percent_37 {rr : (Int32 ⊕ Ex) × Hp}  (C : CX p l R s m args meth c D Hs cX4_percent "MassclaimModel" 3 (some .boolean) [] 6 118)  : ∀ (x0 : Nat) (x1 : Int32) (y0 : Nat) (y1 : Int32) (h : Hp) (H : Heap) (locs : List Loc) (cells slots : Nat) (ls : Array Slot), HP D Hs h H → LO Hs locs → lv_has ls 3 [(0, rv x0), (1, .int x1)] → f_X4_percent_37 x0 x1 y0 y1 h = some rr → W p l e R s m args below meth c H locs cells slots (ZM D Hs iI rr below args s) (F0 m 37 ls [.int y1, rv y0]) := by
  obtain ⟨⟨hx, hb, hml, hown, hts⟩, -⟩ := id C
  have hl9 := C.2.1.2.2.1
  intro x0 x1 y0 y1 h H locs cells slots ls hH hL hl hrun
  unfold f_X4_percent_37 at hrun
  refine lv_iconst (v := (2 : Int32)) (pc := 37) hx hb dX4_percent_37 (by decide) ?_
  obtain ⟨c7, hrun⟩ := gd_some hrun
  refine V_bd (pc := 38) C hL rfl hrun (fun rr1 e1 => Z_runV (rest := []) C hH (m_X4_isGood hl9 e1) wV_X4_104 c7 rfl (by decide) rfl rfl ⟨by decide, by decide⟩ rfl (Nat.le_of_ble_eq_true rfl) hl.1 dX4_percent_38) (fun v5 h6 H locs cells slots hH hL hrun => ?_)
  refine lv_if_ne (tgt := 46) (pc := 41) hx hb dX4_percent_41 (by decide) (fun c_ => ?_) (fun c_ => ?_)
  · have hrun := ite_f hrun c_
    refine V_aload_n (pc := 46) hx hb dX4_percent_46 rfl (lv_at hl 0 rfl) ?_
    obtain ⟨c8, hrun⟩ := gd_some hrun
    refine V_getL (pc := 47) C hH fr_X4_76 dX4_percent_47 c8 rfl ?_
    refine V_aload_n (pc := 50) hx hb dX4_percent_50 rfl (lv_at hl 0 rfl) ?_
    refine lv_iload_n (pc := 51) hx hb dX4_percent_51 rfl (lv_at hl 1 rfl) ?_
    refine V_bd (pc := 52) C hL rfl hrun (fun rr1 e1 => Z_runV (rest := [.long (kL h6 322 x0)]) C hH (m_X4_allDue hl9 e1) wV_X4_429 c8 rfl (by decide) rfl rfl ⟨by decide, by decide⟩ rfl (Nat.le_of_ble_eq_true rfl) hl.1 dX4_percent_52) (fun v9 h10 H locs cells slots hH hL hrun => ?_)
    refine V_aload_n (pc := 55) hx hb dX4_percent_55 rfl (lv_at hl 0 rfl) ?_
    refine lv_iload_n (pc := 56) hx hb dX4_percent_56 rfl (lv_at hl 1 rfl) ?_
    obtain ⟨c13, hrun⟩ := gd_some hrun
    refine V_bd (pc := 57) C hL rfl hrun (fun rr1 e1 => Z_runV (rest := [.long v9, .long (kL h6 322 x0)]) C hH (m_X4_reserve hl9 e1) wV_X4_433 c13 rfl (by decide) rfl rfl ⟨by decide, by decide⟩ rfl (Nat.le_of_ble_eq_true rfl) hl.1 dX4_percent_57) (fun v11 h12 H locs cells slots hH hL hrun => ?_)
    refine lv_ladd (pc := 60) hx hb dX4_percent_60 ?_
    refine V_lcmp_lt (tgt := 69) (pc := 61) hx hb dX4_percent_61 dX4_percent_62 (by decide) (fun c_ => ?_) (fun c_ => ?_)
    · have hrun := ite_t hrun c_
      refine lv_iconst (v := (0 : Int32)) (pc := 69) hx hb dX4_percent_69 (by decide) ?_
      exact b_X4_percent_70 C x0 x1 (0 : Int32) h12 H locs cells slots ls hH hL (lv_sub hl [0, 1] rfl) hrun
    · have hrun := ite_f hrun c_
      refine lv_iconst (v := (1 : Int32)) (pc := 65) hx hb dX4_percent_65 (by decide) ?_
      refine lv_goto (tgt := 70) (pc := 66) hx hb dX4_percent_66 (by decide) ?_
      exact b_X4_percent_70 C x0 x1 (1 : Int32) h12 H locs cells slots ls hH hL (lv_sub hl [0, 1] rfl) hrun
  · have hrun := ite_t hrun c_
    exact b_X4_percent_44 C h6 H locs cells slots ls hH hL (lv_sub hl [] rfl) hrun

theorem b_X4_percent {rr : (Int32 ⊕ Ex) × Hp}  (C : CX p l R s m args meth c D Hs cX4_percent "MassclaimModel" 3 (some .boolean) [] 6 118)  : ∀ (x0 : Nat) (x1 : Int32) (h : Hp) (H : Heap) (locs : List Loc) (cells slots : Nat) (ls : Array Slot), HP D Hs h H → LO Hs locs → lv_has ls 3 [(0, rv x0), (1, .int x1)] → f_X4_percent x0 x1 h = some rr → W p l e R s m args below meth c H locs cells slots (ZM D Hs iI rr below args s) (F0 m 0 ls []) := by
  obtain ⟨⟨hx, hb, hml, hown, hts⟩, -⟩ := id C
  have hl9 := C.2.1.2.2.1
  intro x0 x1 h H locs cells slots ls hH hL hl hrun
  unfold f_X4_percent at hrun
  refine V_aload_n (pc := 0) hx hb dX4_percent_0 rfl (lv_at hl 0 rfl) ?_
  refine lv_iload_n (pc := 1) hx hb dX4_percent_1 rfl (lv_at hl 1 rfl) ?_
  refine lv_i2l (pc := 2) hx hb dX4_percent_2 rfl ?_
  refine V_aload_n (pc := 3) hx hb dX4_percent_3 rfl (lv_at hl 0 rfl) ?_
  obtain ⟨c14, hrun⟩ := gd_some hrun
  refine V_getI (pc := 4) C hH fr_X4_73 dX4_percent_4 c14 rfl ?_
  refine lv_iconst (v := (1 : Int32)) (pc := 7) hx hb dX4_percent_7 (by decide) ?_
  refine lv_iadd (pc := 8) hx hb dX4_percent_8 ?_
  refine lv_i2l (pc := 9) hx hb dX4_percent_9 rfl ?_
  refine lv_ldc2 (pc := 10) hx hb hown (hts _ q2205) dX4_percent_10 ?_
  refine V_bd (pc := 13) C hL rfl hrun (fun rr1 e1 => Z_runS (rest := [rv x0]) C hH (m_X4_isWithin hl9 e1) wS_X4_100 rfl ⟨by decide, by decide⟩ rfl (by simp [csum, rv_cat, cat_i, cat_l, cat_f, cat_d]) hl.1 dX4_percent_13) (fun v15 h16 H locs cells slots hH hL hrun => ?_)
  refine lv_iconst (v := (1 : Int32)) (pc := 16) hx hb dX4_percent_16 (by decide) ?_
  obtain ⟨c19, hrun⟩ := gd_some hrun
  refine V_bd (pc := 17) C hL rfl hrun (fun rr1 e1 => Z_runV (rest := []) C hH (m_X4_isGood hl9 e1) wV_X4_104 c19 rfl (by decide) rfl rfl ⟨by decide, by decide⟩ rfl (Nat.le_of_ble_eq_true rfl) hl.1 dX4_percent_17) (fun v17 h18 H locs cells slots hH hL hrun => ?_)
  refine lv_if_eq (tgt := 44) (pc := 20) hx hb dX4_percent_20 (by decide) (fun c_ => ?_) (fun c_ => ?_)
  · have hrun := ite_t hrun c_
    exact b_X4_percent_44 C h18 H locs cells slots ls hH hL (lv_sub hl [] rfl) hrun
  · have hrun := ite_f hrun c_
    refine V_aload_n (pc := 23) hx hb dX4_percent_23 rfl (lv_at hl 0 rfl) ?_
    refine V_aload_n (pc := 24) hx hb dX4_percent_24 rfl (lv_at hl 0 rfl) ?_
    obtain ⟨c20, hrun⟩ := gd_some hrun
    refine V_getI (pc := 25) C hH fr_X4_53 dX4_percent_25 c20 rfl ?_
    refine lv_iconst (v := (3 : Int32)) (pc := 28) hx hb dX4_percent_28 (by decide) ?_
    refine lv_icmp_ne (tgt := 36) (pc := 29) hx hb dX4_percent_29 (by decide) (fun c_ => ?_) (fun c_ => ?_)
    · have hrun := ite_f hrun c_
      refine lv_iconst (v := (0 : Int32)) (pc := 36) hx hb dX4_percent_36 (by decide) ?_
      exact b_X4_percent_37 C x0 x1 x0 (0 : Int32) h18 H locs cells slots ls hH hL (lv_sub hl [0, 1] rfl) hrun
    · have hrun := ite_t hrun c_
      refine lv_iconst (v := (1 : Int32)) (pc := 32) hx hb dX4_percent_32 (by decide) ?_
      refine lv_goto (tgt := 37) (pc := 33) hx hb dX4_percent_33 (by decide) ?_
      exact b_X4_percent_37 C x0 x1 x0 (1 : Int32) h18 H locs cells slots ls hH hL (lv_sub hl [0, 1] rfl) hrun

theorem m_X4_percent {l : Launch} {D : va_G} {Hs : Heap} {h : Hp} {rr : (Int32 ⊕ Ex) × Hp} (hl9 : l.stackTraces = false) {x0 : Nat} {x1 : Int32} (hrun : f_X4_percent x0 x1 h = some rr) : CM l yX4_percent (ws_ yX4_percent cX4_percent 3 (some .boolean)) 6 118 iI [rv x0, .int x1] D Hs h rr := by
  refine CM.of (lv := [(0, rv x0), (1, .int x1)]) (plainFor_of_name (by decide)) hl9 (by simp [lv_args, rv_cat, cat_i, cat_l, cat_f, cat_d]) (by simp [lg_sl, rv_cat, cat_i, cat_l, cat_f, cat_d]) ?_
  intro p e R s m args below meth c H ls C hH hl hin
  exact b_X4_percent C x0 x1 _ H [] _ _ ls hH (fun _ q => nomatch q) (lv_sub hl [0, 1] rfl) hrun

/-! Massclaim$Claim.payLawyers(J)V -/
def f_X12_payLawyers_139  (x0 : Nat) (x4 : Int64) (h : Hp) : Rt Unit :=
  gd (kC h x0 = 12) <| gd (kC h (kR h 1112 x0) = 1) <| gd (kC h (kR h 8 (kR h 1112 x0)) = 3) <| bd (f_X12_lawyer x0 h) fun v4 h5 => gd (kC h5 (kR h 201 (kR h 8 (kR h 1112 x0))) = 102 ∧ ixo v4 (kN h5 (kR h 201 (kR h 8 (kR h 1112 x0))))) <| gd (kC h5 (kR h 201 (kR h 8 (kR h 1112 x0))) = 102 ∧ ixo v4 (kN h5 (kR h 201 (kR h 8 (kR h 1112 x0))))) <| vl (tL h5 (kR h 201 (kR h 8 (kR h 1112 x0))) (v4).toNatClampNeg ((jL h5 (kR h 201 (kR h 8 (kR h 1112 x0))) (v4).toNatClampNeg) + x4)) fun h8 => some (.inl (), h8)
def f_X12_payLawyers_30  : Nat → Nat → Int64 → Int32 → Int64 → Int32 → Hp → Rt Unit
  | 0, _, _, _, _, _, _ => none
  | n + 1, x0, x1, x3, x4, x6, h => gd (kC h x0 = 12) <| gd (kC h (kR h 1111 x0) = 18) <| bd (f_J2_size (kR h 1111 x0) h) fun v10 h11 => if v10 ≤ (x6 + (1 : Int32)) then
  (f_X12_payLawyers_139 x0 x4 h11)
  else
  (if x3 ≤ 0 then
  (f_X12_payLawyers_139 x0 x4 h11)
  else
  (gd (kC h11 x0 = 12) <| gd (kC h11 (kR h11 1111 x0) = 18) <| bd (f_J2_get (kR h11 1111 x0) (x6 + (1 : Int32)) h11) fun v14 h15 => gd (kC h15 v14 = 101) <| gd (kC h15 v14 = 101 ∧ ixo (1 : Int32) (kN h15 v14)) <| gd (kC h15 x0 = 12) <| gd (kC h15 (kR h15 1111 x0) = 18) <| bd (f_J2_get (kR h15 1111 x0) x6 h15) fun v20 h21 => gd (kC h21 v20 = 101) <| gd (kC h21 v20 = 101 ∧ ixo (1 : Int32) (kN h21 v20)) <| bd (f_X1_part x1 (((jI h15 v14 ((1 : Int32)).toNatClampNeg) - (jI h21 v20 ((1 : Int32)).toNatClampNeg)).toInt64) (x3.toInt64) h21) fun v25 h26 => gd (kC h26 x0 = 12) <| gd (kC h26 (kR h26 1112 x0) = 1) <| gd (kC h26 (kR h26 8 (kR h26 1112 x0)) = 3) <| gd (kC h26 (kR h26 1111 x0) = 18) <| bd (f_J2_get (kR h26 1111 x0) x6 h26) fun v30 h31 => gd (kC h31 v30 = 101) <| gd (kC h31 v30 = 101 ∧ ixo (0 : Int32) (kN h31 v30)) <| gd (kC h31 (kR h26 201 (kR h26 8 (kR h26 1112 x0))) = 102 ∧ ixo (jI h31 v30 ((0 : Int32)).toNatClampNeg) (kN h31 (kR h26 201 (kR h26 8 (kR h26 1112 x0))))) <| gd (kC h31 (kR h26 201 (kR h26 8 (kR h26 1112 x0))) = 102 ∧ ixo (jI h31 v30 ((0 : Int32)).toNatClampNeg) (kN h31 (kR h26 201 (kR h26 8 (kR h26 1112 x0))))) <| vl (tL h31 (kR h26 201 (kR h26 8 (kR h26 1112 x0))) ((jI h31 v30 ((0 : Int32)).toNatClampNeg)).toNatClampNeg ((jL h31 (kR h26 201 (kR h26 8 (kR h26 1112 x0))) ((jI h31 v30 ((0 : Int32)).toNatClampNeg)).toNatClampNeg) + v25)) fun h37 => vl (x4 - v25) fun v38 => vl (x6 + (1 : Int32)) fun v39 => f_X12_payLawyers_30 n x0 x1 x3 v38 v39 h37))
def f_X12_payLawyers  (x0 : Nat) (x1 : Int64) (h : Hp) : Rt Unit :=
  gd (kC h x0 = 12) <| gd (kC h (kR h 1112 x0) = 1) <| gd (kC h (kR h 1111 x0) = 18) <| bd (f_J2_get (kR h 1111 x0) (0 : Int32) h) fun v42 h43 => gd (kC h43 v42 = 101) <| gd (kC h43 v42 = 101 ∧ ixo (1 : Int32) (kN h43 v42)) <| vl ((kI h 18 (kR h 1112 x0)) - (jI h43 v42 ((1 : Int32)).toNatClampNeg)) fun v47 => f_X12_payLawyers_30 FU x0 x1 v47 x1 (0 : Int32) h43
theorem b_X12_payLawyers_139 {rr : (Unit ⊕ Ex) × Hp}  (C : CX p l R s m args meth c D Hs cX12_payLawyers "Massclaim$Claim" 9 none [] 5 84)  : ∀ (x0 : Nat) (x4 : Int64) (h : Hp) (H : Heap) (locs : List Loc) (cells slots : Nat) (ls : Array Slot), HP D Hs h H → LO Hs locs → lv_has ls 9 [(0, rv x0), (4, .long x4)] → f_X12_payLawyers_139 x0 x4 h = some rr → W p l e R s m args below meth c H locs cells slots (ZM D Hs iV rr below args s) (F0 m 139 ls []) := by
  obtain ⟨⟨hx, hb, hml, hown, hts⟩, -⟩ := id C
  have hl9 := C.2.1.2.2.1
  intro x0 x4 h H locs cells slots ls hH hL hl hrun
  unfold f_X12_payLawyers_139 at hrun
  refine V_aload_n (pc := 139) hx hb dX12_payLawyers_139 rfl (lv_at hl 0 rfl) ?_
  obtain ⟨c1, hrun⟩ := gd_some hrun
  refine V_getR (pc := 140) C hH fr_X12_3 dX12_payLawyers_140 c1 rfl ?_
  obtain ⟨c2, hrun⟩ := gd_some hrun
  refine V_getNR (pc := 143) C hH fn_X12_123 dX12_payLawyers_143 c2 rfl ?_
  obtain ⟨c3, hrun⟩ := gd_some hrun
  refine V_getNR (pc := 146) C hH fn_X12_155 dX12_payLawyers_146 c3 rfl ?_
  refine V_aload_n (pc := 149) hx hb dX12_payLawyers_149 rfl (lv_at hl 0 rfl) ?_
  refine V_bd (pc := 150) C hL rfl hrun (fun rr1 e1 => Z_runV (rest := [rv (kR h 201 (kR h 8 (kR h 1112 x0)))]) C hH (m_X12_lawyer hl9 e1) wV_X12_111 c1 rfl (by decide) rfl rfl ⟨by decide, by decide⟩ rfl (by simp [csum, rv_cat, cat_i, cat_l, cat_f, cat_d]) hl.1 dX12_payLawyers_150) (fun v4 h5 H locs cells slots hH hL hrun => ?_)
  refine lv_dup2_11 (pc := 153) hx hb dX12_payLawyers_153 rfl (rv_cat _) ?_
  obtain ⟨c6, hrun⟩ := gd_some hrun
  refine V_lald (pc := 154) C hH dX12_payLawyers_154 c6 ?_
  refine lv_lload (pc := 155) hx hb dX12_payLawyers_155 (lv_at hl 1 rfl) ?_
  refine lv_ladd (pc := 157) hx hb dX12_payLawyers_157 ?_
  obtain ⟨c7, hrun⟩ := gd_some hrun
  refine V_last (pc := 158) C hH hL dX12_payLawyers_158 c7 hrun (fun h8 H locs hH hL hrun => ?_)
  exact V_vret (pc := 159) C hH hL hrun dX12_payLawyers_159

theorem b_X12_payLawyers_30 {rr : (Unit ⊕ Ex) × Hp}  (C : CX p l R s m args meth c D Hs cX12_payLawyers "Massclaim$Claim" 9 none [] 5 84)  : ∀ (n : Nat) (x0 : Nat) (x1 : Int64) (x3 : Int32) (x4 : Int64) (x6 : Int32) (h : Hp) (H : Heap) (locs : List Loc) (cells slots : Nat) (ls : Array Slot), HP D Hs h H → LO Hs locs → lv_has ls 9 [(0, rv x0), (1, .long x1), (3, .int x3), (4, .long x4), (6, .int x6)] → f_X12_payLawyers_30 n x0 x1 x3 x4 x6 h = some rr → W p l e R s m args below meth c H locs cells slots (ZM D Hs iV rr below args s) (F0 m 30 ls []) := by
  obtain ⟨⟨hx, hb, hml, hown, hts⟩, -⟩ := id C
  have hl9 := C.2.1.2.2.1
  intro n
  induction n with
  | zero =>
    intro x0 x1 x3 x4 x6 h H locs cells slots ls hH hL hl hrun
    cases (show (none : Option _) = some rr from hrun)
  | succ n ih =>
    intro x0 x1 x3 x4 x6 h H locs cells slots ls hH hL hl hrun
    rw [f_X12_payLawyers_30] at hrun
    refine lv_iload (pc := 30) hx hb dX12_payLawyers_30 (lv_at hl 4 rfl) ?_
    refine lv_iconst (v := (1 : Int32)) (pc := 32) hx hb dX12_payLawyers_32 (by decide) ?_
    refine lv_iadd (pc := 33) hx hb dX12_payLawyers_33 ?_
    refine V_aload_n (pc := 34) hx hb dX12_payLawyers_34 rfl (lv_at hl 0 rfl) ?_
    obtain ⟨c9, hrun⟩ := gd_some hrun
    refine V_getR (pc := 35) C hH fr_X12_25 dX12_payLawyers_35 c9 rfl ?_
    obtain ⟨c12, hrun⟩ := gd_some hrun
    refine V_bd5 (pc := 38) C hL rfl hrun (fun rr1 e1 => Z_runF (rest := [.int (x6 + (1 : Int32))]) C hH (m_J2_size hl9 e1) rfl wF_X12_57_J2 c12 (by decide) rfl ⟨by decide, by decide⟩ rfl (Nat.le_of_ble_eq_true rfl) hl.1 dX12_payLawyers_38) (fun v10 h11 H locs cells slots hH hL hrun => ?_)
    refine lv_icmp_ge (tgt := 139) (pc := 43) hx hb dX12_payLawyers_43 (by decide) (fun c_ => ?_) (fun c_ => ?_)
    · have hrun := ite_t hrun c_
      exact b_X12_payLawyers_139 C x0 x4 h11 H locs cells slots ls hH hL (lv_sub hl [0, 3] rfl) hrun
    · have hrun := ite_f hrun c_
      refine lv_iload_n (pc := 46) hx hb dX12_payLawyers_46 rfl (lv_at hl 2 rfl) ?_
      refine lv_if_le (tgt := 139) (pc := 47) hx hb dX12_payLawyers_47 (by decide) (fun c_ => ?_) (fun c_ => ?_)
      · have hrun := ite_t hrun c_
        exact b_X12_payLawyers_139 C x0 x4 h11 H locs cells slots ls hH hL (lv_sub hl [0, 3] rfl) hrun
      · have hrun := ite_f hrun c_
        refine lv_lload_n (pc := 50) hx hb dX12_payLawyers_50 rfl (lv_at hl 1 rfl) ?_
        refine V_aload_n (pc := 51) hx hb dX12_payLawyers_51 rfl (lv_at hl 0 rfl) ?_
        obtain ⟨c13, hrun⟩ := gd_some hrun
        refine V_getR (pc := 52) C hH fr_X12_25 dX12_payLawyers_52 c13 rfl ?_
        refine lv_iload (pc := 55) hx hb dX12_payLawyers_55 (lv_at hl 4 rfl) ?_
        refine lv_iconst (v := (1 : Int32)) (pc := 57) hx hb dX12_payLawyers_57 (by decide) ?_
        refine lv_iadd (pc := 58) hx hb dX12_payLawyers_58 ?_
        obtain ⟨c16, hrun⟩ := gd_some hrun
        refine V_bd5 (pc := 59) C hL rfl hrun (fun rr1 e1 => Z_runF (rest := [.long x1]) C hH (m_J2_get hl9 e1) rfl wF_X12_61_J2 c16 (by decide) rfl ⟨by decide, by decide⟩ rfl (Nat.le_of_ble_eq_true rfl) hl.1 dX12_payLawyers_59) (fun v14 h15 H locs cells slots hH hL hrun => ?_)
        obtain ⟨c17, hrun⟩ := gd_some hrun
        refine V_castI (pc := 64) C hH q1609 dX12_payLawyers_64 c17 ?_
        refine lv_iconst (v := (1 : Int32)) (pc := 67) hx hb dX12_payLawyers_67 (by decide) ?_
        obtain ⟨c18, hrun⟩ := gd_some hrun
        refine V_iald (pc := 68) C hH dX12_payLawyers_68 c18 ?_
        refine V_aload_n (pc := 69) hx hb dX12_payLawyers_69 rfl (lv_at hl 0 rfl) ?_
        obtain ⟨c19, hrun⟩ := gd_some hrun
        refine V_getR (pc := 70) C hH fr_X12_25 dX12_payLawyers_70 c19 rfl ?_
        refine lv_iload (pc := 73) hx hb dX12_payLawyers_73 (lv_at hl 4 rfl) ?_
        obtain ⟨c22, hrun⟩ := gd_some hrun
        refine V_bd5 (pc := 75) C hL rfl hrun (fun rr1 e1 => Z_runF (rest := [.int (jI h15 v14 ((1 : Int32)).toNatClampNeg), .long x1]) C hH (m_J2_get hl9 e1) rfl wF_X12_61_J2 c22 (by decide) rfl ⟨by decide, by decide⟩ rfl (Nat.le_of_ble_eq_true rfl) hl.1 dX12_payLawyers_75) (fun v20 h21 H locs cells slots hH hL hrun => ?_)
        obtain ⟨c23, hrun⟩ := gd_some hrun
        refine V_castI (pc := 80) C hH q1609 dX12_payLawyers_80 c23 ?_
        refine lv_iconst (v := (1 : Int32)) (pc := 83) hx hb dX12_payLawyers_83 (by decide) ?_
        obtain ⟨c24, hrun⟩ := gd_some hrun
        refine V_iald (pc := 84) C hH dX12_payLawyers_84 c24 ?_
        refine lv_isub (pc := 85) hx hb dX12_payLawyers_85 ?_
        refine lv_i2l (pc := 86) hx hb dX12_payLawyers_86 rfl ?_
        refine lv_iload_n (pc := 87) hx hb dX12_payLawyers_87 rfl (lv_at hl 2 rfl) ?_
        refine lv_i2l (pc := 88) hx hb dX12_payLawyers_88 rfl ?_
        refine V_bd (pc := 89) C hL rfl hrun (fun rr1 e1 => Z_runSN (rest := []) C hH (m_X1_part hl9 e1) wSN_X12_91 rfl ⟨by decide, by decide⟩ rfl (Nat.le_of_ble_eq_true rfl) hl.1 dX12_payLawyers_89) (fun v25 h26 H locs cells slots hH hL hrun => ?_)
        refine lv_lstore (i := 7) (lv' := [(7, .long v25), (0, rv x0), (1, .long x1), (3, .int x3), (4, .long x4), (6, .int x6)]) (pc := 92) hx hb dX12_payLawyers_92 hl (by decide) rfl (fun ls hl => ?_)
        refine V_aload_n (pc := 94) hx hb dX12_payLawyers_94 rfl (lv_at hl 1 rfl) ?_
        obtain ⟨c27, hrun⟩ := gd_some hrun
        refine V_getR (pc := 95) C hH fr_X12_3 dX12_payLawyers_95 c27 rfl ?_
        obtain ⟨c28, hrun⟩ := gd_some hrun
        refine V_getNR (pc := 98) C hH fn_X12_123 dX12_payLawyers_98 c28 rfl ?_
        obtain ⟨c29, hrun⟩ := gd_some hrun
        refine V_getNR (pc := 101) C hH fn_X12_155 dX12_payLawyers_101 c29 rfl ?_
        refine V_aload_n (pc := 104) hx hb dX12_payLawyers_104 rfl (lv_at hl 1 rfl) ?_
        refine V_getR (pc := 105) C hH fr_X12_25 dX12_payLawyers_105 c27 rfl ?_
        refine lv_iload (pc := 108) hx hb dX12_payLawyers_108 (lv_at hl 5 rfl) ?_
        obtain ⟨c32, hrun⟩ := gd_some hrun
        refine V_bd5 (pc := 110) C hL rfl hrun (fun rr1 e1 => Z_runF (rest := [rv (kR h26 201 (kR h26 8 (kR h26 1112 x0)))]) C hH (m_J2_get hl9 e1) rfl wF_X12_61_J2 c32 (by decide) rfl ⟨by decide, by decide⟩ rfl (by simp [csum, rv_cat, cat_i, cat_l, cat_f, cat_d]) hl.1 dX12_payLawyers_110) (fun v30 h31 H locs cells slots hH hL hrun => ?_)
        obtain ⟨c33, hrun⟩ := gd_some hrun
        refine V_castI (pc := 115) C hH q1609 dX12_payLawyers_115 c33 ?_
        refine lv_iconst (v := (0 : Int32)) (pc := 118) hx hb dX12_payLawyers_118 (by decide) ?_
        obtain ⟨c34, hrun⟩ := gd_some hrun
        refine V_iald (pc := 119) C hH dX12_payLawyers_119 c34 ?_
        refine lv_dup2_11 (pc := 120) hx hb dX12_payLawyers_120 rfl (rv_cat _) ?_
        obtain ⟨c35, hrun⟩ := gd_some hrun
        refine V_lald (pc := 121) C hH dX12_payLawyers_121 c35 ?_
        refine lv_lload (pc := 122) hx hb dX12_payLawyers_122 (lv_at hl 0 rfl) ?_
        refine lv_ladd (pc := 124) hx hb dX12_payLawyers_124 ?_
        obtain ⟨c36, hrun⟩ := gd_some hrun
        refine V_last (pc := 125) C hH hL dX12_payLawyers_125 c36 hrun (fun h37 H locs hH hL hrun => ?_)
        refine lv_lload (pc := 126) hx hb dX12_payLawyers_126 (lv_at hl 4 rfl) ?_
        refine lv_lload (pc := 128) hx hb dX12_payLawyers_128 (lv_at hl 0 rfl) ?_
        refine lv_lsub (pc := 130) hx hb dX12_payLawyers_130 ?_
        refine lv_topl (fun v38 ev38 => ?_)
        have hrun := vl_at hrun v38 ev38
        refine lv_lstore (i := 4) (lv' := [(4, .long v38), (7, .long v25), (0, rv x0), (1, .long x1), (3, .int x3), (6, .int x6)]) (pc := 131) hx hb dX12_payLawyers_131 hl (by decide) rfl (fun ls hl => ?_)
        obtain ⟨v39, ev39⟩ : ∃ y : Int32, y = x6 + (1 : Int32) := ⟨_, rfl⟩
        have hrun := vl_at hrun v39 ev39
        refine lv_iinc (v := v39) (lv' := [(6, .int v39), (4, .long v38), (7, .long v25), (0, rv x0), (1, .long x1), (3, .int x3)]) (pc := 133) hx hb dX12_payLawyers_133 hl (k := 5) rfl (by rw [ev39]; rfl) (by decide) (by first | rfl | simp [rv_cat, cat_i, cat_l, cat_f, cat_d]) (fun ls hl => ?_)
        refine lv_goto (tgt := 30) (pc := 136) hx hb dX12_payLawyers_136 (by decide) ?_
        exact ih x0 x1 x3 v38 v39 h37 H locs cells slots ls hH hL (lv_sub hl [3, 4, 5, 1, 0] rfl) hrun

theorem b_X12_payLawyers {rr : (Unit ⊕ Ex) × Hp}  (C : CX p l R s m args meth c D Hs cX12_payLawyers "Massclaim$Claim" 9 none [] 5 84)  : ∀ (x0 : Nat) (x1 : Int64) (h : Hp) (H : Heap) (locs : List Loc) (cells slots : Nat) (ls : Array Slot), HP D Hs h H → LO Hs locs → lv_has ls 9 [(0, rv x0), (1, .long x1)] → f_X12_payLawyers x0 x1 h = some rr → W p l e R s m args below meth c H locs cells slots (ZM D Hs iV rr below args s) (F0 m 0 ls []) := by
  obtain ⟨⟨hx, hb, hml, hown, hts⟩, -⟩ := id C
  have hl9 := C.2.1.2.2.1
  intro x0 x1 h H locs cells slots ls hH hL hl hrun
  unfold f_X12_payLawyers at hrun
  refine V_aload_n (pc := 0) hx hb dX12_payLawyers_0 rfl (lv_at hl 0 rfl) ?_
  obtain ⟨c40, hrun⟩ := gd_some hrun
  refine V_getR (pc := 1) C hH fr_X12_3 dX12_payLawyers_1 c40 rfl ?_
  obtain ⟨c41, hrun⟩ := gd_some hrun
  refine V_getNI (pc := 4) C hH fn_X12_48 dX12_payLawyers_4 c41 rfl ?_
  refine V_aload_n (pc := 7) hx hb dX12_payLawyers_7 rfl (lv_at hl 0 rfl) ?_
  refine V_getR (pc := 8) C hH fr_X12_25 dX12_payLawyers_8 c40 rfl ?_
  refine lv_iconst (v := (0 : Int32)) (pc := 11) hx hb dX12_payLawyers_11 (by decide) ?_
  obtain ⟨c44, hrun⟩ := gd_some hrun
  refine V_bd5 (pc := 12) C hL rfl hrun (fun rr1 e1 => Z_runF (rest := [.int (kI h 18 (kR h 1112 x0))]) C hH (m_J2_get hl9 e1) rfl wF_X12_61_J2 c44 (by decide) rfl ⟨by decide, by decide⟩ rfl (Nat.le_of_ble_eq_true rfl) hl.1 dX12_payLawyers_12) (fun v42 h43 H locs cells slots hH hL hrun => ?_)
  obtain ⟨c45, hrun⟩ := gd_some hrun
  refine V_castI (pc := 17) C hH q1609 dX12_payLawyers_17 c45 ?_
  refine lv_iconst (v := (1 : Int32)) (pc := 20) hx hb dX12_payLawyers_20 (by decide) ?_
  obtain ⟨c46, hrun⟩ := gd_some hrun
  refine V_iald (pc := 21) C hH dX12_payLawyers_21 c46 ?_
  refine lv_isub (pc := 22) hx hb dX12_payLawyers_22 ?_
  refine lv_topi (fun v47 ev47 => ?_)
  have hrun := vl_at hrun v47 ev47
  refine lv_istore_n (i := 3) (lv' := [(3, .int v47), (0, rv x0), (1, .long x1)]) (pc := 23) hx hb dX12_payLawyers_23 rfl hl (by decide) rfl (fun ls hl => ?_)
  refine lv_lload_n (pc := 24) hx hb dX12_payLawyers_24 rfl (lv_at hl 2 rfl) ?_
  refine lv_lstore (i := 4) (lv' := [(4, .long x1), (3, .int v47), (0, rv x0), (1, .long x1)]) (pc := 25) hx hb dX12_payLawyers_25 hl (by decide) rfl (fun ls hl => ?_)
  refine lv_iconst (v := (0 : Int32)) (pc := 27) hx hb dX12_payLawyers_27 (by decide) ?_
  refine lv_istore (i := 6) (lv' := [(6, .int (0 : Int32)), (4, .long x1), (3, .int v47), (0, rv x0), (1, .long x1)]) (pc := 28) hx hb dX12_payLawyers_28 hl (by decide) rfl (fun ls hl => ?_)
  exact b_X12_payLawyers_30 C FU x0 x1 v47 x1 (0 : Int32) h43 H locs cells slots ls hH hL (lv_sub hl [3, 4, 2, 1, 0] rfl) hrun

theorem m_X12_payLawyers {l : Launch} {D : va_G} {Hs : Heap} {h : Hp} {rr : (Unit ⊕ Ex) × Hp} (hl9 : l.stackTraces = false) {x0 : Nat} {x1 : Int64} (hrun : f_X12_payLawyers x0 x1 h = some rr) : CM l yX12_payLawyers (ws_ yX12_payLawyers cX12_payLawyers 9 none) 5 84 iV [rv x0, .long x1] D Hs h rr := by
  refine CM.of (lv := [(0, rv x0), (1, .long x1)]) (plainFor_of_name (by decide)) hl9 (by simp [lv_args, rv_cat, cat_i, cat_l, cat_f, cat_d]) (by simp [lg_sl, rv_cat, cat_i, cat_l, cat_f, cat_d]) ?_
  intro p e R s m args below meth c H ls C hH hl hin
  exact b_X12_payLawyers C x0 x1 _ H [] _ _ ls hH (fun _ q => nomatch q) (lv_sub hl [0, 1] rfl) hrun

/-! Massclaim$Claim.payLiens(J)J -/
def f_X12_payLiens_125 (k5 : Nat → Int64 → Int64 → Int32 → Hp → Rt Int64) (x0 : Nat) (x1 : Int64) (x3 : Int64) (x5 : Int32) (h : Hp) : Rt Int64 :=
  vl (x5 + (1 : Int32)) fun v1 => k5 x0 x1 x3 v1 h
def f_X12_payLiens_81 (k5 : Nat → Int64 → Int64 → Int32 → Hp → Rt Int64) (x0 : Nat) (x1 : Int64) (x3 : Int64) (x5 : Int32) (x6 : Nat) (y0 : Int64) (y1 : Int64) (y2 : Int32) (h : Hp) : Rt Int64 :=
  gd (¬ (y2.toInt64) = 0) <| bd (f_J10_min y0 (y1 / (y2.toInt64)) h) fun v3 h4 => vl (v3.toInt32) fun v5 => gd (kC h4 x6 = 16) <| vl (sI h4 1503 x6 ((kI h4 1503 x6) - v5)) fun h7 => vl (x3 - (v5.toInt64)) fun v8 => gd (kC h7 x0 = 12) <| gd (kC h7 (kR h7 1112 x0) = 1) <| gd (kC h7 (kR h7 8 (kR h7 1112 x0)) = 3) <| vl (sL h7 202 (kR h7 8 (kR h7 1112 x0)) ((kL h7 202 (kR h7 8 (kR h7 1112 x0))) + (v5.toInt64))) fun h12 => f_X12_payLiens_125 k5 x0 x1 v8 x5 h12
def f_X12_payLiens_5  : Nat → Nat → Int64 → Int64 → Int32 → Hp → Rt Int64
  | 0, _, _, _, _, _ => none
  | n + 1, x0, x1, x3, x5, h => gd (kC h x0 = 12) <| gd (kC h (kR h 1112 x0) = 1) <| gd (kC h (kR h 4 (kR h 1112 x0)) = 2) <| bd (f_X2_size (kR h 4 (kR h 1112 x0)) h) fun v15 h16 => if v15 ≤ x5 then
  (some (.inl x3, h16))
  else
  (gd (kC h16 x0 = 12) <| gd (kC h16 (kR h16 1112 x0) = 1) <| gd (kC h16 (kR h16 4 (kR h16 1112 x0)) = 2) <| bd (f_X2_at (kR h16 4 (kR h16 1112 x0)) x5 h16) fun v20 h21 => gd (v20 = 0 ∨ kC h21 v20 = 16) <| gd (kC h21 v20 = 16) <| gd (kC h21 x0 = 12) <| if (kR h21 1501 v20) = (kR h21 1101 x0) then
  (if (kI h21 1503 v20) ≤ 0 then
  (f_X12_payLiens_125 (f_X12_payLiens_5 n) x0 x1 x3 x5 h21)
  else
  (bd (f_J10_min ((kI h21 1503 v20).toInt64) x3 h21) fun v26 h27 => gd (kC h27 v20 = 16) <| if (kI h27 1502 v20) = 0 then
  (f_X12_payLiens_81 (f_X12_payLiens_5 n) x0 x1 x3 x5 v20 v26 x1 (2 : Int32) h27)
  else
  (f_X12_payLiens_81 (f_X12_payLiens_5 n) x0 x1 x3 x5 v20 v26 x1 (3 : Int32) h27)))
  else
  (f_X12_payLiens_125 (f_X12_payLiens_5 n) x0 x1 x3 x5 h21))
def f_X12_payLiens  (x0 : Nat) (x1 : Int64) (h : Hp) : Rt Int64 :=
  f_X12_payLiens_5 FU x0 x1 x1 (0 : Int32) h
theorem b_X12_payLiens_125 {rr : (Int64 ⊕ Ex) × Hp} {k5 : Nat → Int64 → Int64 → Int32 → Hp → Rt Int64} (C : CX p l R s m args meth c D Hs cX12_payLiens "Massclaim$Claim" 8 (some .long) [] 8 131) (K5 : ∀ (x0 : Nat) (x1 : Int64) (x3 : Int64) (x5 : Int32) (h : Hp) (H : Heap) (locs : List Loc) (cells slots : Nat) (ls : Array Slot), HP D Hs h H → LO Hs locs → lv_has ls 8 [(0, rv x0), (1, .long x1), (3, .long x3), (5, .int x5)] → k5 x0 x1 x3 x5 h = some rr → W p l e R s m args below meth c H locs cells slots (ZM D Hs iL rr below args s) (F0 m 5 ls [])) : ∀ (x0 : Nat) (x1 : Int64) (x3 : Int64) (x5 : Int32) (h : Hp) (H : Heap) (locs : List Loc) (cells slots : Nat) (ls : Array Slot), HP D Hs h H → LO Hs locs → lv_has ls 8 [(0, rv x0), (1, .long x1), (3, .long x3), (5, .int x5)] → f_X12_payLiens_125 k5 x0 x1 x3 x5 h = some rr → W p l e R s m args below meth c H locs cells slots (ZM D Hs iL rr below args s) (F0 m 125 ls []) := by
  obtain ⟨⟨hx, hb, hml, hown, hts⟩, -⟩ := id C
  have hl9 := C.2.1.2.2.1
  intro x0 x1 x3 x5 h H locs cells slots ls hH hL hl hrun
  unfold f_X12_payLiens_125 at hrun
  obtain ⟨v1, ev1⟩ : ∃ y : Int32, y = x5 + (1 : Int32) := ⟨_, rfl⟩
  have hrun := vl_at hrun v1 ev1
  refine lv_iinc (v := v1) (lv' := [(5, .int v1), (0, rv x0), (1, .long x1), (3, .long x3)]) (pc := 125) hx hb dX12_payLiens_125 hl (k := 3) rfl (by rw [ev1]; rfl) (by decide) (by first | rfl | simp [rv_cat, cat_i, cat_l, cat_f, cat_d]) (fun ls hl => ?_)
  refine lv_goto (tgt := 5) (pc := 128) hx hb dX12_payLiens_128 (by decide) ?_
  exact K5 x0 x1 x3 v1 h H locs cells slots ls hH hL (lv_sub hl [1, 2, 3, 0] rfl) hrun

theorem b_X12_payLiens_81 {rr : (Int64 ⊕ Ex) × Hp} {k5 : Nat → Int64 → Int64 → Int32 → Hp → Rt Int64} (C : CX p l R s m args meth c D Hs cX12_payLiens "Massclaim$Claim" 8 (some .long) [] 8 131) (K5 : ∀ (x0 : Nat) (x1 : Int64) (x3 : Int64) (x5 : Int32) (h : Hp) (H : Heap) (locs : List Loc) (cells slots : Nat) (ls : Array Slot), HP D Hs h H → LO Hs locs → lv_has ls 8 [(0, rv x0), (1, .long x1), (3, .long x3), (5, .int x5)] → k5 x0 x1 x3 x5 h = some rr → W p l e R s m args below meth c H locs cells slots (ZM D Hs iL rr below args s) (F0 m 5 ls [])) : ∀ (x0 : Nat) (x1 : Int64) (x3 : Int64) (x5 : Int32) (x6 : Nat) (y0 : Int64) (y1 : Int64) (y2 : Int32) (h : Hp) (H : Heap) (locs : List Loc) (cells slots : Nat) (ls : Array Slot), HP D Hs h H → LO Hs locs → lv_has ls 8 [(0, rv x0), (1, .long x1), (3, .long x3), (5, .int x5), (6, rv x6)] → f_X12_payLiens_81 k5 x0 x1 x3 x5 x6 y0 y1 y2 h = some rr → W p l e R s m args below meth c H locs cells slots (ZM D Hs iL rr below args s) (F0 m 81 ls [.int y2, .long y1, .long y0]) := by
  obtain ⟨⟨hx, hb, hml, hown, hts⟩, -⟩ := id C
  have hl9 := C.2.1.2.2.1
  intro x0 x1 x3 x5 x6 y0 y1 y2 h H locs cells slots ls hH hL hl hrun
  unfold f_X12_payLiens_81 at hrun
  refine lv_i2l (pc := 81) hx hb dX12_payLiens_81 rfl ?_
  obtain ⟨c2, hrun⟩ := gd_some hrun
  refine lv_ldiv (pc := 82) hx hb dX12_payLiens_82 c2 ?_
  refine V_bd (pc := 83) C hL rfl hrun (fun rr1 e1 => Z_runS (rest := []) C hH (m_J10_min hl9 e1) wS_X12_98 rfl ⟨by decide, by decide⟩ rfl (Nat.le_of_ble_eq_true rfl) hl.1 dX12_payLiens_83) (fun v3 h4 H locs cells slots hH hL hrun => ?_)
  refine lv_l2i (pc := 86) hx hb dX12_payLiens_86 rfl ?_
  refine lv_topi (fun v5 ev5 => ?_)
  have hrun := vl_at hrun v5 ev5
  refine lv_istore (i := 7) (lv' := [(7, .int v5), (0, rv x0), (1, .long x1), (3, .long x3), (5, .int x5), (6, rv x6)]) (pc := 87) hx hb dX12_payLiens_87 hl (by decide) (by simp [rv_cat, cat_i, cat_l, cat_f, cat_d]) (fun ls hl => ?_)
  refine V_aload (pc := 89) hx hb dX12_payLiens_89 (lv_at hl 5 rfl) ?_
  refine lv_dup (pc := 91) hx hb dX12_payLiens_91 (rv_cat _) ?_
  obtain ⟨c6, hrun⟩ := gd_some hrun
  refine V_getNI (pc := 92) C hH fn_X12_172 dX12_payLiens_92 c6 rfl ?_
  refine lv_iload (pc := 95) hx hb dX12_payLiens_95 (lv_at hl 0 rfl) ?_
  refine lv_isub (pc := 97) hx hb dX12_payLiens_97 ?_
  refine V_putNI (pc := 98) C hH hL fn_X12_172 dX12_payLiens_98 c6 (fok_i _) rfl hrun (fun h7 H locs hH hL hrun => ?_)
  refine lv_lload_n (pc := 101) hx hb dX12_payLiens_101 rfl (lv_at hl 3 rfl) ?_
  refine lv_iload (pc := 102) hx hb dX12_payLiens_102 (lv_at hl 0 rfl) ?_
  refine lv_i2l (pc := 104) hx hb dX12_payLiens_104 rfl ?_
  refine lv_lsub (pc := 105) hx hb dX12_payLiens_105 ?_
  refine lv_topl (fun v8 ev8 => ?_)
  have hrun := vl_at hrun v8 ev8
  refine lv_lstore_n (i := 3) (lv' := [(3, .long v8), (7, .int v5), (0, rv x0), (1, .long x1), (5, .int x5), (6, rv x6)]) (pc := 106) hx hb dX12_payLiens_106 rfl hl (by decide) rfl (fun ls hl => ?_)
  refine V_aload_n (pc := 107) hx hb dX12_payLiens_107 rfl (lv_at hl 2 rfl) ?_
  obtain ⟨c9, hrun⟩ := gd_some hrun
  refine V_getR (pc := 108) C hH fr_X12_3 dX12_payLiens_108 c9 rfl ?_
  obtain ⟨c10, hrun⟩ := gd_some hrun
  refine V_getNR (pc := 111) C hH fn_X12_123 dX12_payLiens_111 c10 rfl ?_
  refine lv_dup (pc := 114) hx hb dX12_payLiens_114 (rv_cat _) ?_
  obtain ⟨c11, hrun⟩ := gd_some hrun
  refine V_getNL (pc := 115) C hH fn_X12_179 dX12_payLiens_115 c11 rfl ?_
  refine lv_iload (pc := 118) hx hb dX12_payLiens_118 (lv_at hl 1 rfl) ?_
  refine lv_i2l (pc := 120) hx hb dX12_payLiens_120 rfl ?_
  refine lv_ladd (pc := 121) hx hb dX12_payLiens_121 ?_
  refine V_putNL (pc := 122) C hH hL fn_X12_179 dX12_payLiens_122 c11 (fok_l _) rfl hrun (fun h12 H locs hH hL hrun => ?_)
  exact b_X12_payLiens_125 C K5 x0 x1 v8 x5 h12 H locs cells slots ls hH hL (lv_sub hl [2, 3, 0, 4] rfl) hrun

theorem b_X12_payLiens_5 {rr : (Int64 ⊕ Ex) × Hp}  (C : CX p l R s m args meth c D Hs cX12_payLiens "Massclaim$Claim" 8 (some .long) [] 8 131)  : ∀ (n : Nat) (x0 : Nat) (x1 : Int64) (x3 : Int64) (x5 : Int32) (h : Hp) (H : Heap) (locs : List Loc) (cells slots : Nat) (ls : Array Slot), HP D Hs h H → LO Hs locs → lv_has ls 8 [(0, rv x0), (1, .long x1), (3, .long x3), (5, .int x5)] → f_X12_payLiens_5 n x0 x1 x3 x5 h = some rr → W p l e R s m args below meth c H locs cells slots (ZM D Hs iL rr below args s) (F0 m 5 ls []) := by
  obtain ⟨⟨hx, hb, hml, hown, hts⟩, -⟩ := id C
  have hl9 := C.2.1.2.2.1
  intro n
  induction n with
  | zero =>
    intro x0 x1 x3 x5 h H locs cells slots ls hH hL hl hrun
    cases (show (none : Option _) = some rr from hrun)
  | succ n ih =>
    intro x0 x1 x3 x5 h H locs cells slots ls hH hL hl hrun
    rw [f_X12_payLiens_5] at hrun
    refine lv_iload (pc := 5) hx hb dX12_payLiens_5 (lv_at hl 3 rfl) ?_
    refine V_aload_n (pc := 7) hx hb dX12_payLiens_7 rfl (lv_at hl 0 rfl) ?_
    obtain ⟨c13, hrun⟩ := gd_some hrun
    refine V_getR (pc := 8) C hH fr_X12_3 dX12_payLiens_8 c13 rfl ?_
    obtain ⟨c14, hrun⟩ := gd_some hrun
    refine V_getNR (pc := 11) C hH fn_X12_158 dX12_payLiens_11 c14 rfl ?_
    obtain ⟨c17, hrun⟩ := gd_some hrun
    refine V_bd (pc := 14) C hL rfl hrun (fun rr1 e1 => Z_runV (rest := [.int x5]) C hH (m_X2_size hl9 e1) wV_X12_162 c17 rfl (by decide) rfl rfl ⟨by decide, by decide⟩ rfl (Nat.le_of_ble_eq_true rfl) hl.1 dX12_payLiens_14) (fun v15 h16 H locs cells slots hH hL hrun => ?_)
    refine lv_icmp_ge (tgt := 131) (pc := 17) hx hb dX12_payLiens_17 (by decide) (fun c_ => ?_) (fun c_ => ?_)
    · have hrun := ite_t hrun c_
      refine lv_lload_n (pc := 131) hx hb dX12_payLiens_131 rfl (lv_at hl 2 rfl) ?_
      exact V_lret (pc := 132) C hH hL hrun dX12_payLiens_132
    · have hrun := ite_f hrun c_
      refine V_aload_n (pc := 20) hx hb dX12_payLiens_20 rfl (lv_at hl 0 rfl) ?_
      obtain ⟨c18, hrun⟩ := gd_some hrun
      refine V_getR (pc := 21) C hH fr_X12_3 dX12_payLiens_21 c18 rfl ?_
      obtain ⟨c19, hrun⟩ := gd_some hrun
      refine V_getNR (pc := 24) C hH fn_X12_158 dX12_payLiens_24 c19 rfl ?_
      refine lv_iload (pc := 27) hx hb dX12_payLiens_27 (lv_at hl 3 rfl) ?_
      obtain ⟨c22, hrun⟩ := gd_some hrun
      refine V_bd (pc := 29) C hL rfl hrun (fun rr1 e1 => Z_runV (rest := []) C hH (m_X2_at hl9 e1) wV_X12_165 c22 rfl (by decide) rfl rfl ⟨by decide, by decide⟩ rfl (Nat.le_of_ble_eq_true rfl) hl.1 dX12_payLiens_29) (fun v20 h21 H locs cells slots hH hL hrun => ?_)
      obtain ⟨c23, hrun⟩ := gd_some hrun
      refine V_castX (pc := 32) (ci := 15) C hH rfl (by decide) q1708 dX12_payLiens_32 c23 ?_
      refine V_astore (i := 6) (lv' := [(6, rv v20), (0, rv x0), (1, .long x1), (3, .long x3), (5, .int x5)]) (pc := 35) hx hb dX12_payLiens_35 hl (by decide) rfl (fun ls hl => ?_)
      refine V_aload (pc := 37) hx hb dX12_payLiens_37 (lv_at hl 0 rfl) ?_
      obtain ⟨c24, hrun⟩ := gd_some hrun
      refine V_getNR (pc := 39) C hH fn_X12_171 dX12_payLiens_39 c24 rfl ?_
      refine V_aload_n (pc := 42) hx hb dX12_payLiens_42 rfl (lv_at hl 1 rfl) ?_
      obtain ⟨c25, hrun⟩ := gd_some hrun
      refine V_getR (pc := 43) C hH fr_X12_32 dX12_payLiens_43 c25 rfl ?_
      refine V_acmp_ne (tgt := 125) (pc := 46) hx hb dX12_payLiens_46 (by decide) hrun (fun c_ hrun => ?_) (fun c_ hrun => ?_)
      · exact b_X12_payLiens_125 C ih x0 x1 x3 x5 h21 H locs cells slots ls hH hL (lv_sub hl [1, 2, 3, 4] rfl) hrun
      · refine V_aload (pc := 49) hx hb dX12_payLiens_49 (lv_at hl 0 rfl) ?_
        refine V_getNI (pc := 51) C hH fn_X12_172 dX12_payLiens_51 c24 rfl ?_
        refine lv_if_le (tgt := 125) (pc := 54) hx hb dX12_payLiens_54 (by decide) (fun c_ => ?_) (fun c_ => ?_)
        · have hrun := ite_t hrun c_
          exact b_X12_payLiens_125 C ih x0 x1 x3 x5 h21 H locs cells slots ls hH hL (lv_sub hl [1, 2, 3, 4] rfl) hrun
        · have hrun := ite_f hrun c_
          refine V_aload (pc := 57) hx hb dX12_payLiens_57 (lv_at hl 0 rfl) ?_
          refine V_getNI (pc := 59) C hH fn_X12_172 dX12_payLiens_59 c24 rfl ?_
          refine lv_i2l (pc := 62) hx hb dX12_payLiens_62 rfl ?_
          refine lv_lload_n (pc := 63) hx hb dX12_payLiens_63 rfl (lv_at hl 3 rfl) ?_
          refine V_bd (pc := 64) C hL rfl hrun (fun rr1 e1 => Z_runS (rest := []) C hH (m_J10_min hl9 e1) wS_X12_98 rfl ⟨by decide, by decide⟩ rfl (Nat.le_of_ble_eq_true rfl) hl.1 dX12_payLiens_64) (fun v26 h27 H locs cells slots hH hL hrun => ?_)
          refine lv_lload_n (pc := 67) hx hb dX12_payLiens_67 rfl (lv_at hl 2 rfl) ?_
          refine V_aload (pc := 68) hx hb dX12_payLiens_68 (lv_at hl 0 rfl) ?_
          obtain ⟨c28, hrun⟩ := gd_some hrun
          refine V_getNI (pc := 70) C hH fn_X12_175 dX12_payLiens_70 c28 rfl ?_
          refine lv_if_eq (tgt := 80) (pc := 73) hx hb dX12_payLiens_73 (by decide) (fun c_ => ?_) (fun c_ => ?_)
          · have hrun := ite_t hrun c_
            refine lv_iconst (v := (2 : Int32)) (pc := 80) hx hb dX12_payLiens_80 (by decide) ?_
            exact b_X12_payLiens_81 C ih x0 x1 x3 x5 v20 v26 x1 (2 : Int32) h27 H locs cells slots ls hH hL (lv_sub hl [1, 2, 3, 4, 0] rfl) hrun
          · have hrun := ite_f hrun c_
            refine lv_iconst (v := (3 : Int32)) (pc := 76) hx hb dX12_payLiens_76 (by decide) ?_
            refine lv_goto (tgt := 81) (pc := 77) hx hb dX12_payLiens_77 (by decide) ?_
            exact b_X12_payLiens_81 C ih x0 x1 x3 x5 v20 v26 x1 (3 : Int32) h27 H locs cells slots ls hH hL (lv_sub hl [1, 2, 3, 4, 0] rfl) hrun

theorem b_X12_payLiens {rr : (Int64 ⊕ Ex) × Hp}  (C : CX p l R s m args meth c D Hs cX12_payLiens "Massclaim$Claim" 8 (some .long) [] 8 131)  : ∀ (x0 : Nat) (x1 : Int64) (h : Hp) (H : Heap) (locs : List Loc) (cells slots : Nat) (ls : Array Slot), HP D Hs h H → LO Hs locs → lv_has ls 8 [(0, rv x0), (1, .long x1)] → f_X12_payLiens x0 x1 h = some rr → W p l e R s m args below meth c H locs cells slots (ZM D Hs iL rr below args s) (F0 m 0 ls []) := by
  obtain ⟨⟨hx, hb, hml, hown, hts⟩, -⟩ := id C
  have hl9 := C.2.1.2.2.1
  intro x0 x1 h H locs cells slots ls hH hL hl hrun
  unfold f_X12_payLiens at hrun
  refine lv_lload_n (pc := 0) hx hb dX12_payLiens_0 rfl (lv_at hl 1 rfl) ?_
  refine lv_lstore_n (i := 3) (lv' := [(3, .long x1), (0, rv x0), (1, .long x1)]) (pc := 1) hx hb dX12_payLiens_1 rfl hl (by decide) rfl (fun ls hl => ?_)
  refine lv_iconst (v := (0 : Int32)) (pc := 2) hx hb dX12_payLiens_2 (by decide) ?_
  refine lv_istore (i := 5) (lv' := [(5, .int (0 : Int32)), (3, .long x1), (0, rv x0), (1, .long x1)]) (pc := 3) hx hb dX12_payLiens_3 hl (by decide) rfl (fun ls hl => ?_)
  exact b_X12_payLiens_5 C FU x0 x1 x1 (0 : Int32) h H locs cells slots ls hH hL (lv_sub hl [2, 3, 1, 0] rfl) hrun

theorem m_X12_payLiens {l : Launch} {D : va_G} {Hs : Heap} {h : Hp} {rr : (Int64 ⊕ Ex) × Hp} (hl9 : l.stackTraces = false) {x0 : Nat} {x1 : Int64} (hrun : f_X12_payLiens x0 x1 h = some rr) : CM l yX12_payLiens (ws_ yX12_payLiens cX12_payLiens 8 (some .long)) 8 131 iL [rv x0, .long x1] D Hs h rr := by
  refine CM.of (lv := [(0, rv x0), (1, .long x1)]) (plainFor_of_name (by decide)) hl9 (by simp [lv_args, rv_cat, cat_i, cat_l, cat_f, cat_d]) (by simp [lg_sl, rv_cat, cat_i, cat_l, cat_f, cat_d]) ?_
  intro p e R s m args below meth c H ls C hH hl hin
  exact b_X12_payLiens C x0 x1 _ H [] _ _ ls hH (fun _ q => nomatch q) (lv_sub hl [0, 1] rfl) hrun

/-! Massclaim$Yearly.<init>(LMassclaim;JI)V -/
def f_X14_init  (x0 : Nat) (x1 : Nat) (x2 : Int64) (x4 : Int32) (h : Hp) : Rt Unit :=
  gd (kC h x0 = 14) <| vl (sR h 1303 x0 x1) fun h2 => gd (kC h2 x0 = 14) <| gd (kC h2 (kR h2 1303 x0) = 1) <| vl (sI h2 1302 x0 (kI h2 18 (kR h2 1303 x0))) fun h5 => gd (kC h5 x0 = 14) <| vl (sL h5 1300 x0 x2) fun h7 => gd (kC h7 x0 = 14) <| vl (sI h7 1301 x0 x4) fun h9 => some (.inl (), h9)
theorem b_X14_init {rr : (Unit ⊕ Ex) × Hp}  (C : CX p l R s m args meth c D Hs cX14_init "Massclaim$Yearly" 5 none [] 1 20) (hin : meth.name = "<init>")  : ∀ (x0 : Nat) (x1 : Nat) (x2 : Int64) (x4 : Int32) (h : Hp) (H : Heap) (locs : List Loc) (cells slots : Nat) (ls : Array Slot), HP D Hs h H → LO Hs locs → lv_has ls 5 [(0, rv x0), (1, rv x1), (2, .long x2), (4, .int x4)] → f_X14_init x0 x1 x2 x4 h = some rr → W p l e R s m args below meth c H locs cells slots (ZM D Hs iV rr below args s) (F0 m 0 ls []) := by
  obtain ⟨⟨hx, hb, hml, hown, hts⟩, -⟩ := id C
  have hl9 := C.2.1.2.2.1
  intro x0 x1 x2 x4 h H locs cells slots ls hH hL hl hrun
  unfold f_X14_init at hrun
  refine V_aload_n (pc := 0) hx hb dX14_init_0 rfl (lv_at hl 0 rfl) ?_
  refine V_aload_n (pc := 1) hx hb dX14_init_1 rfl (lv_at hl 1 rfl) ?_
  obtain ⟨c1, hrun⟩ := gd_some hrun
  refine V_putR (pc := 2) C hH hL fl_X14_3 dX14_init_2 c1 (fok_o _ _) rfl (fun _ => hin) hrun (fun h2 H locs hH hL hrun => ?_)
  refine V_aload_n (pc := 5) hx hb dX14_init_5 rfl (lv_at hl 0 rfl) ?_
  obtain ⟨c3, hrun⟩ := gd_some hrun
  refine V_objInit (pc := 6) C q1719 q113 q114 (hH.pos c3) dX14_init_6 (by decide) (by simp [csum, rv_cat, cat_i, cat_l, cat_f, cat_d]) hl.1 ?_
  refine V_aload_n (pc := 9) hx hb dX14_init_9 rfl (lv_at hl 0 rfl) ?_
  refine V_aload_n (pc := 10) hx hb dX14_init_10 rfl (lv_at hl 0 rfl) ?_
  refine V_getR (pc := 11) C hH fr_X14_3 dX14_init_11 c3 rfl ?_
  obtain ⟨c4, hrun⟩ := gd_some hrun
  refine V_getNI (pc := 14) C hH fn_X14_15 dX14_init_14 c4 rfl ?_
  refine V_putI (pc := 17) C hH hL fl_X14_19 dX14_init_17 c3 (fok_i _) rfl (fun _ => hin) hrun (fun h5 H locs hH hL hrun => ?_)
  refine V_aload_n (pc := 20) hx hb dX14_init_20 rfl (lv_at hl 0 rfl) ?_
  refine lv_lload_n (pc := 21) hx hb dX14_init_21 rfl (lv_at hl 2 rfl) ?_
  obtain ⟨c6, hrun⟩ := gd_some hrun
  refine V_putL (pc := 22) C hH hL fl_X14_22 dX14_init_22 c6 (fok_l _) rfl (fun q => Bool.noConfusion q) hrun (fun h7 H locs hH hL hrun => ?_)
  refine V_aload_n (pc := 25) hx hb dX14_init_25 rfl (lv_at hl 0 rfl) ?_
  refine lv_iload (pc := 26) hx hb dX14_init_26 (lv_at hl 3 rfl) ?_
  obtain ⟨c8, hrun⟩ := gd_some hrun
  refine V_putI (pc := 28) C hH hL fl_X14_26 dX14_init_28 c8 (fok_i _) rfl (fun q => Bool.noConfusion q) hrun (fun h9 H locs hH hL hrun => ?_)
  exact V_vret (pc := 31) C hH hL hrun dX14_init_31

theorem m_X14_init {l : Launch} {D : va_G} {Hs : Heap} {h : Hp} {rr : (Unit ⊕ Ex) × Hp} (hl9 : l.stackTraces = false) {x0 : Nat} {x1 : Nat} {x2 : Int64} {x4 : Int32} (hrun : f_X14_init x0 x1 x2 x4 h = some rr) : CM l yX14_init (ws_ yX14_init cX14_init 5 none) 1 20 iV [rv x0, rv x1, .long x2, .int x4] D Hs h rr := by
  refine CM.of (lv := [(0, rv x0), (1, rv x1), (2, .long x2), (4, .int x4)]) (plainFor_of_name (by decide)) hl9 (by simp [lv_args, rv_cat, cat_i, cat_l, cat_f, cat_d]) (by simp [lg_sl, rv_cat, cat_i, cat_l, cat_f, cat_d]) ?_
  intro p e R s m args below meth c H ls C hH hl hin
  exact b_X14_init C hin x0 x1 x2 x4 _ H [] _ _ ls hH (fun _ q => nomatch q) (lv_sub hl [0, 1, 2, 3] rfl) hrun

/-! Massclaim$Person.deliver(J)V -/
def f_X5_deliver_103  (h : Hp) : Rt Unit :=
  some (.inl (), h)
def f_X5_deliver  (x0 : Nat) (x1 : Int64) (h : Hp) : Rt Unit :=
  gd (kC h x0 = 5) <| bd (f_X5_isDead x0 h) fun v1 h2 => if v1 = 0 then
  (gd (kC h2 x0 = 5) <| gd (kC h2 (kR h2 421 x0) = 1) <| bd (f_X5_age x0 (kI h2 18 (kR h2 421 x0)) h2) fun v6 h7 => if (18 : Int32) ≤ v6 then
  (gd (kC h7 x0 = 5) <| gd (kC h7 (kR h7 415 x0) = 12) <| if (kI h7 1105 (kR h7 415 x0)) ≤ (1 : Int32) then
  (bd (f_X5_gets x0 x1 h7) fun _ h11 => f_X5_deliver_103  h11)
  else
  (nw h7 14 4 fun q12 h13 => gd (kC h13 x0 = 5) <| gd (kC h13 (kR h13 415 x0) = 12) <| gd (kC h13 q12 = 14) <| bd (f_X14_init q12 (kR h13 421 x0) x1 (kI h13 1105 (kR h13 415 x0)) h13) fun _ h17 => gd (kC h17 x0 = 5) <| gd (kC h17 (kR h17 419 x0) = 18) <| bd (f_J2_add (kR h17 419 x0) q12 h17) fun v20 h21 => gd (kC h21 q12 = 14) <| bd (f_X14_comes q12 h21) fun v23 h24 => gd (kC h24 x0 = 5) <| bd (f_X5_gets x0 v23 h24) fun _ h27 => f_X5_deliver_103  h27))
  else
  (gd (kC h7 x0 = 5) <| vl (sL h7 417 x0 ((kL h7 417 x0) + x1)) fun h30 => f_X5_deliver_103  h30))
  else
  (gd (kC h2 x0 = 5) <| bd (f_X5_gets x0 x1 h2) fun _ h32 => f_X5_deliver_103  h32)
theorem b_X5_deliver_103 {rr : (Unit ⊕ Ex) × Hp}  (C : CX p l R s m args meth c D Hs cX5_deliver "Massclaim$Person" 5 none [] 8 331)  : ∀ (h : Hp) (H : Heap) (locs : List Loc) (cells slots : Nat) (ls : Array Slot), HP D Hs h H → LO Hs locs → lv_has ls 5 [] → f_X5_deliver_103 h = some rr → W p l e R s m args below meth c H locs cells slots (ZM D Hs iV rr below args s) (F0 m 103 ls []) := by
  obtain ⟨⟨hx, hb, hml, hown, hts⟩, -⟩ := id C
  have hl9 := C.2.1.2.2.1
  intro h H locs cells slots ls hH hL hl hrun
  unfold f_X5_deliver_103 at hrun
  exact V_vret (pc := 103) C hH hL hrun dX5_deliver_103

theorem b_X5_deliver {rr : (Unit ⊕ Ex) × Hp}  (C : CX p l R s m args meth c D Hs cX5_deliver "Massclaim$Person" 5 none [] 8 331)  : ∀ (x0 : Nat) (x1 : Int64) (h : Hp) (H : Heap) (locs : List Loc) (cells slots : Nat) (ls : Array Slot), HP D Hs h H → LO Hs locs → lv_has ls 5 [(0, rv x0), (1, .long x1)] → f_X5_deliver x0 x1 h = some rr → W p l e R s m args below meth c H locs cells slots (ZM D Hs iV rr below args s) (F0 m 0 ls []) := by
  obtain ⟨⟨hx, hb, hml, hown, hts⟩, -⟩ := id C
  have hl9 := C.2.1.2.2.1
  intro x0 x1 h H locs cells slots ls hH hL hl hrun
  unfold f_X5_deliver at hrun
  refine V_aload_n (pc := 0) hx hb dX5_deliver_0 rfl (lv_at hl 0 rfl) ?_
  obtain ⟨c3, hrun⟩ := gd_some hrun
  refine V_bd (pc := 1) C hL rfl hrun (fun rr1 e1 => Z_runV (rest := []) C hH (m_X5_isDead hl9 e1) wV_X5_133 c3 rfl (by decide) rfl rfl ⟨by decide, by decide⟩ rfl (Nat.le_of_ble_eq_true rfl) hl.1 dX5_deliver_1) (fun v1 h2 H locs cells slots hH hL hrun => ?_)
  refine lv_if_eq (tgt := 15) (pc := 4) hx hb dX5_deliver_4 (by decide) (fun c_ => ?_) (fun c_ => ?_)
  · have hrun := ite_t hrun c_
    refine V_aload_n (pc := 15) hx hb dX5_deliver_15 rfl (lv_at hl 0 rfl) ?_
    refine V_aload_n (pc := 16) hx hb dX5_deliver_16 rfl (lv_at hl 0 rfl) ?_
    obtain ⟨c4, hrun⟩ := gd_some hrun
    refine V_getR (pc := 17) C hH fr_X5_3 dX5_deliver_17 c4 rfl ?_
    obtain ⟨c5, hrun⟩ := gd_some hrun
    refine V_getNI (pc := 20) C hH fn_X5_140 dX5_deliver_20 c5 rfl ?_
    refine V_bd (pc := 23) C hL rfl hrun (fun rr1 e1 => Z_runV (rest := []) C hH (m_X5_age hl9 e1) wV_X5_143 c4 rfl (by decide) rfl rfl ⟨by decide, by decide⟩ rfl (Nat.le_of_ble_eq_true rfl) hl.1 dX5_deliver_23) (fun v6 h7 H locs cells slots hH hL hrun => ?_)
    refine lv_bipush (v := (18 : Int32)) (pc := 26) hx hb dX5_deliver_26 (by decide) ?_
    refine lv_icmp_ge (tgt := 44) (pc := 28) hx hb dX5_deliver_28 (by decide) (fun c_ => ?_) (fun c_ => ?_)
    · have hrun := ite_t hrun c_
      refine V_aload_n (pc := 44) hx hb dX5_deliver_44 rfl (lv_at hl 0 rfl) ?_
      obtain ⟨c8, hrun⟩ := gd_some hrun
      refine V_getR (pc := 45) C hH fr_X5_150 dX5_deliver_45 c8 rfl ?_
      obtain ⟨c9, hrun⟩ := gd_some hrun
      refine V_getNI (pc := 48) C hH fn_X5_154 dX5_deliver_48 c9 rfl ?_
      refine lv_iconst (v := (1 : Int32)) (pc := 51) hx hb dX5_deliver_51 (by decide) ?_
      refine lv_icmp_le (tgt := 98) (pc := 52) hx hb dX5_deliver_52 (by decide) (fun c_ => ?_) (fun c_ => ?_)
      · have hrun := ite_t hrun c_
        refine V_aload_n (pc := 98) hx hb dX5_deliver_98 rfl (lv_at hl 0 rfl) ?_
        refine lv_lload_n (pc := 99) hx hb dX5_deliver_99 rfl (lv_at hl 1 rfl) ?_
        refine V_bd (pc := 100) C hL rfl hrun (fun rr1 e1 => Z_runV (rest := []) C hH (m_X5_gets hl9 e1) wV_X5_136 c8 rfl (by decide) rfl rfl ⟨by decide, by decide⟩ rfl (Nat.le_of_ble_eq_true rfl) hl.1 dX5_deliver_100) (fun _ h11 H locs cells slots hH hL hrun => ?_)
        exact b_X5_deliver_103 C h11 H locs cells slots ls hH hL (lv_sub hl [] rfl) hrun
      · have hrun := ite_f hrun c_
        refine V_new (pc := 55) C hH nl_X5_115 dX5_deliver_55 hrun (fun q12 h13 H cells slots hH hrun => ?_)
        refine lv_dup (pc := 58) hx hb dX5_deliver_58 (rv_cat _) ?_
        refine V_aload_n (pc := 59) hx hb dX5_deliver_59 rfl (lv_at hl 0 rfl) ?_
        obtain ⟨c14, hrun⟩ := gd_some hrun
        refine V_getR (pc := 60) C hH fr_X5_3 dX5_deliver_60 c14 rfl ?_
        refine lv_lload_n (pc := 63) hx hb dX5_deliver_63 rfl (lv_at hl 1 rfl) ?_
        refine V_aload_n (pc := 64) hx hb dX5_deliver_64 rfl (lv_at hl 0 rfl) ?_
        refine V_getR (pc := 65) C hH fr_X5_150 dX5_deliver_65 c14 rfl ?_
        obtain ⟨c15, hrun⟩ := gd_some hrun
        refine V_getNI (pc := 68) C hH fn_X5_154 dX5_deliver_68 c15 rfl ?_
        obtain ⟨c18, hrun⟩ := gd_some hrun
        refine V_bd (pc := 71) C hL rfl hrun (fun rr1 e1 => Z_runI (rest := [rv q12]) C hH (m_X14_init hl9 e1) wI_X5_159 (hH.pos c18) rfl ⟨by decide, by decide⟩ rfl (by simp [csum, rv_cat, cat_i, cat_l, cat_f, cat_d]) hl.1 dX5_deliver_71) (fun _ h17 H locs cells slots hH hL hrun => ?_)
        refine V_astore_n (i := 3) (lv' := [(3, rv q12), (0, rv x0), (1, .long x1)]) (pc := 74) hx hb dX5_deliver_74 rfl hl (by decide) rfl (fun ls hl => ?_)
        refine V_aload_n (pc := 75) hx hb dX5_deliver_75 rfl (lv_at hl 1 rfl) ?_
        obtain ⟨c19, hrun⟩ := gd_some hrun
        refine V_getR (pc := 76) C hH fr_X5_32 dX5_deliver_76 c19 rfl ?_
        refine V_aload_n (pc := 79) hx hb dX5_deliver_79 rfl (lv_at hl 0 rfl) ?_
        obtain ⟨c22, hrun⟩ := gd_some hrun
        refine V_bd5 (pc := 80) C hL rfl hrun (fun rr1 e1 => Z_runF (rest := []) C hH (m_J2_add hl9 e1) rfl wF_X5_97_J2 c22 (by decide) rfl ⟨by decide, by decide⟩ rfl (Nat.le_of_ble_eq_true rfl) hl.1 dX5_deliver_80) (fun v20 h21 H locs cells slots hH hL hrun => ?_)
        refine lv_istore (i := 4) (lv' := [(4, .int v20), (3, rv q12), (0, rv x0), (1, .long x1)]) (pc := 85) hx hb dX5_deliver_85 hl (by decide) (by simp [rv_cat, cat_i, cat_l, cat_f, cat_d]) (fun ls hl => ?_)
        refine V_aload_n (pc := 87) hx hb dX5_deliver_87 rfl (lv_at hl 2 rfl) ?_
        refine V_aload_n (pc := 88) hx hb dX5_deliver_88 rfl (lv_at hl 1 rfl) ?_
        obtain ⟨c25, hrun⟩ := gd_some hrun
        refine V_bd (pc := 89) C hL rfl hrun (fun rr1 e1 => Z_runV (rest := [rv x0]) C hH (m_X14_comes hl9 e1) wV_X5_162 c25 rfl (by decide) rfl rfl ⟨by decide, by decide⟩ rfl (by simp [csum, rv_cat, cat_i, cat_l, cat_f, cat_d]) hl.1 dX5_deliver_89) (fun v23 h24 H locs cells slots hH hL hrun => ?_)
        obtain ⟨c28, hrun⟩ := gd_some hrun
        refine V_bd (pc := 92) C hL rfl hrun (fun rr1 e1 => Z_runV (rest := []) C hH (m_X5_gets hl9 e1) wV_X5_136 c28 rfl (by decide) rfl rfl ⟨by decide, by decide⟩ rfl (Nat.le_of_ble_eq_true rfl) hl.1 dX5_deliver_92) (fun _ h27 H locs cells slots hH hL hrun => ?_)
        refine lv_goto (tgt := 103) (pc := 95) hx hb dX5_deliver_95 (by decide) ?_
        exact b_X5_deliver_103 C h27 H locs cells slots ls hH hL (lv_sub hl [] rfl) hrun
    · have hrun := ite_f hrun c_
      refine V_aload_n (pc := 31) hx hb dX5_deliver_31 rfl (lv_at hl 0 rfl) ?_
      refine lv_dup (pc := 32) hx hb dX5_deliver_32 (rv_cat _) ?_
      obtain ⟨c29, hrun⟩ := gd_some hrun
      refine V_getL (pc := 33) C hH fr_X5_147 dX5_deliver_33 c29 rfl ?_
      refine lv_lload_n (pc := 36) hx hb dX5_deliver_36 rfl (lv_at hl 1 rfl) ?_
      refine lv_ladd (pc := 37) hx hb dX5_deliver_37 ?_
      refine V_putL (pc := 38) C hH hL fl_X5_147 dX5_deliver_38 c29 (fok_l _) rfl (fun q => Bool.noConfusion q) hrun (fun h30 H locs hH hL hrun => ?_)
      refine lv_goto (tgt := 103) (pc := 41) hx hb dX5_deliver_41 (by decide) ?_
      exact b_X5_deliver_103 C h30 H locs cells slots ls hH hL (lv_sub hl [] rfl) hrun
  · have hrun := ite_f hrun c_
    refine V_aload_n (pc := 7) hx hb dX5_deliver_7 rfl (lv_at hl 0 rfl) ?_
    refine lv_lload_n (pc := 8) hx hb dX5_deliver_8 rfl (lv_at hl 1 rfl) ?_
    obtain ⟨c33, hrun⟩ := gd_some hrun
    refine V_bd (pc := 9) C hL rfl hrun (fun rr1 e1 => Z_runV (rest := []) C hH (m_X5_gets hl9 e1) wV_X5_136 c33 rfl (by decide) rfl rfl ⟨by decide, by decide⟩ rfl (Nat.le_of_ble_eq_true rfl) hl.1 dX5_deliver_9) (fun _ h32 H locs cells slots hH hL hrun => ?_)
    refine lv_goto (tgt := 103) (pc := 12) hx hb dX5_deliver_12 (by decide) ?_
    exact b_X5_deliver_103 C h32 H locs cells slots ls hH hL (lv_sub hl [] rfl) hrun

theorem m_X5_deliver {l : Launch} {D : va_G} {Hs : Heap} {h : Hp} {rr : (Unit ⊕ Ex) × Hp} (hl9 : l.stackTraces = false) {x0 : Nat} {x1 : Int64} (hrun : f_X5_deliver x0 x1 h = some rr) : CM l yX5_deliver (ws_ yX5_deliver cX5_deliver 5 none) 8 331 iV [rv x0, .long x1] D Hs h rr := by
  refine CM.of (lv := [(0, rv x0), (1, .long x1)]) (plainFor_of_name (by decide)) hl9 (by simp [lv_args, rv_cat, cat_i, cat_l, cat_f, cat_d]) (by simp [lg_sl, rv_cat, cat_i, cat_l, cat_f, cat_d]) ?_
  intro p e R s m args below meth c H ls C hH hl hin
  exact b_X5_deliver C x0 x1 _ H [] _ _ ls hH (fun _ q => nomatch q) (lv_sub hl [0, 1] rfl) hrun

/-! Massclaim$Person.releases()V -/
def f_X5_releases_33  (h : Hp) : Rt Unit :=
  some (.inl (), h)
def f_X5_releases  (x0 : Nat) (h : Hp) : Rt Unit :=
  gd (kC h x0 = 5) <| if (kL h 418 x0) ≤ (0 : Int64) then
  (f_X5_releases_33  h)
  else
  (bd (f_X5_openLiens x0 h) fun v2 h3 => if v2 = (0 : Int64) then
  (gd (kC h3 x0 = 5) <| vl (kL h3 418 x0) fun v5 => vl (sL h3 418 x0 (0 : Int64)) fun h6 => gd (kC h6 x0 = 5) <| bd (f_X5_deliver x0 v5 h6) fun _ h8 => f_X5_releases_33  h8)
  else
  (f_X5_releases_33  h3))
theorem b_X5_releases_33 {rr : (Unit ⊕ Ex) × Hp}  (C : CX p l R s m args meth c D Hs cX5_releases "Massclaim$Person" 3 none [] 9 355)  : ∀ (h : Hp) (H : Heap) (locs : List Loc) (cells slots : Nat) (ls : Array Slot), HP D Hs h H → LO Hs locs → lv_has ls 3 [] → f_X5_releases_33 h = some rr → W p l e R s m args below meth c H locs cells slots (ZM D Hs iV rr below args s) (F0 m 33 ls []) := by
  obtain ⟨⟨hx, hb, hml, hown, hts⟩, -⟩ := id C
  have hl9 := C.2.1.2.2.1
  intro h H locs cells slots ls hH hL hl hrun
  unfold f_X5_releases_33 at hrun
  exact V_vret (pc := 33) C hH hL hrun dX5_releases_33

theorem b_X5_releases {rr : (Unit ⊕ Ex) × Hp}  (C : CX p l R s m args meth c D Hs cX5_releases "Massclaim$Person" 3 none [] 9 355)  : ∀ (x0 : Nat) (h : Hp) (H : Heap) (locs : List Loc) (cells slots : Nat) (ls : Array Slot), HP D Hs h H → LO Hs locs → lv_has ls 3 [(0, rv x0)] → f_X5_releases x0 h = some rr → W p l e R s m args below meth c H locs cells slots (ZM D Hs iV rr below args s) (F0 m 0 ls []) := by
  obtain ⟨⟨hx, hb, hml, hown, hts⟩, -⟩ := id C
  have hl9 := C.2.1.2.2.1
  intro x0 h H locs cells slots ls hH hL hl hrun
  unfold f_X5_releases at hrun
  refine V_aload_n (pc := 0) hx hb dX5_releases_0 rfl (lv_at hl 0 rfl) ?_
  obtain ⟨c1, hrun⟩ := gd_some hrun
  refine V_getL (pc := 1) C hH fr_X5_178 dX5_releases_1 c1 rfl ?_
  refine lv_lconst (v := (0 : Int64)) (pc := 4) hx hb dX5_releases_4 (by decide) ?_
  refine V_lcmp_le (tgt := 33) (pc := 5) hx hb dX5_releases_5 dX5_releases_6 (by decide) (fun c_ => ?_) (fun c_ => ?_)
  · have hrun := ite_t hrun c_
    exact b_X5_releases_33 C h H locs cells slots ls hH hL (lv_sub hl [] rfl) hrun
  · have hrun := ite_f hrun c_
    refine V_aload_n (pc := 9) hx hb dX5_releases_9 rfl (lv_at hl 0 rfl) ?_
    refine V_bd (pc := 10) C hL rfl hrun (fun rr1 e1 => Z_runV (rest := []) C hH (m_X5_openLiens hl9 e1) wV_X5_181 c1 rfl (by decide) rfl rfl ⟨by decide, by decide⟩ rfl (Nat.le_of_ble_eq_true rfl) hl.1 dX5_releases_10) (fun v2 h3 H locs cells slots hH hL hrun => ?_)
    refine lv_lconst (v := (0 : Int64)) (pc := 13) hx hb dX5_releases_13 (by decide) ?_
    refine V_lcmp_ne (tgt := 33) (pc := 14) hx hb dX5_releases_14 dX5_releases_15 (by decide) (fun c_ => ?_) (fun c_ => ?_)
    · have hrun := ite_f hrun c_
      exact b_X5_releases_33 C h3 H locs cells slots ls hH hL (lv_sub hl [] rfl) hrun
    · have hrun := ite_t hrun c_
      refine V_aload_n (pc := 18) hx hb dX5_releases_18 rfl (lv_at hl 0 rfl) ?_
      obtain ⟨c4, hrun⟩ := gd_some hrun
      refine V_getL (pc := 19) C hH fr_X5_178 dX5_releases_19 c4 rfl ?_
      refine lv_topl (fun v5 ev5 => ?_)
      have hrun := vl_at hrun v5 ev5
      refine lv_lstore_n (i := 1) (lv' := [(1, .long v5), (0, rv x0)]) (pc := 22) hx hb dX5_releases_22 rfl hl (by decide) (by simp [rv_cat, cat_i, cat_l, cat_f, cat_d]) (fun ls hl => ?_)
      refine V_aload_n (pc := 23) hx hb dX5_releases_23 rfl (lv_at hl 1 rfl) ?_
      refine lv_lconst (v := (0 : Int64)) (pc := 24) hx hb dX5_releases_24 (by decide) ?_
      refine V_putL (pc := 25) C hH hL fl_X5_178 dX5_releases_25 c4 (fok_l _) rfl (fun q => Bool.noConfusion q) hrun (fun h6 H locs hH hL hrun => ?_)
      refine V_aload_n (pc := 28) hx hb dX5_releases_28 rfl (lv_at hl 1 rfl) ?_
      refine lv_lload_n (pc := 29) hx hb dX5_releases_29 rfl (lv_at hl 0 rfl) ?_
      obtain ⟨c9, hrun⟩ := gd_some hrun
      refine V_bd (pc := 30) C hL rfl hrun (fun rr1 e1 => Z_runV (rest := []) C hH (m_X5_deliver hl9 e1) wV_X5_184 c9 rfl (by decide) rfl rfl ⟨by decide, by decide⟩ rfl (Nat.le_of_ble_eq_true rfl) hl.1 dX5_releases_30) (fun _ h8 H locs cells slots hH hL hrun => ?_)
      exact b_X5_releases_33 C h8 H locs cells slots ls hH hL (lv_sub hl [] rfl) hrun

theorem m_X5_releases {l : Launch} {D : va_G} {Hs : Heap} {h : Hp} {rr : (Unit ⊕ Ex) × Hp} (hl9 : l.stackTraces = false) {x0 : Nat} (hrun : f_X5_releases x0 h = some rr) : CM l yX5_releases (ws_ yX5_releases cX5_releases 3 none) 9 355 iV [rv x0] D Hs h rr := by
  refine CM.of (lv := [(0, rv x0)]) (plainFor_of_name (by decide)) hl9 (by simp [lv_args, rv_cat, cat_i, cat_l, cat_f, cat_d]) (by simp [lg_sl, rv_cat, cat_i, cat_l, cat_f, cat_d]) ?_
  intro p e R s m args below meth c H ls C hH hl hin
  exact b_X5_releases C x0 _ H [] _ _ ls hH (fun _ q => nomatch q) (lv_sub hl [0] rfl) hrun

/-! Massclaim$Claim.gets(J)V -/
def f_X12_gets_122  (x0 : Nat) (x7 : Int64) (y0 : Int64) (h : Hp) : Rt Unit :=
  gd (kC h x0 = 12) <| gd (kC h (kR h 1101 x0) = 5) <| vl (sL h 418 (kR h 1101 x0) ((kL h 418 (kR h 1101 x0)) + y0)) fun h3 => gd (kC h3 x0 = 12) <| gd (kC h3 (kR h3 1101 x0) = 5) <| bd (f_X5_deliver (kR h3 1101 x0) (x7 - y0) h3) fun _ h6 => gd (kC h6 x0 = 12) <| gd (kC h6 (kR h6 1101 x0) = 5) <| bd (f_X5_releases (kR h6 1101 x0) h6) fun _ h10 => some (.inl (), h10)
def f_X12_gets  (x0 : Nat) (x1 : Int64) (h : Hp) : Rt Unit :=
  gd (kC h x0 = 12) <| vl (sL h 1106 x0 ((kL h 1106 x0) + x1)) fun h13 => gd (kC h13 x0 = 12) <| bd (f_X12_value x0 h13) fun v15 h16 => bd (f_J10_max_2 (kL h13 1107 x0) (v15.toInt64) h16) fun v17 h18 => gd (kC h18 x0 = 12) <| vl (sL h18 1107 x0 v17) fun h20 => gd (kC h20 x0 = 12) <| gd (kC h20 (kR h20 1112 x0) = 1) <| vl (sL h20 17 (kR h20 1112 x0) ((kL h20 17 (kR h20 1112 x0)) - x1)) fun h23 => bd (f_X1_part x1 (6 : Int64) (100 : Int64) h23) fun v24 h25 => gd (kC h25 x0 = 12) <| gd (kC h25 (kR h25 1112 x0) = 1) <| gd (kC h25 (kR h25 8 (kR h25 1112 x0)) = 3) <| vl (sL h25 200 (kR h25 8 (kR h25 1112 x0)) ((kL h25 200 (kR h25 8 (kR h25 1112 x0))) + v24)) fun h29 => gd (kC h29 x0 = 12) <| bd (f_X1_part (x1 - v24) ((kI h29 1103 x0).toInt64) (100 : Int64) h29) fun v31 h32 => gd (kC h32 x0 = 12) <| bd (f_X12_payLawyers x0 v31 h32) fun _ h34 => gd (kC h34 x0 = 12) <| bd (f_X12_payLiens x0 ((x1 - v24) - v31) h34) fun v36 h37 => gd (kC h37 x0 = 12) <| gd (kC h37 (kR h37 1101 x0) = 5) <| bd (f_X5_openLiens (kR h37 1101 x0) h37) fun v40 h41 => if v40 ≤ (0 : Int64) then
  (f_X12_gets_122 x0 v36 (0 : Int64) h41)
  else
  (f_X12_gets_122 x0 v36 (v36 / (5 : Int64)) h41)
theorem b_X12_gets_122 {rr : (Unit ⊕ Ex) × Hp}  (C : CX p l R s m args meth c D Hs cX12_gets "Massclaim$Claim" 11 none [] 10 377)  : ∀ (x0 : Nat) (x7 : Int64) (y0 : Int64) (h : Hp) (H : Heap) (locs : List Loc) (cells slots : Nat) (ls : Array Slot), HP D Hs h H → LO Hs locs → lv_has ls 11 [(0, rv x0), (7, .long x7)] → f_X12_gets_122 x0 x7 y0 h = some rr → W p l e R s m args below meth c H locs cells slots (ZM D Hs iV rr below args s) (F0 m 122 ls [.long y0]) := by
  obtain ⟨⟨hx, hb, hml, hown, hts⟩, -⟩ := id C
  have hl9 := C.2.1.2.2.1
  intro x0 x7 y0 h H locs cells slots ls hH hL hl hrun
  unfold f_X12_gets_122 at hrun
  refine lv_lstore (i := 9) (lv' := [(9, .long y0), (0, rv x0), (7, .long x7)]) (pc := 122) hx hb dX12_gets_122 hl (by decide) rfl (fun ls hl => ?_)
  refine V_aload_n (pc := 124) hx hb dX12_gets_124 rfl (lv_at hl 1 rfl) ?_
  obtain ⟨c1, hrun⟩ := gd_some hrun
  refine V_getR (pc := 125) C hH fr_X12_32 dX12_gets_125 c1 rfl ?_
  refine lv_dup (pc := 128) hx hb dX12_gets_128 (rv_cat _) ?_
  obtain ⟨c2, hrun⟩ := gd_some hrun
  refine V_getNL (pc := 129) C hH fn_X12_146 dX12_gets_129 c2 rfl ?_
  refine lv_lload (pc := 132) hx hb dX12_gets_132 (lv_at hl 0 rfl) ?_
  refine lv_ladd (pc := 134) hx hb dX12_gets_134 ?_
  refine V_putNL (pc := 135) C hH hL fn_X12_146 dX12_gets_135 c2 (fok_l _) rfl hrun (fun h3 H locs hH hL hrun => ?_)
  refine V_aload_n (pc := 138) hx hb dX12_gets_138 rfl (lv_at hl 1 rfl) ?_
  obtain ⟨c4, hrun⟩ := gd_some hrun
  refine V_getR (pc := 139) C hH fr_X12_32 dX12_gets_139 c4 rfl ?_
  refine lv_lload (pc := 142) hx hb dX12_gets_142 (lv_at hl 2 rfl) ?_
  refine lv_lload (pc := 144) hx hb dX12_gets_144 (lv_at hl 0 rfl) ?_
  refine lv_lsub (pc := 146) hx hb dX12_gets_146 ?_
  obtain ⟨c7, hrun⟩ := gd_some hrun
  refine V_bd (pc := 147) C hL rfl hrun (fun rr1 e1 => Z_runV (rest := []) C hH (m_X5_deliver hl9 e1) wV_X12_149 c7 rfl (by decide) rfl rfl ⟨by decide, by decide⟩ rfl (Nat.le_of_ble_eq_true rfl) hl.1 dX12_gets_147) (fun _ h6 H locs cells slots hH hL hrun => ?_)
  refine V_aload_n (pc := 150) hx hb dX12_gets_150 rfl (lv_at hl 1 rfl) ?_
  obtain ⟨c8, hrun⟩ := gd_some hrun
  refine V_getR (pc := 151) C hH fr_X12_32 dX12_gets_151 c8 rfl ?_
  obtain ⟨c11, hrun⟩ := gd_some hrun
  refine V_bd (pc := 154) C hL rfl hrun (fun rr1 e1 => Z_runV (rest := []) C hH (m_X5_releases hl9 e1) wV_X12_152 c11 rfl (by decide) rfl rfl ⟨by decide, by decide⟩ rfl (Nat.le_of_ble_eq_true rfl) hl.1 dX12_gets_154) (fun _ h10 H locs cells slots hH hL hrun => ?_)
  exact V_vret (pc := 157) C hH hL hrun dX12_gets_157

theorem b_X12_gets {rr : (Unit ⊕ Ex) × Hp}  (C : CX p l R s m args meth c D Hs cX12_gets "Massclaim$Claim" 11 none [] 10 377)  : ∀ (x0 : Nat) (x1 : Int64) (h : Hp) (H : Heap) (locs : List Loc) (cells slots : Nat) (ls : Array Slot), HP D Hs h H → LO Hs locs → lv_has ls 11 [(0, rv x0), (1, .long x1)] → f_X12_gets x0 x1 h = some rr → W p l e R s m args below meth c H locs cells slots (ZM D Hs iV rr below args s) (F0 m 0 ls []) := by
  obtain ⟨⟨hx, hb, hml, hown, hts⟩, -⟩ := id C
  have hl9 := C.2.1.2.2.1
  intro x0 x1 h H locs cells slots ls hH hL hl hrun
  unfold f_X12_gets at hrun
  refine V_aload_n (pc := 0) hx hb dX12_gets_0 rfl (lv_at hl 0 rfl) ?_
  refine lv_dup (pc := 1) hx hb dX12_gets_1 (rv_cat _) ?_
  obtain ⟨c12, hrun⟩ := gd_some hrun
  refine V_getL (pc := 2) C hH fr_X12_104 dX12_gets_2 c12 rfl ?_
  refine lv_lload_n (pc := 5) hx hb dX12_gets_5 rfl (lv_at hl 1 rfl) ?_
  refine lv_ladd (pc := 6) hx hb dX12_gets_6 ?_
  refine V_putL (pc := 7) C hH hL fl_X12_104 dX12_gets_7 c12 (fok_l _) rfl (fun q => Bool.noConfusion q) hrun (fun h13 H locs hH hL hrun => ?_)
  refine V_aload_n (pc := 10) hx hb dX12_gets_10 rfl (lv_at hl 0 rfl) ?_
  refine V_aload_n (pc := 11) hx hb dX12_gets_11 rfl (lv_at hl 0 rfl) ?_
  obtain ⟨c14, hrun⟩ := gd_some hrun
  refine V_getL (pc := 12) C hH fr_X12_115 dX12_gets_12 c14 rfl ?_
  refine V_aload_n (pc := 15) hx hb dX12_gets_15 rfl (lv_at hl 0 rfl) ?_
  refine V_bd (pc := 16) C hL rfl hrun (fun rr1 e1 => Z_runV (rest := [.long (kL h13 1107 x0), rv x0]) C hH (m_X12_value hl9 e1) wV_X12_101 c14 rfl (by decide) rfl rfl ⟨by decide, by decide⟩ rfl (by simp [csum, rv_cat, cat_i, cat_l, cat_f, cat_d]) hl.1 dX12_gets_16) (fun v15 h16 H locs cells slots hH hL hrun => ?_)
  refine lv_i2l (pc := 19) hx hb dX12_gets_19 rfl ?_
  refine V_bd (pc := 20) C hL rfl hrun (fun rr1 e1 => Z_runS (rest := [rv x0]) C hH (m_J10_max_2 hl9 e1) wS_X12_108 rfl ⟨by decide, by decide⟩ rfl (by simp [csum, rv_cat, cat_i, cat_l, cat_f, cat_d]) hl.1 dX12_gets_20) (fun v17 h18 H locs cells slots hH hL hrun => ?_)
  obtain ⟨c19, hrun⟩ := gd_some hrun
  refine V_putL (pc := 23) C hH hL fl_X12_115 dX12_gets_23 c19 (fok_l _) rfl (fun q => Bool.noConfusion q) hrun (fun h20 H locs hH hL hrun => ?_)
  refine V_aload_n (pc := 26) hx hb dX12_gets_26 rfl (lv_at hl 0 rfl) ?_
  obtain ⟨c21, hrun⟩ := gd_some hrun
  refine V_getR (pc := 27) C hH fr_X12_3 dX12_gets_27 c21 rfl ?_
  refine lv_dup (pc := 30) hx hb dX12_gets_30 (rv_cat _) ?_
  obtain ⟨c22, hrun⟩ := gd_some hrun
  refine V_getNL (pc := 31) C hH fn_X12_118 dX12_gets_31 c22 rfl ?_
  refine lv_lload_n (pc := 34) hx hb dX12_gets_34 rfl (lv_at hl 1 rfl) ?_
  refine lv_lsub (pc := 35) hx hb dX12_gets_35 ?_
  refine V_putNL (pc := 36) C hH hL fn_X12_118 dX12_gets_36 c22 (fok_l _) rfl hrun (fun h23 H locs hH hL hrun => ?_)
  refine lv_lload_n (pc := 39) hx hb dX12_gets_39 rfl (lv_at hl 1 rfl) ?_
  refine lv_ldc2 (pc := 40) hx hb hown (hts _ q1697) dX12_gets_40 ?_
  refine lv_ldc2 (pc := 43) hx hb hown (hts _ q423) dX12_gets_43 ?_
  refine V_bd (pc := 46) C hL rfl hrun (fun rr1 e1 => Z_runSN (rest := []) C hH (m_X1_part hl9 e1) wSN_X12_91 rfl ⟨by decide, by decide⟩ rfl (Nat.le_of_ble_eq_true rfl) hl.1 dX12_gets_46) (fun v24 h25 H locs cells slots hH hL hrun => ?_)
  refine lv_lstore_n (i := 3) (lv' := [(3, .long v24), (0, rv x0), (1, .long x1)]) (pc := 49) hx hb dX12_gets_49 rfl hl (by decide) rfl (fun ls hl => ?_)
  refine V_aload_n (pc := 50) hx hb dX12_gets_50 rfl (lv_at hl 1 rfl) ?_
  obtain ⟨c26, hrun⟩ := gd_some hrun
  refine V_getR (pc := 51) C hH fr_X12_3 dX12_gets_51 c26 rfl ?_
  obtain ⟨c27, hrun⟩ := gd_some hrun
  refine V_getNR (pc := 54) C hH fn_X12_123 dX12_gets_54 c27 rfl ?_
  refine lv_dup (pc := 57) hx hb dX12_gets_57 (rv_cat _) ?_
  obtain ⟨c28, hrun⟩ := gd_some hrun
  refine V_getNL (pc := 58) C hH fn_X12_127 dX12_gets_58 c28 rfl ?_
  refine lv_lload_n (pc := 61) hx hb dX12_gets_61 rfl (lv_at hl 0 rfl) ?_
  refine lv_ladd (pc := 62) hx hb dX12_gets_62 ?_
  refine V_putNL (pc := 63) C hH hL fn_X12_127 dX12_gets_63 c28 (fok_l _) rfl hrun (fun h29 H locs hH hL hrun => ?_)
  refine lv_lload_n (pc := 66) hx hb dX12_gets_66 rfl (lv_at hl 2 rfl) ?_
  refine lv_lload_n (pc := 67) hx hb dX12_gets_67 rfl (lv_at hl 0 rfl) ?_
  refine lv_lsub (pc := 68) hx hb dX12_gets_68 ?_
  refine V_aload_n (pc := 69) hx hb dX12_gets_69 rfl (lv_at hl 1 rfl) ?_
  obtain ⟨c30, hrun⟩ := gd_some hrun
  refine V_getI (pc := 70) C hH fr_X12_45 dX12_gets_70 c30 rfl ?_
  refine lv_i2l (pc := 73) hx hb dX12_gets_73 rfl ?_
  refine lv_ldc2 (pc := 74) hx hb hown (hts _ q423) dX12_gets_74 ?_
  refine V_bd (pc := 77) C hL rfl hrun (fun rr1 e1 => Z_runSN (rest := []) C hH (m_X1_part hl9 e1) wSN_X12_91 rfl ⟨by decide, by decide⟩ rfl (Nat.le_of_ble_eq_true rfl) hl.1 dX12_gets_77) (fun v31 h32 H locs cells slots hH hL hrun => ?_)
  refine lv_lstore (i := 5) (lv' := [(5, .long v31), (3, .long v24), (0, rv x0), (1, .long x1)]) (pc := 80) hx hb dX12_gets_80 hl (by decide) rfl (fun ls hl => ?_)
  refine V_aload_n (pc := 82) hx hb dX12_gets_82 rfl (lv_at hl 2 rfl) ?_
  refine lv_lload (pc := 83) hx hb dX12_gets_83 (lv_at hl 0 rfl) ?_
  obtain ⟨c35, hrun⟩ := gd_some hrun
  refine V_bd (pc := 85) C hL rfl hrun (fun rr1 e1 => Z_runV (rest := []) C hH (m_X12_payLawyers hl9 e1) wV_X12_132 c35 rfl (by decide) rfl rfl ⟨by decide, by decide⟩ rfl (Nat.le_of_ble_eq_true rfl) hl.1 dX12_gets_85) (fun _ h34 H locs cells slots hH hL hrun => ?_)
  refine V_aload_n (pc := 88) hx hb dX12_gets_88 rfl (lv_at hl 2 rfl) ?_
  refine lv_lload_n (pc := 89) hx hb dX12_gets_89 rfl (lv_at hl 3 rfl) ?_
  refine lv_lload_n (pc := 90) hx hb dX12_gets_90 rfl (lv_at hl 1 rfl) ?_
  refine lv_lsub (pc := 91) hx hb dX12_gets_91 ?_
  refine lv_lload (pc := 92) hx hb dX12_gets_92 (lv_at hl 0 rfl) ?_
  refine lv_lsub (pc := 94) hx hb dX12_gets_94 ?_
  obtain ⟨c38, hrun⟩ := gd_some hrun
  refine V_bd (pc := 95) C hL rfl hrun (fun rr1 e1 => Z_runV (rest := []) C hH (m_X12_payLiens hl9 e1) wV_X12_136 c38 rfl (by decide) rfl rfl ⟨by decide, by decide⟩ rfl (Nat.le_of_ble_eq_true rfl) hl.1 dX12_gets_95) (fun v36 h37 H locs cells slots hH hL hrun => ?_)
  refine lv_lstore (i := 7) (lv' := [(7, .long v36), (5, .long v31), (3, .long v24), (0, rv x0), (1, .long x1)]) (pc := 98) hx hb dX12_gets_98 hl (by decide) rfl (fun ls hl => ?_)
  refine V_aload_n (pc := 100) hx hb dX12_gets_100 rfl (lv_at hl 3 rfl) ?_
  obtain ⟨c39, hrun⟩ := gd_some hrun
  refine V_getR (pc := 101) C hH fr_X12_32 dX12_gets_101 c39 rfl ?_
  obtain ⟨c42, hrun⟩ := gd_some hrun
  refine V_bd (pc := 104) C hL rfl hrun (fun rr1 e1 => Z_runV (rest := []) C hH (m_X5_openLiens hl9 e1) wV_X12_140 c42 rfl (by decide) rfl rfl ⟨by decide, by decide⟩ rfl (Nat.le_of_ble_eq_true rfl) hl.1 dX12_gets_104) (fun v40 h41 H locs cells slots hH hL hrun => ?_)
  refine lv_lconst (v := (0 : Int64)) (pc := 107) hx hb dX12_gets_107 (by decide) ?_
  refine V_lcmp_le (tgt := 121) (pc := 108) hx hb dX12_gets_108 dX12_gets_109 (by decide) (fun c_ => ?_) (fun c_ => ?_)
  · have hrun := ite_t hrun c_
    refine lv_lconst (v := (0 : Int64)) (pc := 121) hx hb dX12_gets_121 (by decide) ?_
    exact b_X12_gets_122 C x0 v36 (0 : Int64) h41 H locs cells slots ls hH hL (lv_sub hl [3, 0] rfl) hrun
  · have hrun := ite_f hrun c_
    refine lv_lload (pc := 112) hx hb dX12_gets_112 (lv_at hl 0 rfl) ?_
    refine lv_ldc2 (pc := 114) hx hb hown (hts _ q1710) dX12_gets_114 ?_
    refine lv_ldiv (pc := 117) hx hb dX12_gets_117 (by decide) ?_
    refine lv_goto (tgt := 122) (pc := 118) hx hb dX12_gets_118 (by decide) ?_
    exact b_X12_gets_122 C x0 v36 (v36 / (5 : Int64)) h41 H locs cells slots ls hH hL (lv_sub hl [3, 0] rfl) hrun

theorem m_X12_gets {l : Launch} {D : va_G} {Hs : Heap} {h : Hp} {rr : (Unit ⊕ Ex) × Hp} (hl9 : l.stackTraces = false) {x0 : Nat} {x1 : Int64} (hrun : f_X12_gets x0 x1 h = some rr) : CM l yX12_gets (ws_ yX12_gets cX12_gets 11 none) 10 377 iV [rv x0, .long x1] D Hs h rr := by
  refine CM.of (lv := [(0, rv x0), (1, .long x1)]) (plainFor_of_name (by decide)) hl9 (by simp [lv_args, rv_cat, cat_i, cat_l, cat_f, cat_d]) (by simp [lg_sl, rv_cat, cat_i, cat_l, cat_f, cat_d]) ?_
  intro p e R s m args below meth c H ls C hH hl hin
  exact b_X12_gets C x0 x1 _ H [] _ _ ls hH (fun _ q => nomatch q) (lv_sub hl [0, 1] rfl) hrun
end WK14

section WK17
variable {p : Program} {l : Launch} {e : Env} {R : Room} {s : State} {m : MethodId} {args : Array Value} {below : List Frame} {meth : Method} {c : Code} {D : va_G} {Hs : Heap} {F X : Nat}
/-! MassclaimModel.lawyerAt(I)J -/
def f_X4_lawyerAt_27  (y0 : Int64) (h : Hp) : Rt Int64 :=
  some (.inl y0, h)
def f_X4_lawyerAt  (x0 : Nat) (x1 : Int32) (h : Hp) : Rt Int64 :=
  bd (f_X4_isWithin (x1.toInt64) (0 : Int64) (5 : Int64) h) fun v1 h2 => gd (kC h2 x0 = 4) <| bd (f_X4_isGood x0 v1 (1 : Int32) h2) fun v3 h4 => if v3 = 0 then
  (f_X4_lawyerAt_27 (0 : Int64) h4)
  else
  (gd (kC h4 x0 = 4) <| gd (kC h4 (kR h4 325 x0) = 102 ∧ ixo x1 (kN h4 (kR h4 325 x0))) <| f_X4_lawyerAt_27 (jL h4 (kR h4 325 x0) (x1).toNatClampNeg) h4)
theorem b_X4_lawyerAt_27 {rr : (Int64 ⊕ Ex) × Hp}  (C : CX p l R s m args meth c D Hs cX4_lawyerAt "MassclaimModel" 2 (some .long) [] 2 25)  : ∀ (y0 : Int64) (h : Hp) (H : Heap) (locs : List Loc) (cells slots : Nat) (ls : Array Slot), HP D Hs h H → LO Hs locs → lv_has ls 2 [] → f_X4_lawyerAt_27 y0 h = some rr → W p l e R s m args below meth c H locs cells slots (ZM D Hs iL rr below args s) (F0 m 27 ls [.long y0]) := by
  obtain ⟨⟨hx, hb, hml, hown, hts⟩, -⟩ := id C
  have hl9 := C.2.1.2.2.1
  intro y0 h H locs cells slots ls hH hL hl hrun
  unfold f_X4_lawyerAt_27 at hrun
  exact V_lret (pc := 27) C hH hL hrun dX4_lawyerAt_27

theorem b_X4_lawyerAt {rr : (Int64 ⊕ Ex) × Hp}  (C : CX p l R s m args meth c D Hs cX4_lawyerAt "MassclaimModel" 2 (some .long) [] 2 25)  : ∀ (x0 : Nat) (x1 : Int32) (h : Hp) (H : Heap) (locs : List Loc) (cells slots : Nat) (ls : Array Slot), HP D Hs h H → LO Hs locs → lv_has ls 2 [(0, rv x0), (1, .int x1)] → f_X4_lawyerAt x0 x1 h = some rr → W p l e R s m args below meth c H locs cells slots (ZM D Hs iL rr below args s) (F0 m 0 ls []) := by
  obtain ⟨⟨hx, hb, hml, hown, hts⟩, -⟩ := id C
  have hl9 := C.2.1.2.2.1
  intro x0 x1 h H locs cells slots ls hH hL hl hrun
  unfold f_X4_lawyerAt at hrun
  refine V_aload_n (pc := 0) hx hb dX4_lawyerAt_0 rfl (lv_at hl 0 rfl) ?_
  refine lv_iload_n (pc := 1) hx hb dX4_lawyerAt_1 rfl (lv_at hl 1 rfl) ?_
  refine lv_i2l (pc := 2) hx hb dX4_lawyerAt_2 rfl ?_
  refine lv_lconst (v := (0 : Int64)) (pc := 3) hx hb dX4_lawyerAt_3 (by decide) ?_
  refine lv_ldc2 (pc := 4) hx hb hown (hts _ q2071) dX4_lawyerAt_4 ?_
  refine V_bd (pc := 7) C hL rfl hrun (fun rr1 e1 => Z_runS (rest := [rv x0]) C hH (m_X4_isWithin hl9 e1) wS_X4_100 rfl ⟨by decide, by decide⟩ rfl (by simp [csum, rv_cat, cat_i, cat_l, cat_f, cat_d]) hl.1 dX4_lawyerAt_7) (fun v1 h2 H locs cells slots hH hL hrun => ?_)
  refine lv_iconst (v := (1 : Int32)) (pc := 10) hx hb dX4_lawyerAt_10 (by decide) ?_
  obtain ⟨c5, hrun⟩ := gd_some hrun
  refine V_bd (pc := 11) C hL rfl hrun (fun rr1 e1 => Z_runV (rest := []) C hH (m_X4_isGood hl9 e1) wV_X4_104 c5 rfl (by decide) rfl rfl ⟨by decide, by decide⟩ rfl (Nat.le_of_ble_eq_true rfl) hl.1 dX4_lawyerAt_11) (fun v3 h4 H locs cells slots hH hL hrun => ?_)
  refine lv_if_eq (tgt := 26) (pc := 14) hx hb dX4_lawyerAt_14 (by decide) (fun c_ => ?_) (fun c_ => ?_)
  · have hrun := ite_t hrun c_
    refine lv_lconst (v := (0 : Int64)) (pc := 26) hx hb dX4_lawyerAt_26 (by decide) ?_
    exact b_X4_lawyerAt_27 C (0 : Int64) h4 H locs cells slots ls hH hL (lv_sub hl [] rfl) hrun
  · have hrun := ite_f hrun c_
    refine V_aload_n (pc := 17) hx hb dX4_lawyerAt_17 rfl (lv_at hl 0 rfl) ?_
    obtain ⟨c6, hrun⟩ := gd_some hrun
    refine V_getR (pc := 18) C hH fr_X4_36 dX4_lawyerAt_18 c6 rfl ?_
    refine lv_iload_n (pc := 21) hx hb dX4_lawyerAt_21 rfl (lv_at hl 1 rfl) ?_
    obtain ⟨c7, hrun⟩ := gd_some hrun
    refine V_lald (pc := 22) C hH dX4_lawyerAt_22 c7 ?_
    refine lv_goto (tgt := 27) (pc := 23) hx hb dX4_lawyerAt_23 (by decide) ?_
    exact b_X4_lawyerAt_27 C (jL h4 (kR h4 325 x0) (x1).toNatClampNeg) h4 H locs cells slots ls hH hL (lv_sub hl [] rfl) hrun

theorem m_X4_lawyerAt {l : Launch} {D : va_G} {Hs : Heap} {h : Hp} {rr : (Int64 ⊕ Ex) × Hp} (hl9 : l.stackTraces = false) {x0 : Nat} {x1 : Int32} (hrun : f_X4_lawyerAt x0 x1 h = some rr) : CM l yX4_lawyerAt (ws_ yX4_lawyerAt cX4_lawyerAt 2 (some .long)) 2 25 iL [rv x0, .int x1] D Hs h rr := by
  refine CM.of (lv := [(0, rv x0), (1, .int x1)]) (plainFor_of_name (by decide)) hl9 (by simp [lv_args, rv_cat, cat_i, cat_l, cat_f, cat_d]) (by simp [lg_sl, rv_cat, cat_i, cat_l, cat_f, cat_d]) ?_
  intro p e R s m args below meth c H ls C hH hl hin
  exact b_X4_lawyerAt C x0 x1 _ H [] _ _ ls hH (fun _ q => nomatch q) (lv_sub hl [0, 1] rfl) hrun

/-! Massclaim.openLiens()I -/
def f_X1_openLiens_42 (k10 : Int32 → Nat → Hp → Rt Int32) (x2 : Nat) (y0 : Int32) (y1 : Int32) (h : Hp) : Rt Int32 :=
  vl (y0 + y1) fun v1 => k10 v1 x2 h
def f_X1_openLiens_10  : Nat → Int32 → Nat → Hp → Rt Int32
  | 0, _, _, _ => none
  | n + 1, x1, x2, h => gd (kC h x2 = 19) <| bd (f_J16_hasNext x2 h) fun v2 h3 => if v2 = 0 then
  (some (.inl x1, h3))
  else
  (gd (kC h3 x2 = 19) <| bd (f_J16_next x2 h3) fun v5 h6 => gd (v5 = 0 ∨ kC h6 v5 = 16) <| gd (kC h6 v5 = 16) <| if (kI h6 1503 v5) ≤ 0 then
  (f_X1_openLiens_42 (f_X1_openLiens_10 n) x2 x1 (0 : Int32) h6)
  else
  (f_X1_openLiens_42 (f_X1_openLiens_10 n) x2 x1 (1 : Int32) h6))
def f_X1_openLiens  (x0 : Nat) (h : Hp) : Rt Int32 :=
  gd (kC h x0 = 1) <| gd (kC h (kR h 4 x0) = 2) <| bd (f_X2_iterator (kR h 4 x0) h) fun v11 h12 => f_X1_openLiens_10 FU (0 : Int32) v11 h12
theorem b_X1_openLiens_42 {rr : (Int32 ⊕ Ex) × Hp} {k10 : Int32 → Nat → Hp → Rt Int32} (C : CX p l R s m args meth c D Hs cX1_openLiens "Massclaim" 4 (some .int) [] 4 81) (K10 : ∀ (x1 : Int32) (x2 : Nat) (h : Hp) (H : Heap) (locs : List Loc) (cells slots : Nat) (ls : Array Slot), HP D Hs h H → LO Hs locs → lv_has ls 4 [(1, .int x1), (2, rv x2)] → k10 x1 x2 h = some rr → W p l e R s m args below meth c H locs cells slots (ZM D Hs iI rr below args s) (F0 m 10 ls [])) : ∀ (x2 : Nat) (y0 : Int32) (y1 : Int32) (h : Hp) (H : Heap) (locs : List Loc) (cells slots : Nat) (ls : Array Slot), HP D Hs h H → LO Hs locs → lv_has ls 4 [(2, rv x2)] → f_X1_openLiens_42 k10 x2 y0 y1 h = some rr → W p l e R s m args below meth c H locs cells slots (ZM D Hs iI rr below args s) (F0 m 42 ls [.int y1, .int y0]) := by
  obtain ⟨⟨hx, hb, hml, hown, hts⟩, -⟩ := id C
  have hl9 := C.2.1.2.2.1
  intro x2 y0 y1 h H locs cells slots ls hH hL hl hrun
  unfold f_X1_openLiens_42 at hrun
  refine lv_iadd (pc := 42) hx hb dX1_openLiens_42 ?_
  refine lv_topi (fun v1 ev1 => ?_)
  have hrun := vl_at hrun v1 ev1
  refine lv_istore_n (i := 1) (lv' := [(1, .int v1), (2, rv x2)]) (pc := 43) hx hb dX1_openLiens_43 rfl hl (by decide) rfl (fun ls hl => ?_)
  refine lv_goto (tgt := 10) (pc := 44) hx hb dX1_openLiens_44 (by decide) ?_
  exact K10 v1 x2 h H locs cells slots ls hH hL (lv_sub hl [0, 1] rfl) hrun

theorem b_X1_openLiens_10 {rr : (Int32 ⊕ Ex) × Hp}  (C : CX p l R s m args meth c D Hs cX1_openLiens "Massclaim" 4 (some .int) [] 4 81)  : ∀ (n : Nat) (x1 : Int32) (x2 : Nat) (h : Hp) (H : Heap) (locs : List Loc) (cells slots : Nat) (ls : Array Slot), HP D Hs h H → LO Hs locs → lv_has ls 4 [(1, .int x1), (2, rv x2)] → f_X1_openLiens_10 n x1 x2 h = some rr → W p l e R s m args below meth c H locs cells slots (ZM D Hs iI rr below args s) (F0 m 10 ls []) := by
  obtain ⟨⟨hx, hb, hml, hown, hts⟩, -⟩ := id C
  have hl9 := C.2.1.2.2.1
  intro n
  induction n with
  | zero =>
    intro x1 x2 h H locs cells slots ls hH hL hl hrun
    cases (show (none : Option _) = some rr from hrun)
  | succ n ih =>
    intro x1 x2 h H locs cells slots ls hH hL hl hrun
    rw [f_X1_openLiens_10] at hrun
    refine V_aload_n (pc := 10) hx hb dX1_openLiens_10 rfl (lv_at hl 1 rfl) ?_
    obtain ⟨c4, hrun⟩ := gd_some hrun
    refine V_bd5 (pc := 11) C hL rfl hrun (fun rr1 e1 => Z_runF (rest := []) C hH (m_J16_hasNext hl9 e1) rfl wF_X1_212_J16 c4 (by decide) rfl ⟨by decide, by decide⟩ rfl (Nat.le_of_ble_eq_true rfl) hl.1 dX1_openLiens_11) (fun v2 h3 H locs cells slots hH hL hrun => ?_)
    refine lv_if_eq (tgt := 47) (pc := 16) hx hb dX1_openLiens_16 (by decide) (fun c_ => ?_) (fun c_ => ?_)
    · have hrun := ite_t hrun c_
      refine lv_iload_n (pc := 47) hx hb dX1_openLiens_47 rfl (lv_at hl 0 rfl) ?_
      exact V_iret (pc := 48) C hH hL hrun dX1_openLiens_48
    · have hrun := ite_f hrun c_
      refine V_aload_n (pc := 19) hx hb dX1_openLiens_19 rfl (lv_at hl 1 rfl) ?_
      obtain ⟨c7, hrun⟩ := gd_some hrun
      refine V_bd5 (pc := 20) C hL rfl hrun (fun rr1 e1 => Z_runF (rest := []) C hH (m_J16_next hl9 e1) rfl wF_X1_217_J16 c7 (by decide) rfl ⟨by decide, by decide⟩ rfl (Nat.le_of_ble_eq_true rfl) hl.1 dX1_openLiens_20) (fun v5 h6 H locs cells slots hH hL hrun => ?_)
      obtain ⟨c8, hrun⟩ := gd_some hrun
      refine V_castX (pc := 25) (ci := 15) C hH rfl (by decide) q1747 dX1_openLiens_25 c8 ?_
      refine V_astore_n (i := 3) (lv' := [(3, rv v5), (1, .int x1), (2, rv x2)]) (pc := 28) hx hb dX1_openLiens_28 rfl hl (by decide) (by simp [rv_cat, cat_i, cat_l, cat_f, cat_d]) (fun ls hl => ?_)
      refine lv_iload_n (pc := 29) hx hb dX1_openLiens_29 rfl (lv_at hl 1 rfl) ?_
      refine V_aload_n (pc := 30) hx hb dX1_openLiens_30 rfl (lv_at hl 0 rfl) ?_
      obtain ⟨c9, hrun⟩ := gd_some hrun
      refine V_getNI (pc := 31) C hH fn_X1_481 dX1_openLiens_31 c9 rfl ?_
      refine lv_if_le (tgt := 41) (pc := 34) hx hb dX1_openLiens_34 (by decide) (fun c_ => ?_) (fun c_ => ?_)
      · have hrun := ite_t hrun c_
        refine lv_iconst (v := (0 : Int32)) (pc := 41) hx hb dX1_openLiens_41 (by decide) ?_
        exact b_X1_openLiens_42 C ih x2 x1 (0 : Int32) h6 H locs cells slots ls hH hL (lv_sub hl [2] rfl) hrun
      · have hrun := ite_f hrun c_
        refine lv_iconst (v := (1 : Int32)) (pc := 37) hx hb dX1_openLiens_37 (by decide) ?_
        refine lv_goto (tgt := 42) (pc := 38) hx hb dX1_openLiens_38 (by decide) ?_
        exact b_X1_openLiens_42 C ih x2 x1 (1 : Int32) h6 H locs cells slots ls hH hL (lv_sub hl [2] rfl) hrun

theorem b_X1_openLiens {rr : (Int32 ⊕ Ex) × Hp}  (C : CX p l R s m args meth c D Hs cX1_openLiens "Massclaim" 4 (some .int) [] 4 81)  : ∀ (x0 : Nat) (h : Hp) (H : Heap) (locs : List Loc) (cells slots : Nat) (ls : Array Slot), HP D Hs h H → LO Hs locs → lv_has ls 4 [(0, rv x0)] → f_X1_openLiens x0 h = some rr → W p l e R s m args below meth c H locs cells slots (ZM D Hs iI rr below args s) (F0 m 0 ls []) := by
  obtain ⟨⟨hx, hb, hml, hown, hts⟩, -⟩ := id C
  have hl9 := C.2.1.2.2.1
  intro x0 h H locs cells slots ls hH hL hl hrun
  unfold f_X1_openLiens at hrun
  refine lv_iconst (v := (0 : Int32)) (pc := 0) hx hb dX1_openLiens_0 (by decide) ?_
  refine lv_istore_n (i := 1) (lv' := [(1, .int (0 : Int32)), (0, rv x0)]) (pc := 1) hx hb dX1_openLiens_1 rfl hl (by decide) (by simp [rv_cat, cat_i, cat_l, cat_f, cat_d]) (fun ls hl => ?_)
  refine V_aload_n (pc := 2) hx hb dX1_openLiens_2 rfl (lv_at hl 1 rfl) ?_
  obtain ⟨c10, hrun⟩ := gd_some hrun
  refine V_getR (pc := 3) C hH fr_X1_55 dX1_openLiens_3 c10 rfl ?_
  obtain ⟨c13, hrun⟩ := gd_some hrun
  refine V_bd (pc := 6) C hL rfl hrun (fun rr1 e1 => Z_runV (rest := []) C hH (m_X2_iterator hl9 e1) wV_X1_208 c13 rfl (by decide) rfl rfl ⟨by decide, by decide⟩ rfl (Nat.le_of_ble_eq_true rfl) hl.1 dX1_openLiens_6) (fun v11 h12 H locs cells slots hH hL hrun => ?_)
  refine V_astore_n (i := 2) (lv' := [(2, rv v11), (1, .int (0 : Int32)), (0, rv x0)]) (pc := 9) hx hb dX1_openLiens_9 rfl hl (by decide) rfl (fun ls hl => ?_)
  exact b_X1_openLiens_10 C FU (0 : Int32) v11 h12 H locs cells slots ls hH hL (lv_sub hl [1, 0] rfl) hrun

theorem m_X1_openLiens {l : Launch} {D : va_G} {Hs : Heap} {h : Hp} {rr : (Int32 ⊕ Ex) × Hp} (hl9 : l.stackTraces = false) {x0 : Nat} (hrun : f_X1_openLiens x0 h = some rr) : CM l yX1_openLiens (ws_ yX1_openLiens cX1_openLiens 4 (some .int)) 4 81 iI [rv x0] D Hs h rr := by
  refine CM.of (lv := [(0, rv x0)]) (plainFor_of_name (by decide)) hl9 (by simp [lv_args, rv_cat, cat_i, cat_l, cat_f, cat_d]) (by simp [lg_sl, rv_cat, cat_i, cat_l, cat_f, cat_d]) ?_
  intro p e R s m args below meth c H ls C hH hl hin
  exact b_X1_openLiens C x0 _ H [] _ _ ls hH (fun _ q => nomatch q) (lv_sub hl [0] rfl) hrun

/-! Massclaim.count(I)I -/
def f_X1_count_231  (y0 : Int32) (h : Hp) : Rt Int32 :=
  some (.inl y0, h)
def f_X1_count_109 (k73 : Nat → Int32 → Int32 → Int32 → Nat → Hp → Rt Int32) (x0 : Nat) (x1 : Int32) (x2 : Int32) (x4 : Nat) (y0 : Int32) (y1 : Int32) (h : Hp) : Rt Int32 :=
  vl (y0 + y1) fun v1 => k73 x0 x1 x2 v1 x4 h
def f_X1_count_73  : Nat → Nat → Int32 → Int32 → Int32 → Nat → Hp → Rt Int32
  | 0, _, _, _, _, _, _ => none
  | n + 1, x0, x1, x2, x3, x4, h => gd (kC h x4 = 19) <| bd (f_J16_hasNext x4 h) fun v2 h3 => if v2 = 0 then
  (if x1 = (0 : Int32) then
  (gd (kC h3 x0 = 1) <| f_X1_count_231 (kI h3 18 x0) h3)
  else
  if x1 = (1 : Int32) then
  (gd (kC h3 x0 = 1) <| gd (kC h3 (kR h3 0 x0) = 2) <| bd (f_X2_size (kR h3 0 x0) h3) fun v7 h8 => f_X1_count_231 v7 h8)
  else
  if x1 = (2 : Int32) then
  (gd (kC h3 x0 = 1) <| bd (f_X1_members x0 h3) fun v10 h11 => f_X1_count_231 v10 h11)
  else
  if x1 = (3 : Int32) then
  (gd (kC h3 x0 = 1) <| bd (f_X1_reach x0 h3) fun v13 h14 => f_X1_count_231 v13 h14)
  else
  if x1 = (4 : Int32) then
  (gd (kC h3 x0 = 1) <| bd (f_X1_stage x0 h3) fun v16 h17 => f_X1_count_231 v16 h17)
  else
  if x1 = (5 : Int32) then
  (gd (kC h3 x0 = 1) <| gd (kC h3 (kR h3 3 x0) = 2) <| bd (f_X2_size (kR h3 3 x0) h3) fun v20 h21 => f_X1_count_231 v20 h21)
  else
  if x1 = (6 : Int32) then
  (gd (kC h3 x0 = 1) <| f_X1_count_231 (kI h3 16 x0) h3)
  else
  if x1 = (7 : Int32) then
  (gd (kC h3 x0 = 1) <| bd (f_X1_openLiens x0 h3) fun v24 h25 => f_X1_count_231 v24 h25)
  else
  if x1 = (8 : Int32) then
  (f_X1_count_231 x2 h3)
  else
  (f_X1_count_231 x3 h3))
  else
  (gd (kC h3 x4 = 19) <| bd (f_J16_next x4 h3) fun v27 h28 => gd (v27 = 0 ∨ kC h28 v27 = 5) <| gd (kC h28 v27 = 5) <| if (kI h28 408 v27) = 0 then
  (f_X1_count_109 (f_X1_count_73 n) x0 x1 x2 x4 x3 (0 : Int32) h28)
  else
  (f_X1_count_109 (f_X1_count_73 n) x0 x1 x2 x4 x3 (1 : Int32) h28))
def f_X1_count_57 (k22 : Nat → Int32 → Int32 → Nat → Hp → Rt Int32) (x0 : Nat) (x1 : Int32) (x3 : Nat) (y0 : Int32) (y1 : Int32) (h : Hp) : Rt Int32 :=
  vl (y0 + y1) fun v32 => k22 x0 x1 v32 x3 h
def f_X1_count_22  : Nat → Nat → Int32 → Int32 → Nat → Hp → Rt Int32
  | 0, _, _, _, _, _ => none
  | n + 1, x0, x1, x2, x3, h => gd (kC h x3 = 19) <| bd (f_J16_hasNext x3 h) fun v33 h34 => if v33 = 0 then
  (gd (kC h34 x0 = 1) <| gd (kC h34 (kR h34 0 x0) = 2) <| bd (f_X2_iterator (kR h34 0 x0) h34) fun v37 h38 => f_X1_count_73 FU x0 x1 x2 (0 : Int32) v37 h38)
  else
  (gd (kC h34 x3 = 19) <| bd (f_J16_next x3 h34) fun v40 h41 => gd (v40 = 0 ∨ kC h41 v40 = 12) <| gd (kC h41 v40 = 12) <| if (kI h41 1104 v40) = (2 : Int32) then
  (f_X1_count_57 (f_X1_count_22 n) x0 x1 x3 x2 (1 : Int32) h41)
  else
  (f_X1_count_57 (f_X1_count_22 n) x0 x1 x3 x2 (0 : Int32) h41))
def f_X1_count  (x0 : Nat) (x1 : Int32) (h : Hp) : Rt Int32 :=
  bd (f_X1_isIn (x1.toInt64) (0 : Int64) (9 : Int64) h) fun v45 h46 => bd (f_X1_requireArgument v45 h46) fun _ h48 => gd (kC h48 x0 = 1) <| gd (kC h48 (kR h48 3 x0) = 2) <| bd (f_X2_iterator (kR h48 3 x0) h48) fun v50 h51 => f_X1_count_22 FU x0 x1 (0 : Int32) v50 h51
theorem b_X1_count_231 {rr : (Int32 ⊕ Ex) × Hp}  (C : CX p l R s m args meth c D Hs cX1_count "Massclaim" 6 (some .int) [] 7 127)  : ∀ (y0 : Int32) (h : Hp) (H : Heap) (locs : List Loc) (cells slots : Nat) (ls : Array Slot), HP D Hs h H → LO Hs locs → lv_has ls 6 [] → f_X1_count_231 y0 h = some rr → W p l e R s m args below meth c H locs cells slots (ZM D Hs iI rr below args s) (F0 m 231 ls [.int y0]) := by
  obtain ⟨⟨hx, hb, hml, hown, hts⟩, -⟩ := id C
  have hl9 := C.2.1.2.2.1
  intro y0 h H locs cells slots ls hH hL hl hrun
  unfold f_X1_count_231 at hrun
  exact V_iret (pc := 231) C hH hL hrun dX1_count_231

theorem b_X1_count_109 {rr : (Int32 ⊕ Ex) × Hp} {k73 : Nat → Int32 → Int32 → Int32 → Nat → Hp → Rt Int32} (C : CX p l R s m args meth c D Hs cX1_count "Massclaim" 6 (some .int) [] 7 127) (K73 : ∀ (x0 : Nat) (x1 : Int32) (x2 : Int32) (x3 : Int32) (x4 : Nat) (h : Hp) (H : Heap) (locs : List Loc) (cells slots : Nat) (ls : Array Slot), HP D Hs h H → LO Hs locs → lv_has ls 6 [(0, rv x0), (1, .int x1), (2, .int x2), (3, .int x3), (4, rv x4)] → k73 x0 x1 x2 x3 x4 h = some rr → W p l e R s m args below meth c H locs cells slots (ZM D Hs iI rr below args s) (F0 m 73 ls [])) : ∀ (x0 : Nat) (x1 : Int32) (x2 : Int32) (x4 : Nat) (y0 : Int32) (y1 : Int32) (h : Hp) (H : Heap) (locs : List Loc) (cells slots : Nat) (ls : Array Slot), HP D Hs h H → LO Hs locs → lv_has ls 6 [(0, rv x0), (1, .int x1), (2, .int x2), (4, rv x4)] → f_X1_count_109 k73 x0 x1 x2 x4 y0 y1 h = some rr → W p l e R s m args below meth c H locs cells slots (ZM D Hs iI rr below args s) (F0 m 109 ls [.int y1, .int y0]) := by
  obtain ⟨⟨hx, hb, hml, hown, hts⟩, -⟩ := id C
  have hl9 := C.2.1.2.2.1
  intro x0 x1 x2 x4 y0 y1 h H locs cells slots ls hH hL hl hrun
  unfold f_X1_count_109 at hrun
  refine lv_iadd (pc := 109) hx hb dX1_count_109 ?_
  refine lv_topi (fun v1 ev1 => ?_)
  have hrun := vl_at hrun v1 ev1
  refine lv_istore_n (i := 3) (lv' := [(3, .int v1), (0, rv x0), (1, .int x1), (2, .int x2), (4, rv x4)]) (pc := 110) hx hb dX1_count_110 rfl hl (by decide) rfl (fun ls hl => ?_)
  refine lv_goto (tgt := 73) (pc := 111) hx hb dX1_count_111 (by decide) ?_
  exact K73 x0 x1 x2 v1 x4 h H locs cells slots ls hH hL (lv_sub hl [1, 2, 3, 0, 4] rfl) hrun

theorem b_X1_count_73 {rr : (Int32 ⊕ Ex) × Hp}  (C : CX p l R s m args meth c D Hs cX1_count "Massclaim" 6 (some .int) [] 7 127)  : ∀ (n : Nat) (x0 : Nat) (x1 : Int32) (x2 : Int32) (x3 : Int32) (x4 : Nat) (h : Hp) (H : Heap) (locs : List Loc) (cells slots : Nat) (ls : Array Slot), HP D Hs h H → LO Hs locs → lv_has ls 6 [(0, rv x0), (1, .int x1), (2, .int x2), (3, .int x3), (4, rv x4)] → f_X1_count_73 n x0 x1 x2 x3 x4 h = some rr → W p l e R s m args below meth c H locs cells slots (ZM D Hs iI rr below args s) (F0 m 73 ls []) := by
  obtain ⟨⟨hx, hb, hml, hown, hts⟩, -⟩ := id C
  have hl9 := C.2.1.2.2.1
  intro n
  induction n with
  | zero =>
    intro x0 x1 x2 x3 x4 h H locs cells slots ls hH hL hl hrun
    cases (show (none : Option _) = some rr from hrun)
  | succ n ih =>
    intro x0 x1 x2 x3 x4 h H locs cells slots ls hH hL hl hrun
    rw [f_X1_count_73] at hrun
    refine V_aload (pc := 73) hx hb dX1_count_73 (lv_at hl 4 rfl) ?_
    obtain ⟨c4, hrun⟩ := gd_some hrun
    refine V_bd5 (pc := 75) C hL rfl hrun (fun rr1 e1 => Z_runF (rest := []) C hH (m_J16_hasNext hl9 e1) rfl wF_X1_212_J16 c4 (by decide) rfl ⟨by decide, by decide⟩ rfl (Nat.le_of_ble_eq_true rfl) hl.1 dX1_count_75) (fun v2 h3 H locs cells slots hH hL hrun => ?_)
    refine lv_if_eq (tgt := 114) (pc := 80) hx hb dX1_count_80 (by decide) (fun c_ => ?_) (fun c_ => ?_)
    · have hrun := ite_t hrun c_
      refine lv_iload_n (pc := 114) hx hb dX1_count_114 rfl (lv_at hl 1 rfl) ?_
      by_cases n0 : x1 = (0 : Int32)
      · have hrun := ite_t hrun n0
        refine lv_tableIn (pc := 115) (off := 49) (tgt := 164) hx hb dX1_count_115 (by rw [n0]; decide) (by rw [n0]; decide) (by rw [n0]; decide) (by decide) ?_
        refine V_aload_n (pc := 164) hx hb dX1_count_164 rfl (lv_at hl 0 rfl) ?_
        obtain ⟨c5, hrun⟩ := gd_some hrun
        refine V_getI (pc := 165) C hH fr_X1_115 dX1_count_165 c5 rfl ?_
        refine lv_goto (tgt := 231) (pc := 168) hx hb dX1_count_168 (by decide) ?_
        exact b_X1_count_231 C (kI h3 18 x0) h3 H locs cells slots ls hH hL (lv_sub hl [] rfl) hrun
      have hrun := ite_f hrun n0
      by_cases n1 : x1 = (1 : Int32)
      · have hrun := ite_t hrun n1
        refine lv_tableIn (pc := 115) (off := 56) (tgt := 171) hx hb dX1_count_115 (by rw [n1]; decide) (by rw [n1]; decide) (by rw [n1]; decide) (by decide) ?_
        refine V_aload_n (pc := 171) hx hb dX1_count_171 rfl (lv_at hl 0 rfl) ?_
        obtain ⟨c6, hrun⟩ := gd_some hrun
        refine V_getR (pc := 172) C hH fr_X1_42 dX1_count_172 c6 rfl ?_
        obtain ⟨c9, hrun⟩ := gd_some hrun
        refine V_bd (pc := 175) C hL rfl hrun (fun rr1 e1 => Z_runV (rest := []) C hH (m_X2_size hl9 e1) wV_X1_135 c9 rfl (by decide) rfl rfl ⟨by decide, by decide⟩ rfl (Nat.le_of_ble_eq_true rfl) hl.1 dX1_count_175) (fun v7 h8 H locs cells slots hH hL hrun => ?_)
        refine lv_goto (tgt := 231) (pc := 178) hx hb dX1_count_178 (by decide) ?_
        exact b_X1_count_231 C v7 h8 H locs cells slots ls hH hL (lv_sub hl [] rfl) hrun
      have hrun := ite_f hrun n1
      by_cases n2 : x1 = (2 : Int32)
      · have hrun := ite_t hrun n2
        refine lv_tableIn (pc := 115) (off := 66) (tgt := 181) hx hb dX1_count_115 (by rw [n2]; decide) (by rw [n2]; decide) (by rw [n2]; decide) (by decide) ?_
        refine V_aload_n (pc := 181) hx hb dX1_count_181 rfl (lv_at hl 0 rfl) ?_
        obtain ⟨c12, hrun⟩ := gd_some hrun
        refine V_bd (pc := 182) C hL rfl hrun (fun rr1 e1 => Z_runV (rest := []) C hH (m_X1_members hl9 e1) wV_X1_228 c12 rfl (by decide) rfl rfl ⟨by decide, by decide⟩ rfl (Nat.le_of_ble_eq_true rfl) hl.1 dX1_count_182) (fun v10 h11 H locs cells slots hH hL hrun => ?_)
        refine lv_goto (tgt := 231) (pc := 185) hx hb dX1_count_185 (by decide) ?_
        exact b_X1_count_231 C v10 h11 H locs cells slots ls hH hL (lv_sub hl [] rfl) hrun
      have hrun := ite_f hrun n2
      by_cases n3 : x1 = (3 : Int32)
      · have hrun := ite_t hrun n3
        refine lv_tableIn (pc := 115) (off := 73) (tgt := 188) hx hb dX1_count_115 (by rw [n3]; decide) (by rw [n3]; decide) (by rw [n3]; decide) (by decide) ?_
        refine V_aload_n (pc := 188) hx hb dX1_count_188 rfl (lv_at hl 0 rfl) ?_
        obtain ⟨c15, hrun⟩ := gd_some hrun
        refine V_bd (pc := 189) C hL rfl hrun (fun rr1 e1 => Z_runV (rest := []) C hH (m_X1_reach hl9 e1) wV_X1_374 c15 rfl (by decide) rfl rfl ⟨by decide, by decide⟩ rfl (Nat.le_of_ble_eq_true rfl) hl.1 dX1_count_189) (fun v13 h14 H locs cells slots hH hL hrun => ?_)
        refine lv_goto (tgt := 231) (pc := 192) hx hb dX1_count_192 (by decide) ?_
        exact b_X1_count_231 C v13 h14 H locs cells slots ls hH hL (lv_sub hl [] rfl) hrun
      have hrun := ite_f hrun n3
      by_cases n4 : x1 = (4 : Int32)
      · have hrun := ite_t hrun n4
        refine lv_tableIn (pc := 115) (off := 80) (tgt := 195) hx hb dX1_count_115 (by rw [n4]; decide) (by rw [n4]; decide) (by rw [n4]; decide) (by decide) ?_
        refine V_aload_n (pc := 195) hx hb dX1_count_195 rfl (lv_at hl 0 rfl) ?_
        obtain ⟨c18, hrun⟩ := gd_some hrun
        refine V_bd (pc := 196) C hL rfl hrun (fun rr1 e1 => Z_runV (rest := []) C hH (m_X1_stage hl9 e1) wV_X1_123 c18 rfl (by decide) rfl rfl ⟨by decide, by decide⟩ rfl (Nat.le_of_ble_eq_true rfl) hl.1 dX1_count_196) (fun v16 h17 H locs cells slots hH hL hrun => ?_)
        refine lv_goto (tgt := 231) (pc := 199) hx hb dX1_count_199 (by decide) ?_
        exact b_X1_count_231 C v16 h17 H locs cells slots ls hH hL (lv_sub hl [] rfl) hrun
      have hrun := ite_f hrun n4
      by_cases n5 : x1 = (5 : Int32)
      · have hrun := ite_t hrun n5
        refine lv_tableIn (pc := 115) (off := 87) (tgt := 202) hx hb dX1_count_115 (by rw [n5]; decide) (by rw [n5]; decide) (by rw [n5]; decide) (by decide) ?_
        refine V_aload_n (pc := 202) hx hb dX1_count_202 rfl (lv_at hl 0 rfl) ?_
        obtain ⟨c19, hrun⟩ := gd_some hrun
        refine V_getR (pc := 203) C hH fr_X1_52 dX1_count_203 c19 rfl ?_
        obtain ⟨c22, hrun⟩ := gd_some hrun
        refine V_bd (pc := 206) C hL rfl hrun (fun rr1 e1 => Z_runV (rest := []) C hH (m_X2_size hl9 e1) wV_X1_135 c22 rfl (by decide) rfl rfl ⟨by decide, by decide⟩ rfl (Nat.le_of_ble_eq_true rfl) hl.1 dX1_count_206) (fun v20 h21 H locs cells slots hH hL hrun => ?_)
        refine lv_goto (tgt := 231) (pc := 209) hx hb dX1_count_209 (by decide) ?_
        exact b_X1_count_231 C v20 h21 H locs cells slots ls hH hL (lv_sub hl [] rfl) hrun
      have hrun := ite_f hrun n5
      by_cases n6 : x1 = (6 : Int32)
      · have hrun := ite_t hrun n6
        refine lv_tableIn (pc := 115) (off := 97) (tgt := 212) hx hb dX1_count_115 (by rw [n6]; decide) (by rw [n6]; decide) (by rw [n6]; decide) (by decide) ?_
        refine V_aload_n (pc := 212) hx hb dX1_count_212 rfl (lv_at hl 0 rfl) ?_
        obtain ⟨c23, hrun⟩ := gd_some hrun
        refine V_getI (pc := 213) C hH fr_X1_108 dX1_count_213 c23 rfl ?_
        refine lv_goto (tgt := 231) (pc := 216) hx hb dX1_count_216 (by decide) ?_
        exact b_X1_count_231 C (kI h3 16 x0) h3 H locs cells slots ls hH hL (lv_sub hl [] rfl) hrun
      have hrun := ite_f hrun n6
      by_cases n7 : x1 = (7 : Int32)
      · have hrun := ite_t hrun n7
        refine lv_tableIn (pc := 115) (off := 104) (tgt := 219) hx hb dX1_count_115 (by rw [n7]; decide) (by rw [n7]; decide) (by rw [n7]; decide) (by decide) ?_
        refine V_aload_n (pc := 219) hx hb dX1_count_219 rfl (lv_at hl 0 rfl) ?_
        obtain ⟨c26, hrun⟩ := gd_some hrun
        refine V_bd (pc := 220) C hL rfl hrun (fun rr1 e1 => Z_runV (rest := []) C hH (m_X1_openLiens hl9 e1) wV_X1_522 c26 rfl (by decide) rfl rfl ⟨by decide, by decide⟩ rfl (Nat.le_of_ble_eq_true rfl) hl.1 dX1_count_220) (fun v24 h25 H locs cells slots hH hL hrun => ?_)
        refine lv_goto (tgt := 231) (pc := 223) hx hb dX1_count_223 (by decide) ?_
        exact b_X1_count_231 C v24 h25 H locs cells slots ls hH hL (lv_sub hl [] rfl) hrun
      have hrun := ite_f hrun n7
      by_cases n8 : x1 = (8 : Int32)
      · have hrun := ite_t hrun n8
        refine lv_tableIn (pc := 115) (off := 111) (tgt := 226) hx hb dX1_count_115 (by rw [n8]; decide) (by rw [n8]; decide) (by rw [n8]; decide) (by decide) ?_
        refine lv_iload_n (pc := 226) hx hb dX1_count_226 rfl (lv_at hl 2 rfl) ?_
        refine lv_goto (tgt := 231) (pc := 227) hx hb dX1_count_227 (by decide) ?_
        exact b_X1_count_231 C x2 h3 H locs cells slots ls hH hL (lv_sub hl [] rfl) hrun
      have hrun := ite_f hrun n8
      refine lv_tableOut (pc := 115) (tgt := 230) hx hb dX1_count_115 (sw_out [0, 1, 2, 3, 4, 5, 6, 7, 8] (by decide) (by decide) ⟨by decide, by decide⟩ (List.forall_mem_cons.mpr ⟨sw_ne (v := (0 : Int32)) (by decide) n0, (List.forall_mem_cons.mpr ⟨sw_ne (v := (1 : Int32)) (by decide) n1, (List.forall_mem_cons.mpr ⟨sw_ne (v := (2 : Int32)) (by decide) n2, (List.forall_mem_cons.mpr ⟨sw_ne (v := (3 : Int32)) (by decide) n3, (List.forall_mem_cons.mpr ⟨sw_ne (v := (4 : Int32)) (by decide) n4, (List.forall_mem_cons.mpr ⟨sw_ne (v := (5 : Int32)) (by decide) n5, (List.forall_mem_cons.mpr ⟨sw_ne (v := (6 : Int32)) (by decide) n6, (List.forall_mem_cons.mpr ⟨sw_ne (v := (7 : Int32)) (by decide) n7, (List.forall_mem_cons.mpr ⟨sw_ne (v := (8 : Int32)) (by decide) n8, (fun _ z => nomatch z)⟩)⟩)⟩)⟩)⟩)⟩)⟩)⟩)⟩)) (by decide) ?_
      refine lv_iload_n (pc := 230) hx hb dX1_count_230 rfl (lv_at hl 3 rfl) ?_
      exact b_X1_count_231 C x3 h3 H locs cells slots ls hH hL (lv_sub hl [] rfl) hrun
    · have hrun := ite_f hrun c_
      refine V_aload (pc := 83) hx hb dX1_count_83 (lv_at hl 4 rfl) ?_
      obtain ⟨c29, hrun⟩ := gd_some hrun
      refine V_bd5 (pc := 85) C hL rfl hrun (fun rr1 e1 => Z_runF (rest := []) C hH (m_J16_next hl9 e1) rfl wF_X1_217_J16 c29 (by decide) rfl ⟨by decide, by decide⟩ rfl (Nat.le_of_ble_eq_true rfl) hl.1 dX1_count_85) (fun v27 h28 H locs cells slots hH hL hrun => ?_)
      obtain ⟨c30, hrun⟩ := gd_some hrun
      refine V_castX (pc := 90) (ci := 4) C hH rfl (by decide) q376 dX1_count_90 c30 ?_
      refine V_astore (i := 5) (lv' := [(5, rv v27), (0, rv x0), (1, .int x1), (2, .int x2), (3, .int x3), (4, rv x4)]) (pc := 93) hx hb dX1_count_93 hl (by decide) (by simp [rv_cat, cat_i, cat_l, cat_f, cat_d]) (fun ls hl => ?_)
      refine lv_iload_n (pc := 95) hx hb dX1_count_95 rfl (lv_at hl 4 rfl) ?_
      refine V_aload (pc := 96) hx hb dX1_count_96 (lv_at hl 0 rfl) ?_
      obtain ⟨c31, hrun⟩ := gd_some hrun
      refine V_getNI (pc := 98) C hH fn_X1_260 dX1_count_98 c31 rfl ?_
      refine lv_if_eq (tgt := 108) (pc := 101) hx hb dX1_count_101 (by decide) (fun c_ => ?_) (fun c_ => ?_)
      · have hrun := ite_t hrun c_
        refine lv_iconst (v := (0 : Int32)) (pc := 108) hx hb dX1_count_108 (by decide) ?_
        exact b_X1_count_109 C ih x0 x1 x2 x4 x3 (0 : Int32) h28 H locs cells slots ls hH hL (lv_sub hl [1, 2, 3, 5] rfl) hrun
      · have hrun := ite_f hrun c_
        refine lv_iconst (v := (1 : Int32)) (pc := 104) hx hb dX1_count_104 (by decide) ?_
        refine lv_goto (tgt := 109) (pc := 105) hx hb dX1_count_105 (by decide) ?_
        exact b_X1_count_109 C ih x0 x1 x2 x4 x3 (1 : Int32) h28 H locs cells slots ls hH hL (lv_sub hl [1, 2, 3, 5] rfl) hrun

theorem b_X1_count_57 {rr : (Int32 ⊕ Ex) × Hp} {k22 : Nat → Int32 → Int32 → Nat → Hp → Rt Int32} (C : CX p l R s m args meth c D Hs cX1_count "Massclaim" 6 (some .int) [] 7 127) (K22 : ∀ (x0 : Nat) (x1 : Int32) (x2 : Int32) (x3 : Nat) (h : Hp) (H : Heap) (locs : List Loc) (cells slots : Nat) (ls : Array Slot), HP D Hs h H → LO Hs locs → lv_has ls 6 [(0, rv x0), (1, .int x1), (2, .int x2), (3, rv x3)] → k22 x0 x1 x2 x3 h = some rr → W p l e R s m args below meth c H locs cells slots (ZM D Hs iI rr below args s) (F0 m 22 ls [])) : ∀ (x0 : Nat) (x1 : Int32) (x3 : Nat) (y0 : Int32) (y1 : Int32) (h : Hp) (H : Heap) (locs : List Loc) (cells slots : Nat) (ls : Array Slot), HP D Hs h H → LO Hs locs → lv_has ls 6 [(0, rv x0), (1, .int x1), (3, rv x3)] → f_X1_count_57 k22 x0 x1 x3 y0 y1 h = some rr → W p l e R s m args below meth c H locs cells slots (ZM D Hs iI rr below args s) (F0 m 57 ls [.int y1, .int y0]) := by
  obtain ⟨⟨hx, hb, hml, hown, hts⟩, -⟩ := id C
  have hl9 := C.2.1.2.2.1
  intro x0 x1 x3 y0 y1 h H locs cells slots ls hH hL hl hrun
  unfold f_X1_count_57 at hrun
  refine lv_iadd (pc := 57) hx hb dX1_count_57 ?_
  refine lv_topi (fun v32 ev32 => ?_)
  have hrun := vl_at hrun v32 ev32
  refine lv_istore_n (i := 2) (lv' := [(2, .int v32), (0, rv x0), (1, .int x1), (3, rv x3)]) (pc := 58) hx hb dX1_count_58 rfl hl (by decide) rfl (fun ls hl => ?_)
  refine lv_goto (tgt := 22) (pc := 59) hx hb dX1_count_59 (by decide) ?_
  exact K22 x0 x1 v32 x3 h H locs cells slots ls hH hL (lv_sub hl [1, 2, 0, 3] rfl) hrun

theorem b_X1_count_22 {rr : (Int32 ⊕ Ex) × Hp}  (C : CX p l R s m args meth c D Hs cX1_count "Massclaim" 6 (some .int) [] 7 127)  : ∀ (n : Nat) (x0 : Nat) (x1 : Int32) (x2 : Int32) (x3 : Nat) (h : Hp) (H : Heap) (locs : List Loc) (cells slots : Nat) (ls : Array Slot), HP D Hs h H → LO Hs locs → lv_has ls 6 [(0, rv x0), (1, .int x1), (2, .int x2), (3, rv x3)] → f_X1_count_22 n x0 x1 x2 x3 h = some rr → W p l e R s m args below meth c H locs cells slots (ZM D Hs iI rr below args s) (F0 m 22 ls []) := by
  obtain ⟨⟨hx, hb, hml, hown, hts⟩, -⟩ := id C
  have hl9 := C.2.1.2.2.1
  intro n
  induction n with
  | zero =>
    intro x0 x1 x2 x3 h H locs cells slots ls hH hL hl hrun
    cases (show (none : Option _) = some rr from hrun)
  | succ n ih =>
    intro x0 x1 x2 x3 h H locs cells slots ls hH hL hl hrun
    rw [f_X1_count_22] at hrun
    refine V_aload_n (pc := 22) hx hb dX1_count_22 rfl (lv_at hl 3 rfl) ?_
    obtain ⟨c35, hrun⟩ := gd_some hrun
    refine V_bd5 (pc := 23) C hL rfl hrun (fun rr1 e1 => Z_runF (rest := []) C hH (m_J16_hasNext hl9 e1) rfl wF_X1_212_J16 c35 (by decide) rfl ⟨by decide, by decide⟩ rfl (Nat.le_of_ble_eq_true rfl) hl.1 dX1_count_23) (fun v33 h34 H locs cells slots hH hL hrun => ?_)
    refine lv_if_eq (tgt := 62) (pc := 28) hx hb dX1_count_28 (by decide) (fun c_ => ?_) (fun c_ => ?_)
    · have hrun := ite_t hrun c_
      refine lv_iconst (v := (0 : Int32)) (pc := 62) hx hb dX1_count_62 (by decide) ?_
      refine lv_istore_n (i := 3) (lv' := [(3, .int (0 : Int32)), (0, rv x0), (1, .int x1), (2, .int x2)]) (pc := 63) hx hb dX1_count_63 rfl hl (by decide) rfl (fun ls hl => ?_)
      refine V_aload_n (pc := 64) hx hb dX1_count_64 rfl (lv_at hl 1 rfl) ?_
      obtain ⟨c36, hrun⟩ := gd_some hrun
      refine V_getR (pc := 65) C hH fr_X1_42 dX1_count_65 c36 rfl ?_
      obtain ⟨c39, hrun⟩ := gd_some hrun
      refine V_bd (pc := 68) C hL rfl hrun (fun rr1 e1 => Z_runV (rest := []) C hH (m_X2_iterator hl9 e1) wV_X1_208 c39 rfl (by decide) rfl rfl ⟨by decide, by decide⟩ rfl (Nat.le_of_ble_eq_true rfl) hl.1 dX1_count_68) (fun v37 h38 H locs cells slots hH hL hrun => ?_)
      refine V_astore (i := 4) (lv' := [(4, rv v37), (3, .int (0 : Int32)), (0, rv x0), (1, .int x1), (2, .int x2)]) (pc := 71) hx hb dX1_count_71 hl (by decide) rfl (fun ls hl => ?_)
      exact b_X1_count_73 C FU x0 x1 x2 (0 : Int32) v37 h38 H locs cells slots ls hH hL (lv_sub hl [2, 3, 4, 1, 0] rfl) hrun
    · have hrun := ite_f hrun c_
      refine V_aload_n (pc := 31) hx hb dX1_count_31 rfl (lv_at hl 3 rfl) ?_
      obtain ⟨c42, hrun⟩ := gd_some hrun
      refine V_bd5 (pc := 32) C hL rfl hrun (fun rr1 e1 => Z_runF (rest := []) C hH (m_J16_next hl9 e1) rfl wF_X1_217_J16 c42 (by decide) rfl ⟨by decide, by decide⟩ rfl (Nat.le_of_ble_eq_true rfl) hl.1 dX1_count_32) (fun v40 h41 H locs cells slots hH hL hrun => ?_)
      obtain ⟨c43, hrun⟩ := gd_some hrun
      refine V_castX (pc := 37) (ci := 11) C hH rfl (by decide) q403 dX1_count_37 c43 ?_
      refine V_astore (i := 4) (lv' := [(4, rv v40), (0, rv x0), (1, .int x1), (2, .int x2), (3, rv x3)]) (pc := 40) hx hb dX1_count_40 hl (by decide) (by simp [rv_cat, cat_i, cat_l, cat_f, cat_d]) (fun ls hl => ?_)
      refine lv_iload_n (pc := 42) hx hb dX1_count_42 rfl (lv_at hl 3 rfl) ?_
      refine V_aload (pc := 43) hx hb dX1_count_43 (lv_at hl 0 rfl) ?_
      obtain ⟨c44, hrun⟩ := gd_some hrun
      refine V_getNI (pc := 45) C hH fn_X1_157 dX1_count_45 c44 rfl ?_
      refine lv_iconst (v := (2 : Int32)) (pc := 48) hx hb dX1_count_48 (by decide) ?_
      refine lv_icmp_ne (tgt := 56) (pc := 49) hx hb dX1_count_49 (by decide) (fun c_ => ?_) (fun c_ => ?_)
      · have hrun := ite_f hrun c_
        refine lv_iconst (v := (0 : Int32)) (pc := 56) hx hb dX1_count_56 (by decide) ?_
        exact b_X1_count_57 C ih x0 x1 x3 x2 (0 : Int32) h41 H locs cells slots ls hH hL (lv_sub hl [1, 2, 4] rfl) hrun
      · have hrun := ite_t hrun c_
        refine lv_iconst (v := (1 : Int32)) (pc := 52) hx hb dX1_count_52 (by decide) ?_
        refine lv_goto (tgt := 57) (pc := 53) hx hb dX1_count_53 (by decide) ?_
        exact b_X1_count_57 C ih x0 x1 x3 x2 (1 : Int32) h41 H locs cells slots ls hH hL (lv_sub hl [1, 2, 4] rfl) hrun

theorem b_X1_count {rr : (Int32 ⊕ Ex) × Hp}  (C : CX p l R s m args meth c D Hs cX1_count "Massclaim" 6 (some .int) [] 7 127)  : ∀ (x0 : Nat) (x1 : Int32) (h : Hp) (H : Heap) (locs : List Loc) (cells slots : Nat) (ls : Array Slot), HP D Hs h H → LO Hs locs → lv_has ls 6 [(0, rv x0), (1, .int x1)] → f_X1_count x0 x1 h = some rr → W p l e R s m args below meth c H locs cells slots (ZM D Hs iI rr below args s) (F0 m 0 ls []) := by
  obtain ⟨⟨hx, hb, hml, hown, hts⟩, -⟩ := id C
  have hl9 := C.2.1.2.2.1
  intro x0 x1 h H locs cells slots ls hH hL hl hrun
  unfold f_X1_count at hrun
  refine lv_iload_n (pc := 0) hx hb dX1_count_0 rfl (lv_at hl 1 rfl) ?_
  refine lv_i2l (pc := 1) hx hb dX1_count_1 rfl ?_
  refine lv_lconst (v := (0 : Int64)) (pc := 2) hx hb dX1_count_2 (by decide) ?_
  refine lv_ldc2 (pc := 3) hx hb hown (hts _ q591) dX1_count_3 ?_
  refine V_bd (pc := 6) C hL rfl hrun (fun rr1 e1 => Z_runS (rest := []) C hH (m_X1_isIn hl9 e1) wS_X1_127 rfl ⟨by decide, by decide⟩ rfl (Nat.le_of_ble_eq_true rfl) hl.1 dX1_count_6) (fun v45 h46 H locs cells slots hH hL hrun => ?_)
  refine V_bd (pc := 9) C hL rfl hrun (fun rr1 e1 => Z_runS (rest := []) C hH (m_X1_requireArgument hl9 e1) wS_X1_131 rfl ⟨by decide, by decide⟩ rfl (Nat.le_of_ble_eq_true rfl) hl.1 dX1_count_9) (fun _ h48 H locs cells slots hH hL hrun => ?_)
  refine lv_iconst (v := (0 : Int32)) (pc := 12) hx hb dX1_count_12 (by decide) ?_
  refine lv_istore_n (i := 2) (lv' := [(2, .int (0 : Int32)), (0, rv x0), (1, .int x1)]) (pc := 13) hx hb dX1_count_13 rfl hl (by decide) rfl (fun ls hl => ?_)
  refine V_aload_n (pc := 14) hx hb dX1_count_14 rfl (lv_at hl 1 rfl) ?_
  obtain ⟨c49, hrun⟩ := gd_some hrun
  refine V_getR (pc := 15) C hH fr_X1_52 dX1_count_15 c49 rfl ?_
  obtain ⟨c52, hrun⟩ := gd_some hrun
  refine V_bd (pc := 18) C hL rfl hrun (fun rr1 e1 => Z_runV (rest := []) C hH (m_X2_iterator hl9 e1) wV_X1_208 c52 rfl (by decide) rfl rfl ⟨by decide, by decide⟩ rfl (Nat.le_of_ble_eq_true rfl) hl.1 dX1_count_18) (fun v50 h51 H locs cells slots hH hL hrun => ?_)
  refine V_astore_n (i := 3) (lv' := [(3, rv v50), (2, .int (0 : Int32)), (0, rv x0), (1, .int x1)]) (pc := 21) hx hb dX1_count_21 rfl hl (by decide) rfl (fun ls hl => ?_)
  exact b_X1_count_22 C FU x0 x1 (0 : Int32) v50 h51 H locs cells slots ls hH hL (lv_sub hl [2, 3, 1, 0] rfl) hrun

theorem m_X1_count {l : Launch} {D : va_G} {Hs : Heap} {h : Hp} {rr : (Int32 ⊕ Ex) × Hp} (hl9 : l.stackTraces = false) {x0 : Nat} {x1 : Int32} (hrun : f_X1_count x0 x1 h = some rr) : CM l yX1_count (ws_ yX1_count cX1_count 6 (some .int)) 7 127 iI [rv x0, .int x1] D Hs h rr := by
  refine CM.of (lv := [(0, rv x0), (1, .int x1)]) (plainFor_of_name (by decide)) hl9 (by simp [lv_args, rv_cat, cat_i, cat_l, cat_f, cat_d]) (by simp [lg_sl, rv_cat, cat_i, cat_l, cat_f, cat_d]) ?_
  intro p e R s m args below meth c H ls C hH hl hin
  exact b_X1_count C x0 x1 _ H [] _ _ ls hH (fun _ q => nomatch q) (lv_sub hl [0, 1] rfl) hrun

/-! MassclaimLaw.count(LMassclaim;I[J)I -/
def f_X0_count_12  (y0 : Nat) (h : Hp) : Rt Int32 :=
  some (.inl (1 : Int32), h)
def f_X0_count  (x0 : Nat) (x1 : Int32) (x2 : Nat) (h : Hp) : Rt Int32 :=
  gd (kC h x0 = 1) <| bdH (f_X1_count x0 x1 h)
  (fun v1 h2 => gd (kC h2 x2 = 102 ∧ ixo (0 : Int32) (kN h2 x2)) <| vl (tL h2 x2 ((0 : Int32)).toNatClampNeg (v1.toInt64)) fun h5 => some (.inl (0 : Int32), h5))
  (fun ex6 h7 => if ex6.1 = 902 then
  (f_X0_count_12 ex6.2 h7)
  else
  none)
theorem b_X0_count_12 {rr : (Int32 ⊕ Ex) × Hp}  (C : CX p l R s m args meth c D Hs cX0_count "MassclaimLaw" 4 (some .int) [(0, 9, 12, 13)] 8 152)  : ∀ (y0 : Nat) (h : Hp) (H : Heap) (locs : List Loc) (cells slots : Nat) (ls : Array Slot), HP D Hs h H → LO Hs locs → lv_has ls 4 [] → f_X0_count_12 y0 h = some rr → W p l e R s m args below meth c H locs cells slots (ZM D Hs iI rr below args s) (F0 m 12 ls [rv y0]) := by
  obtain ⟨⟨hx, hb, hml, hown, hts⟩, -⟩ := id C
  have hl9 := C.2.1.2.2.1
  intro y0 h H locs cells slots ls hH hL hl hrun
  unfold f_X0_count_12 at hrun
  refine V_astore_n (i := 3) (lv' := [(3, rv y0)]) (pc := 12) hx hb dX0_count_12 rfl hl (by decide) rfl (fun ls hl => ?_)
  refine lv_iconst (v := (1 : Int32)) (pc := 13) hx hb dX0_count_13 (by decide) ?_
  exact V_iret (pc := 14) C hH hL hrun dX0_count_14

theorem b_X0_count {rr : (Int32 ⊕ Ex) × Hp}  (C : CX p l R s m args meth c D Hs cX0_count "MassclaimLaw" 4 (some .int) [(0, 9, 12, 13)] 8 152)  : ∀ (x0 : Nat) (x1 : Int32) (x2 : Nat) (h : Hp) (H : Heap) (locs : List Loc) (cells slots : Nat) (ls : Array Slot), HP D Hs h H → LO Hs locs → lv_has ls 4 [(0, rv x0), (1, .int x1), (2, rv x2)] → f_X0_count x0 x1 x2 h = some rr → W p l e R s m args below meth c H locs cells slots (ZM D Hs iI rr below args s) (F0 m 0 ls []) := by
  obtain ⟨⟨hx, hb, hml, hown, hts⟩, -⟩ := id C
  have hl9 := C.2.1.2.2.1
  intro x0 x1 x2 h H locs cells slots ls hH hL hl hrun
  unfold f_X0_count at hrun
  refine V_aload_n (pc := 0) hx hb dX0_count_0 rfl (lv_at hl 2 rfl) ?_
  refine lv_iconst (v := (0 : Int32)) (pc := 1) hx hb dX0_count_1 (by decide) ?_
  refine V_aload_n (pc := 2) hx hb dX0_count_2 rfl (lv_at hl 0 rfl) ?_
  refine lv_iload_n (pc := 3) hx hb dX0_count_3 rfl (lv_at hl 1 rfl) ?_
  obtain ⟨c3, hrun⟩ := gd_some hrun
  refine V_bdH (pc := 4) hL hrun (fun rr1 e1 => Z_runV (rest := [.int (0 : Int32), rv x2]) C hH (m_X1_count hl9 e1) wV_X0_153 c3 rfl (by decide) rfl rfl ⟨by decide, by decide⟩ rfl (by simp [csum, rv_cat, cat_i, cat_l, cat_f, cat_d]) hl.1 dX0_count_4) (fun v1 h2 H locs cells slots hH hL hrun => ?_) (fun x_ q_ ce_ h7 H locs cells slots hH hL hrun hc_ hv_ hcl_ => ?_)
  · refine lv_i2l (pc := 7) hx hb dX0_count_7 rfl ?_
    obtain ⟨c4, hrun⟩ := gd_some hrun
    refine V_last (pc := 8) C hH hL dX0_count_8 c4 hrun (fun h5 H locs hH hL hrun => ?_)
    refine lv_goto (tgt := 15) (pc := 9) hx hb dX0_count_9 (by decide) ?_
    refine lv_iconst (v := (0 : Int32)) (pc := 15) hx hb dX0_count_15 (by decide) ?_
    exact V_iret (pc := 16) C hH hL hrun dX0_count_16
  · by_cases n902 : x_ = 902
    · subst n902
      have hrun := ite_t hrun rfl
      refine vx_catch (E := "java/lang/IllegalArgumentException") (name := "java/lang/IllegalArgumentException") hown (tableOf []) ⟨0, 9, 12, 13⟩ (tableOf []) (by rw [C.2.1.2.2.2.2]; rfl) (fun z hz => nomatch hz) (by decide) (by decide) (hts _ q449) (va_Nw.use rfl (C.2.1.2.2.2.1.2.1 _ q463 rfl)) hc_ hv_ hcl_ ?_
      exact b_X0_count_12 C (q_ + 1) h7 H locs cells slots ls hH hL (lv_sub hl [] rfl) hrun
    have hrun := ite_f hrun n902
    cases hrun

theorem m_X0_count {l : Launch} {D : va_G} {Hs : Heap} {h : Hp} {rr : (Int32 ⊕ Ex) × Hp} (hl9 : l.stackTraces = false) {x0 : Nat} {x1 : Int32} {x2 : Nat} (hrun : f_X0_count x0 x1 x2 h = some rr) : CM l yX0_count (wsW_ yX0_count cX0_count 4 (some .int) [(0, 9, 12, 13)]) 8 152 iI [rv x0, .int x1, rv x2] D Hs h rr := by
  refine CM.ofH (lv := [(0, rv x0), (1, .int x1), (2, rv x2)]) (plainFor_of_name (by decide)) hl9 (by simp [lv_args, rv_cat, cat_i, cat_l, cat_f, cat_d]) (by simp [lg_sl, rv_cat, cat_i, cat_l, cat_f, cat_d]) ?_
  intro p e R s m args below meth c H ls C hH hl hin
  exact b_X0_count C x0 x1 x2 _ H [] _ _ ls hH (fun _ q => nomatch q) (lv_sub hl [0, 1, 2] rfl) hrun

/-! MassclaimModel.openLiens()I -/
def f_X4_openLiens_38 (k4 : Nat → Int32 → Int32 → Hp → Rt Int32) (x0 : Nat) (x2 : Int32) (y0 : Int32) (y1 : Int32) (h : Hp) : Rt Int32 :=
  vl (y0 + y1) fun v1 => vl (x2 + (1 : Int32)) fun v2 => k4 x0 v1 v2 h
def f_X4_openLiens_4  : Nat → Nat → Int32 → Int32 → Hp → Rt Int32
  | 0, _, _, _, _ => none
  | n + 1, x0, x1, x2, h => gd (kC h x0 = 4) <| gd (kC h (kR h 321 x0) = 18) <| bd (f_J2_size (kR h 321 x0) h) fun v4 h5 => if v4 ≤ x2 then
  (some (.inl x1, h5))
  else
  (gd (kC h5 x0 = 4) <| gd (kC h5 (kR h5 321 x0) = 18) <| bd (f_J2_get (kR h5 321 x0) x2 h5) fun v8 h9 => gd (v8 = 0 ∨ kC h9 v8 = 17) <| gd (kC h9 v8 = 17) <| if (kI h9 1601 v8) ≤ 0 then
  (f_X4_openLiens_38 (f_X4_openLiens_4 n) x0 x2 x1 (0 : Int32) h9)
  else
  (f_X4_openLiens_38 (f_X4_openLiens_4 n) x0 x2 x1 (1 : Int32) h9))
def f_X4_openLiens  (x0 : Nat) (h : Hp) : Rt Int32 :=
  f_X4_openLiens_4 FU x0 (0 : Int32) (0 : Int32) h
theorem b_X4_openLiens_38 {rr : (Int32 ⊕ Ex) × Hp} {k4 : Nat → Int32 → Int32 → Hp → Rt Int32} (C : CX p l R s m args meth c D Hs cX4_openLiens "MassclaimModel" 3 (some .int) [] 4 64) (K4 : ∀ (x0 : Nat) (x1 : Int32) (x2 : Int32) (h : Hp) (H : Heap) (locs : List Loc) (cells slots : Nat) (ls : Array Slot), HP D Hs h H → LO Hs locs → lv_has ls 3 [(0, rv x0), (1, .int x1), (2, .int x2)] → k4 x0 x1 x2 h = some rr → W p l e R s m args below meth c H locs cells slots (ZM D Hs iI rr below args s) (F0 m 4 ls [])) : ∀ (x0 : Nat) (x2 : Int32) (y0 : Int32) (y1 : Int32) (h : Hp) (H : Heap) (locs : List Loc) (cells slots : Nat) (ls : Array Slot), HP D Hs h H → LO Hs locs → lv_has ls 3 [(0, rv x0), (2, .int x2)] → f_X4_openLiens_38 k4 x0 x2 y0 y1 h = some rr → W p l e R s m args below meth c H locs cells slots (ZM D Hs iI rr below args s) (F0 m 38 ls [.int y1, .int y0]) := by
  obtain ⟨⟨hx, hb, hml, hown, hts⟩, -⟩ := id C
  have hl9 := C.2.1.2.2.1
  intro x0 x2 y0 y1 h H locs cells slots ls hH hL hl hrun
  unfold f_X4_openLiens_38 at hrun
  refine lv_iadd (pc := 38) hx hb dX4_openLiens_38 ?_
  refine lv_topi (fun v1 ev1 => ?_)
  have hrun := vl_at hrun v1 ev1
  refine lv_istore_n (i := 1) (lv' := [(1, .int v1), (0, rv x0), (2, .int x2)]) (pc := 39) hx hb dX4_openLiens_39 rfl hl (by decide) (by simp [rv_cat, cat_i, cat_l, cat_f, cat_d]) (fun ls hl => ?_)
  obtain ⟨v2, ev2⟩ : ∃ y : Int32, y = x2 + (1 : Int32) := ⟨_, rfl⟩
  have hrun := vl_at hrun v2 ev2
  refine lv_iinc (v := v2) (lv' := [(2, .int v2), (1, .int v1), (0, rv x0)]) (pc := 40) hx hb dX4_openLiens_40 hl (k := 2) rfl (by rw [ev2]; rfl) (by decide) (by first | rfl | simp [rv_cat, cat_i, cat_l, cat_f, cat_d]) (fun ls hl => ?_)
  refine lv_goto (tgt := 4) (pc := 43) hx hb dX4_openLiens_43 (by decide) ?_
  exact K4 x0 v1 v2 h H locs cells slots ls hH hL (lv_sub hl [2, 1, 0] rfl) hrun

theorem b_X4_openLiens_4 {rr : (Int32 ⊕ Ex) × Hp}  (C : CX p l R s m args meth c D Hs cX4_openLiens "MassclaimModel" 3 (some .int) [] 4 64)  : ∀ (n : Nat) (x0 : Nat) (x1 : Int32) (x2 : Int32) (h : Hp) (H : Heap) (locs : List Loc) (cells slots : Nat) (ls : Array Slot), HP D Hs h H → LO Hs locs → lv_has ls 3 [(0, rv x0), (1, .int x1), (2, .int x2)] → f_X4_openLiens_4 n x0 x1 x2 h = some rr → W p l e R s m args below meth c H locs cells slots (ZM D Hs iI rr below args s) (F0 m 4 ls []) := by
  obtain ⟨⟨hx, hb, hml, hown, hts⟩, -⟩ := id C
  have hl9 := C.2.1.2.2.1
  intro n
  induction n with
  | zero =>
    intro x0 x1 x2 h H locs cells slots ls hH hL hl hrun
    cases (show (none : Option _) = some rr from hrun)
  | succ n ih =>
    intro x0 x1 x2 h H locs cells slots ls hH hL hl hrun
    rw [f_X4_openLiens_4] at hrun
    refine lv_iload_n (pc := 4) hx hb dX4_openLiens_4 rfl (lv_at hl 2 rfl) ?_
    refine V_aload_n (pc := 5) hx hb dX4_openLiens_5 rfl (lv_at hl 0 rfl) ?_
    obtain ⟨c3, hrun⟩ := gd_some hrun
    refine V_getR (pc := 6) C hH fr_X4_33 dX4_openLiens_6 c3 rfl ?_
    obtain ⟨c6, hrun⟩ := gd_some hrun
    refine V_bd (pc := 9) C hL rfl hrun (fun rr1 e1 => Z_runV (rest := [.int x2]) C hH (m_J2_size hl9 e1) wV_X4_94 c6 rfl (by decide) rfl rfl ⟨by decide, by decide⟩ rfl (Nat.le_of_ble_eq_true rfl) hl.1 dX4_openLiens_9) (fun v4 h5 H locs cells slots hH hL hrun => ?_)
    refine lv_icmp_ge (tgt := 46) (pc := 12) hx hb dX4_openLiens_12 (by decide) (fun c_ => ?_) (fun c_ => ?_)
    · have hrun := ite_t hrun c_
      refine lv_iload_n (pc := 46) hx hb dX4_openLiens_46 rfl (lv_at hl 1 rfl) ?_
      exact V_iret (pc := 47) C hH hL hrun dX4_openLiens_47
    · have hrun := ite_f hrun c_
      refine lv_iload_n (pc := 15) hx hb dX4_openLiens_15 rfl (lv_at hl 1 rfl) ?_
      refine V_aload_n (pc := 16) hx hb dX4_openLiens_16 rfl (lv_at hl 0 rfl) ?_
      obtain ⟨c7, hrun⟩ := gd_some hrun
      refine V_getR (pc := 17) C hH fr_X4_33 dX4_openLiens_17 c7 rfl ?_
      refine lv_iload_n (pc := 20) hx hb dX4_openLiens_20 rfl (lv_at hl 2 rfl) ?_
      obtain ⟨c10, hrun⟩ := gd_some hrun
      refine V_bd (pc := 21) C hL rfl hrun (fun rr1 e1 => Z_runV (rest := [.int x1]) C hH (m_J2_get hl9 e1) wV_X4_108 c10 rfl (by decide) rfl rfl ⟨by decide, by decide⟩ rfl (Nat.le_of_ble_eq_true rfl) hl.1 dX4_openLiens_21) (fun v8 h9 H locs cells slots hH hL hrun => ?_)
      obtain ⟨c11, hrun⟩ := gd_some hrun
      refine V_castX (pc := 24) (ci := 16) C hH rfl (by decide) q2161 dX4_openLiens_24 c11 ?_
      obtain ⟨c12, hrun⟩ := gd_some hrun
      refine V_getI (pc := 27) C hH fr_X4_262 dX4_openLiens_27 c12 rfl ?_
      refine lv_if_le (tgt := 37) (pc := 30) hx hb dX4_openLiens_30 (by decide) (fun c_ => ?_) (fun c_ => ?_)
      · have hrun := ite_t hrun c_
        refine lv_iconst (v := (0 : Int32)) (pc := 37) hx hb dX4_openLiens_37 (by decide) ?_
        exact b_X4_openLiens_38 C ih x0 x2 x1 (0 : Int32) h9 H locs cells slots ls hH hL (lv_sub hl [0, 2] rfl) hrun
      · have hrun := ite_f hrun c_
        refine lv_iconst (v := (1 : Int32)) (pc := 33) hx hb dX4_openLiens_33 (by decide) ?_
        refine lv_goto (tgt := 38) (pc := 34) hx hb dX4_openLiens_34 (by decide) ?_
        exact b_X4_openLiens_38 C ih x0 x2 x1 (1 : Int32) h9 H locs cells slots ls hH hL (lv_sub hl [0, 2] rfl) hrun

theorem b_X4_openLiens {rr : (Int32 ⊕ Ex) × Hp}  (C : CX p l R s m args meth c D Hs cX4_openLiens "MassclaimModel" 3 (some .int) [] 4 64)  : ∀ (x0 : Nat) (h : Hp) (H : Heap) (locs : List Loc) (cells slots : Nat) (ls : Array Slot), HP D Hs h H → LO Hs locs → lv_has ls 3 [(0, rv x0)] → f_X4_openLiens x0 h = some rr → W p l e R s m args below meth c H locs cells slots (ZM D Hs iI rr below args s) (F0 m 0 ls []) := by
  obtain ⟨⟨hx, hb, hml, hown, hts⟩, -⟩ := id C
  have hl9 := C.2.1.2.2.1
  intro x0 h H locs cells slots ls hH hL hl hrun
  unfold f_X4_openLiens at hrun
  refine lv_iconst (v := (0 : Int32)) (pc := 0) hx hb dX4_openLiens_0 (by decide) ?_
  refine lv_istore_n (i := 1) (lv' := [(1, .int (0 : Int32)), (0, rv x0)]) (pc := 1) hx hb dX4_openLiens_1 rfl hl (by decide) (by simp [rv_cat, cat_i, cat_l, cat_f, cat_d]) (fun ls hl => ?_)
  refine lv_iconst (v := (0 : Int32)) (pc := 2) hx hb dX4_openLiens_2 (by decide) ?_
  refine lv_istore_n (i := 2) (lv' := [(2, .int (0 : Int32)), (1, .int (0 : Int32)), (0, rv x0)]) (pc := 3) hx hb dX4_openLiens_3 rfl hl (by decide) rfl (fun ls hl => ?_)
  exact b_X4_openLiens_4 C FU x0 (0 : Int32) (0 : Int32) h H locs cells slots ls hH hL (lv_sub hl [2, 1, 0] rfl) hrun

theorem m_X4_openLiens {l : Launch} {D : va_G} {Hs : Heap} {h : Hp} {rr : (Int32 ⊕ Ex) × Hp} (hl9 : l.stackTraces = false) {x0 : Nat} (hrun : f_X4_openLiens x0 h = some rr) : CM l yX4_openLiens (ws_ yX4_openLiens cX4_openLiens 3 (some .int)) 4 64 iI [rv x0] D Hs h rr := by
  refine CM.of (lv := [(0, rv x0)]) (plainFor_of_name (by decide)) hl9 (by simp [lv_args, rv_cat, cat_i, cat_l, cat_f, cat_d]) (by simp [lg_sl, rv_cat, cat_i, cat_l, cat_f, cat_d]) ?_
  intro p e R s m args below meth c H ls C hH hl hin
  exact b_X4_openLiens C x0 _ H [] _ _ ls hH (fun _ q => nomatch q) (lv_sub hl [0] rfl) hrun

/-! MassclaimModel.count(I)I -/
def f_X4_count_162 (k128 : Nat → Int32 → Int32 → Hp → Rt Int32) (x0 : Nat) (x3 : Int32) (y0 : Int32) (y1 : Int32) (h : Hp) : Rt Int32 :=
  vl (y0 + y1) fun v1 => vl (x3 + (1 : Int32)) fun v2 => k128 x0 v1 v2 h
def f_X4_count_128  : Nat → Nat → Int32 → Int32 → Hp → Rt Int32
  | 0, _, _, _, _ => none
  | n + 1, x0, x2, x3, h => gd (kC h x0 = 4) <| gd (kC h (kR h 302 x0) = 18) <| bd (f_J2_size (kR h 302 x0) h) fun v4 h5 => if v4 ≤ x3 then
  (some (.inl x2, h5))
  else
  (gd (kC h5 x0 = 4) <| gd (kC h5 (kR h5 302 x0) = 18) <| bd (f_J2_get (kR h5 302 x0) x3 h5) fun v8 h9 => gd (v8 = 0 ∨ kC h9 v8 = 6) <| gd (kC h9 v8 = 6) <| if (kI h9 510 v8) = 0 then
  (f_X4_count_162 (f_X4_count_128 n) x0 x3 x2 (0 : Int32) h9)
  else
  (f_X4_count_162 (f_X4_count_128 n) x0 x3 x2 (1 : Int32) h9))
def f_X4_count  (x0 : Nat) (x1 : Int32) (h : Hp) : Rt Int32 :=
  bd (f_X4_isWithin (x1.toInt64) (0 : Int64) (9 : Int64) h) fun v13 h14 => gd (kC h14 x0 = 4) <| bd (f_X4_isGood x0 v13 (1 : Int32) h14) fun v15 h16 => if v15 = 0 then
  (some (.inl (0 : Int32), h16))
  else
  (if x1 = (0 : Int32) then
  (gd (kC h16 x0 = 4) <| some (.inl (kI h16 301 x0), h16))
  else
  if x1 = (1 : Int32) then
  (gd (kC h16 x0 = 4) <| gd (kC h16 (kR h16 302 x0) = 18) <| bd (f_J2_size (kR h16 302 x0) h16) fun v20 h21 => some (.inl v20, h21))
  else
  if x1 = (2 : Int32) then
  (gd (kC h16 x0 = 4) <| bd (f_X4_allIn x0 h16) fun v23 h24 => some (.inl v23, h24))
  else
  if x1 = (3 : Int32) then
  (gd (kC h16 x0 = 4) <| bd (f_X4_reach x0 h16) fun v26 h27 => some (.inl v26, h27))
  else
  if x1 = (4 : Int32) then
  (gd (kC h16 x0 = 4) <| some (.inl (kI h16 309 x0), h16))
  else
  if x1 = (5 : Int32) then
  (gd (kC h16 x0 = 4) <| gd (kC h16 (kR h16 320 x0) = 18) <| bd (f_J2_size (kR h16 320 x0) h16) fun v31 h32 => some (.inl v31, h32))
  else
  if x1 = (6 : Int32) then
  (gd (kC h16 x0 = 4) <| some (.inl (kI h16 319 x0), h16))
  else
  if x1 = (7 : Int32) then
  (gd (kC h16 x0 = 4) <| bd (f_X4_openLiens x0 h16) fun v35 h36 => some (.inl v35, h36))
  else
  if x1 = (8 : Int32) then
  (gd (kC h16 x0 = 4) <| bd (f_X4_in x0 (2 : Int32) h16) fun v38 h39 => some (.inl v38, h39))
  else
  (f_X4_count_128 FU x0 (0 : Int32) (0 : Int32) h16))
theorem b_X4_count_162 {rr : (Int32 ⊕ Ex) × Hp} {k128 : Nat → Int32 → Int32 → Hp → Rt Int32} (C : CX p l R s m args meth c D Hs cX4_count "MassclaimModel" 4 (some .int) [] 6 108) (K128 : ∀ (x0 : Nat) (x2 : Int32) (x3 : Int32) (h : Hp) (H : Heap) (locs : List Loc) (cells slots : Nat) (ls : Array Slot), HP D Hs h H → LO Hs locs → lv_has ls 4 [(0, rv x0), (2, .int x2), (3, .int x3)] → k128 x0 x2 x3 h = some rr → W p l e R s m args below meth c H locs cells slots (ZM D Hs iI rr below args s) (F0 m 128 ls [])) : ∀ (x0 : Nat) (x3 : Int32) (y0 : Int32) (y1 : Int32) (h : Hp) (H : Heap) (locs : List Loc) (cells slots : Nat) (ls : Array Slot), HP D Hs h H → LO Hs locs → lv_has ls 4 [(0, rv x0), (3, .int x3)] → f_X4_count_162 k128 x0 x3 y0 y1 h = some rr → W p l e R s m args below meth c H locs cells slots (ZM D Hs iI rr below args s) (F0 m 162 ls [.int y1, .int y0]) := by
  obtain ⟨⟨hx, hb, hml, hown, hts⟩, -⟩ := id C
  have hl9 := C.2.1.2.2.1
  intro x0 x3 y0 y1 h H locs cells slots ls hH hL hl hrun
  unfold f_X4_count_162 at hrun
  refine lv_iadd (pc := 162) hx hb dX4_count_162 ?_
  refine lv_topi (fun v1 ev1 => ?_)
  have hrun := vl_at hrun v1 ev1
  refine lv_istore_n (i := 2) (lv' := [(2, .int v1), (0, rv x0), (3, .int x3)]) (pc := 163) hx hb dX4_count_163 rfl hl (by decide) rfl (fun ls hl => ?_)
  obtain ⟨v2, ev2⟩ : ∃ y : Int32, y = x3 + (1 : Int32) := ⟨_, rfl⟩
  have hrun := vl_at hrun v2 ev2
  refine lv_iinc (v := v2) (lv' := [(3, .int v2), (2, .int v1), (0, rv x0)]) (pc := 164) hx hb dX4_count_164 hl (k := 2) rfl (by rw [ev2]; rfl) (by decide) (by first | rfl | simp [rv_cat, cat_i, cat_l, cat_f, cat_d]) (fun ls hl => ?_)
  refine lv_goto (tgt := 128) (pc := 167) hx hb dX4_count_167 (by decide) ?_
  exact K128 x0 v1 v2 h H locs cells slots ls hH hL (lv_sub hl [2, 1, 0] rfl) hrun

theorem b_X4_count_128 {rr : (Int32 ⊕ Ex) × Hp}  (C : CX p l R s m args meth c D Hs cX4_count "MassclaimModel" 4 (some .int) [] 6 108)  : ∀ (n : Nat) (x0 : Nat) (x2 : Int32) (x3 : Int32) (h : Hp) (H : Heap) (locs : List Loc) (cells slots : Nat) (ls : Array Slot), HP D Hs h H → LO Hs locs → lv_has ls 4 [(0, rv x0), (2, .int x2), (3, .int x3)] → f_X4_count_128 n x0 x2 x3 h = some rr → W p l e R s m args below meth c H locs cells slots (ZM D Hs iI rr below args s) (F0 m 128 ls []) := by
  obtain ⟨⟨hx, hb, hml, hown, hts⟩, -⟩ := id C
  have hl9 := C.2.1.2.2.1
  intro n
  induction n with
  | zero =>
    intro x0 x2 x3 h H locs cells slots ls hH hL hl hrun
    cases (show (none : Option _) = some rr from hrun)
  | succ n ih =>
    intro x0 x2 x3 h H locs cells slots ls hH hL hl hrun
    rw [f_X4_count_128] at hrun
    refine lv_iload_n (pc := 128) hx hb dX4_count_128 rfl (lv_at hl 2 rfl) ?_
    refine V_aload_n (pc := 129) hx hb dX4_count_129 rfl (lv_at hl 0 rfl) ?_
    obtain ⟨c3, hrun⟩ := gd_some hrun
    refine V_getR (pc := 130) C hH fr_X4_16 dX4_count_130 c3 rfl ?_
    obtain ⟨c6, hrun⟩ := gd_some hrun
    refine V_bd (pc := 133) C hL rfl hrun (fun rr1 e1 => Z_runV (rest := [.int x3]) C hH (m_J2_size hl9 e1) wV_X4_94 c6 rfl (by decide) rfl rfl ⟨by decide, by decide⟩ rfl (Nat.le_of_ble_eq_true rfl) hl.1 dX4_count_133) (fun v4 h5 H locs cells slots hH hL hrun => ?_)
    refine lv_icmp_ge (tgt := 170) (pc := 136) hx hb dX4_count_136 (by decide) (fun c_ => ?_) (fun c_ => ?_)
    · have hrun := ite_t hrun c_
      refine lv_iload_n (pc := 170) hx hb dX4_count_170 rfl (lv_at hl 1 rfl) ?_
      exact V_iret (pc := 171) C hH hL hrun dX4_count_171
    · have hrun := ite_f hrun c_
      refine lv_iload_n (pc := 139) hx hb dX4_count_139 rfl (lv_at hl 1 rfl) ?_
      refine V_aload_n (pc := 140) hx hb dX4_count_140 rfl (lv_at hl 0 rfl) ?_
      obtain ⟨c7, hrun⟩ := gd_some hrun
      refine V_getR (pc := 141) C hH fr_X4_16 dX4_count_141 c7 rfl ?_
      refine lv_iload_n (pc := 144) hx hb dX4_count_144 rfl (lv_at hl 2 rfl) ?_
      obtain ⟨c10, hrun⟩ := gd_some hrun
      refine V_bd (pc := 145) C hL rfl hrun (fun rr1 e1 => Z_runV (rest := [.int x2]) C hH (m_J2_get hl9 e1) wV_X4_108 c10 rfl (by decide) rfl rfl ⟨by decide, by decide⟩ rfl (Nat.le_of_ble_eq_true rfl) hl.1 dX4_count_145) (fun v8 h9 H locs cells slots hH hL hrun => ?_)
      obtain ⟨c11, hrun⟩ := gd_some hrun
      refine V_castX (pc := 148) (ci := 5) C hH rfl (by decide) q1946 dX4_count_148 c11 ?_
      obtain ⟨c12, hrun⟩ := gd_some hrun
      refine V_getI (pc := 151) C hH fr_X4_225 dX4_count_151 c12 rfl ?_
      refine lv_if_eq (tgt := 161) (pc := 154) hx hb dX4_count_154 (by decide) (fun c_ => ?_) (fun c_ => ?_)
      · have hrun := ite_t hrun c_
        refine lv_iconst (v := (0 : Int32)) (pc := 161) hx hb dX4_count_161 (by decide) ?_
        exact b_X4_count_162 C ih x0 x3 x2 (0 : Int32) h9 H locs cells slots ls hH hL (lv_sub hl [0, 2] rfl) hrun
      · have hrun := ite_f hrun c_
        refine lv_iconst (v := (1 : Int32)) (pc := 157) hx hb dX4_count_157 (by decide) ?_
        refine lv_goto (tgt := 162) (pc := 158) hx hb dX4_count_158 (by decide) ?_
        exact b_X4_count_162 C ih x0 x3 x2 (1 : Int32) h9 H locs cells slots ls hH hL (lv_sub hl [0, 2] rfl) hrun

theorem b_X4_count {rr : (Int32 ⊕ Ex) × Hp}  (C : CX p l R s m args meth c D Hs cX4_count "MassclaimModel" 4 (some .int) [] 6 108)  : ∀ (x0 : Nat) (x1 : Int32) (h : Hp) (H : Heap) (locs : List Loc) (cells slots : Nat) (ls : Array Slot), HP D Hs h H → LO Hs locs → lv_has ls 4 [(0, rv x0), (1, .int x1)] → f_X4_count x0 x1 h = some rr → W p l e R s m args below meth c H locs cells slots (ZM D Hs iI rr below args s) (F0 m 0 ls []) := by
  obtain ⟨⟨hx, hb, hml, hown, hts⟩, -⟩ := id C
  have hl9 := C.2.1.2.2.1
  intro x0 x1 h H locs cells slots ls hH hL hl hrun
  unfold f_X4_count at hrun
  refine V_aload_n (pc := 0) hx hb dX4_count_0 rfl (lv_at hl 0 rfl) ?_
  refine lv_iload_n (pc := 1) hx hb dX4_count_1 rfl (lv_at hl 1 rfl) ?_
  refine lv_i2l (pc := 2) hx hb dX4_count_2 rfl ?_
  refine lv_lconst (v := (0 : Int64)) (pc := 3) hx hb dX4_count_3 (by decide) ?_
  refine lv_ldc2 (pc := 4) hx hb hown (hts _ q1977) dX4_count_4 ?_
  refine V_bd (pc := 7) C hL rfl hrun (fun rr1 e1 => Z_runS (rest := [rv x0]) C hH (m_X4_isWithin hl9 e1) wS_X4_100 rfl ⟨by decide, by decide⟩ rfl (by simp [csum, rv_cat, cat_i, cat_l, cat_f, cat_d]) hl.1 dX4_count_7) (fun v13 h14 H locs cells slots hH hL hrun => ?_)
  refine lv_iconst (v := (1 : Int32)) (pc := 10) hx hb dX4_count_10 (by decide) ?_
  obtain ⟨c17, hrun⟩ := gd_some hrun
  refine V_bd (pc := 11) C hL rfl hrun (fun rr1 e1 => Z_runV (rest := []) C hH (m_X4_isGood hl9 e1) wV_X4_104 c17 rfl (by decide) rfl rfl ⟨by decide, by decide⟩ rfl (Nat.le_of_ble_eq_true rfl) hl.1 dX4_count_11) (fun v15 h16 H locs cells slots hH hL hrun => ?_)
  refine lv_if_ne (tgt := 19) (pc := 14) hx hb dX4_count_14 (by decide) (fun c_ => ?_) (fun c_ => ?_)
  · have hrun := ite_f hrun c_
    refine lv_iload_n (pc := 19) hx hb dX4_count_19 rfl (lv_at hl 1 rfl) ?_
    by_cases n0 : x1 = (0 : Int32)
    · have hrun := ite_t hrun n0
      refine lv_tableIn (pc := 20) (off := 52) (tgt := 72) hx hb dX4_count_20 (by rw [n0]; decide) (by rw [n0]; decide) (by rw [n0]; decide) (by decide) ?_
      refine V_aload_n (pc := 72) hx hb dX4_count_72 rfl (lv_at hl 0 rfl) ?_
      obtain ⟨c18, hrun⟩ := gd_some hrun
      refine V_getI (pc := 73) C hH fr_X4_43 dX4_count_73 c18 rfl ?_
      exact V_iret (pc := 76) C hH hL hrun dX4_count_76
    have hrun := ite_f hrun n0
    by_cases n1 : x1 = (1 : Int32)
    · have hrun := ite_t hrun n1
      refine lv_tableIn (pc := 20) (off := 57) (tgt := 77) hx hb dX4_count_20 (by rw [n1]; decide) (by rw [n1]; decide) (by rw [n1]; decide) (by decide) ?_
      refine V_aload_n (pc := 77) hx hb dX4_count_77 rfl (lv_at hl 0 rfl) ?_
      obtain ⟨c19, hrun⟩ := gd_some hrun
      refine V_getR (pc := 78) C hH fr_X4_16 dX4_count_78 c19 rfl ?_
      obtain ⟨c22, hrun⟩ := gd_some hrun
      refine V_bd (pc := 81) C hL rfl hrun (fun rr1 e1 => Z_runV (rest := []) C hH (m_J2_size hl9 e1) wV_X4_94 c22 rfl (by decide) rfl rfl ⟨by decide, by decide⟩ rfl (Nat.le_of_ble_eq_true rfl) hl.1 dX4_count_81) (fun v20 h21 H locs cells slots hH hL hrun => ?_)
      exact V_iret (pc := 84) C hH hL hrun dX4_count_84
    have hrun := ite_f hrun n1
    by_cases n2 : x1 = (2 : Int32)
    · have hrun := ite_t hrun n2
      refine lv_tableIn (pc := 20) (off := 65) (tgt := 85) hx hb dX4_count_20 (by rw [n2]; decide) (by rw [n2]; decide) (by rw [n2]; decide) (by decide) ?_
      refine V_aload_n (pc := 85) hx hb dX4_count_85 rfl (lv_at hl 0 rfl) ?_
      obtain ⟨c25, hrun⟩ := gd_some hrun
      refine V_bd (pc := 86) C hL rfl hrun (fun rr1 e1 => Z_runV (rest := []) C hH (m_X4_allIn hl9 e1) wV_X4_235 c25 rfl (by decide) rfl rfl ⟨by decide, by decide⟩ rfl (Nat.le_of_ble_eq_true rfl) hl.1 dX4_count_86) (fun v23 h24 H locs cells slots hH hL hrun => ?_)
      exact V_iret (pc := 89) C hH hL hrun dX4_count_89
    have hrun := ite_f hrun n2
    by_cases n3 : x1 = (3 : Int32)
    · have hrun := ite_t hrun n3
      refine lv_tableIn (pc := 20) (off := 70) (tgt := 90) hx hb dX4_count_20 (by rw [n3]; decide) (by rw [n3]; decide) (by rw [n3]; decide) (by decide) ?_
      refine V_aload_n (pc := 90) hx hb dX4_count_90 rfl (lv_at hl 0 rfl) ?_
      obtain ⟨c28, hrun⟩ := gd_some hrun
      refine V_bd (pc := 91) C hL rfl hrun (fun rr1 e1 => Z_runV (rest := []) C hH (m_X4_reach hl9 e1) wV_X4_347 c28 rfl (by decide) rfl rfl ⟨by decide, by decide⟩ rfl (Nat.le_of_ble_eq_true rfl) hl.1 dX4_count_91) (fun v26 h27 H locs cells slots hH hL hrun => ?_)
      exact V_iret (pc := 94) C hH hL hrun dX4_count_94
    have hrun := ite_f hrun n3
    by_cases n4 : x1 = (4 : Int32)
    · have hrun := ite_t hrun n4
      refine lv_tableIn (pc := 20) (off := 75) (tgt := 95) hx hb dX4_count_20 (by rw [n4]; decide) (by rw [n4]; decide) (by rw [n4]; decide) (by decide) ?_
      refine V_aload_n (pc := 95) hx hb dX4_count_95 rfl (lv_at hl 0 rfl) ?_
      obtain ⟨c29, hrun⟩ := gd_some hrun
      refine V_getI (pc := 96) C hH fr_X4_53 dX4_count_96 c29 rfl ?_
      exact V_iret (pc := 99) C hH hL hrun dX4_count_99
    have hrun := ite_f hrun n4
    by_cases n5 : x1 = (5 : Int32)
    · have hrun := ite_t hrun n5
      refine lv_tableIn (pc := 20) (off := 80) (tgt := 100) hx hb dX4_count_20 (by rw [n5]; decide) (by rw [n5]; decide) (by rw [n5]; decide) (by decide) ?_
      refine V_aload_n (pc := 100) hx hb dX4_count_100 rfl (lv_at hl 0 rfl) ?_
      obtain ⟨c30, hrun⟩ := gd_some hrun
      refine V_getR (pc := 101) C hH fr_X4_30 dX4_count_101 c30 rfl ?_
      obtain ⟨c33, hrun⟩ := gd_some hrun
      refine V_bd (pc := 104) C hL rfl hrun (fun rr1 e1 => Z_runV (rest := []) C hH (m_J2_size hl9 e1) wV_X4_94 c33 rfl (by decide) rfl rfl ⟨by decide, by decide⟩ rfl (Nat.le_of_ble_eq_true rfl) hl.1 dX4_count_104) (fun v31 h32 H locs cells slots hH hL hrun => ?_)
      exact V_iret (pc := 107) C hH hL hrun dX4_count_107
    have hrun := ite_f hrun n5
    by_cases n6 : x1 = (6 : Int32)
    · have hrun := ite_t hrun n6
      refine lv_tableIn (pc := 20) (off := 88) (tgt := 108) hx hb dX4_count_20 (by rw [n6]; decide) (by rw [n6]; decide) (by rw [n6]; decide) (by decide) ?_
      refine V_aload_n (pc := 108) hx hb dX4_count_108 rfl (lv_at hl 0 rfl) ?_
      obtain ⟨c34, hrun⟩ := gd_some hrun
      refine V_getI (pc := 109) C hH fr_X4_73 dX4_count_109 c34 rfl ?_
      exact V_iret (pc := 112) C hH hL hrun dX4_count_112
    have hrun := ite_f hrun n6
    by_cases n7 : x1 = (7 : Int32)
    · have hrun := ite_t hrun n7
      refine lv_tableIn (pc := 20) (off := 93) (tgt := 113) hx hb dX4_count_20 (by rw [n7]; decide) (by rw [n7]; decide) (by rw [n7]; decide) (by decide) ?_
      refine V_aload_n (pc := 113) hx hb dX4_count_113 rfl (lv_at hl 0 rfl) ?_
      obtain ⟨c37, hrun⟩ := gd_some hrun
      refine V_bd (pc := 114) C hL rfl hrun (fun rr1 e1 => Z_runV (rest := []) C hH (m_X4_openLiens hl9 e1) wV_X4_479 c37 rfl (by decide) rfl rfl ⟨by decide, by decide⟩ rfl (Nat.le_of_ble_eq_true rfl) hl.1 dX4_count_114) (fun v35 h36 H locs cells slots hH hL hrun => ?_)
      exact V_iret (pc := 117) C hH hL hrun dX4_count_117
    have hrun := ite_f hrun n7
    by_cases n8 : x1 = (8 : Int32)
    · have hrun := ite_t hrun n8
      refine lv_tableIn (pc := 20) (off := 98) (tgt := 118) hx hb dX4_count_20 (by rw [n8]; decide) (by rw [n8]; decide) (by rw [n8]; decide) (by decide) ?_
      refine V_aload_n (pc := 118) hx hb dX4_count_118 rfl (lv_at hl 0 rfl) ?_
      refine lv_iconst (v := (2 : Int32)) (pc := 119) hx hb dX4_count_119 (by decide) ?_
      obtain ⟨c40, hrun⟩ := gd_some hrun
      refine V_bd (pc := 120) C hL rfl hrun (fun rr1 e1 => Z_runV (rest := []) C hH (m_X4_in hl9 e1) wV_X4_462 c40 rfl (by decide) rfl rfl ⟨by decide, by decide⟩ rfl (Nat.le_of_ble_eq_true rfl) hl.1 dX4_count_120) (fun v38 h39 H locs cells slots hH hL hrun => ?_)
      exact V_iret (pc := 123) C hH hL hrun dX4_count_123
    have hrun := ite_f hrun n8
    refine lv_tableOut (pc := 20) (tgt := 124) hx hb dX4_count_20 (sw_out [0, 1, 2, 3, 4, 5, 6, 7, 8] (by decide) (by decide) ⟨by decide, by decide⟩ (List.forall_mem_cons.mpr ⟨sw_ne (v := (0 : Int32)) (by decide) n0, (List.forall_mem_cons.mpr ⟨sw_ne (v := (1 : Int32)) (by decide) n1, (List.forall_mem_cons.mpr ⟨sw_ne (v := (2 : Int32)) (by decide) n2, (List.forall_mem_cons.mpr ⟨sw_ne (v := (3 : Int32)) (by decide) n3, (List.forall_mem_cons.mpr ⟨sw_ne (v := (4 : Int32)) (by decide) n4, (List.forall_mem_cons.mpr ⟨sw_ne (v := (5 : Int32)) (by decide) n5, (List.forall_mem_cons.mpr ⟨sw_ne (v := (6 : Int32)) (by decide) n6, (List.forall_mem_cons.mpr ⟨sw_ne (v := (7 : Int32)) (by decide) n7, (List.forall_mem_cons.mpr ⟨sw_ne (v := (8 : Int32)) (by decide) n8, (fun _ z => nomatch z)⟩)⟩)⟩)⟩)⟩)⟩)⟩)⟩)⟩)) (by decide) ?_
    refine lv_iconst (v := (0 : Int32)) (pc := 124) hx hb dX4_count_124 (by decide) ?_
    refine lv_istore_n (i := 2) (lv' := [(2, .int (0 : Int32)), (0, rv x0), (1, .int x1)]) (pc := 125) hx hb dX4_count_125 rfl hl (by decide) rfl (fun ls hl => ?_)
    refine lv_iconst (v := (0 : Int32)) (pc := 126) hx hb dX4_count_126 (by decide) ?_
    refine lv_istore_n (i := 3) (lv' := [(3, .int (0 : Int32)), (2, .int (0 : Int32)), (0, rv x0), (1, .int x1)]) (pc := 127) hx hb dX4_count_127 rfl hl (by decide) rfl (fun ls hl => ?_)
    exact b_X4_count_128 C FU x0 (0 : Int32) (0 : Int32) h16 H locs cells slots ls hH hL (lv_sub hl [2, 1, 0] rfl) hrun
  · have hrun := ite_t hrun c_
    refine lv_iconst (v := (0 : Int32)) (pc := 17) hx hb dX4_count_17 (by decide) ?_
    exact V_iret (pc := 18) C hH hL hrun dX4_count_18

theorem m_X4_count {l : Launch} {D : va_G} {Hs : Heap} {h : Hp} {rr : (Int32 ⊕ Ex) × Hp} (hl9 : l.stackTraces = false) {x0 : Nat} {x1 : Int32} (hrun : f_X4_count x0 x1 h = some rr) : CM l yX4_count (ws_ yX4_count cX4_count 4 (some .int)) 6 108 iI [rv x0, .int x1] D Hs h rr := by
  refine CM.of (lv := [(0, rv x0), (1, .int x1)]) (plainFor_of_name (by decide)) hl9 (by simp [lv_args, rv_cat, cat_i, cat_l, cat_f, cat_d]) (by simp [lg_sl, rv_cat, cat_i, cat_l, cat_f, cat_d]) ?_
  intro p e R s m args below meth c H ls C hH hl hin
  exact b_X4_count C x0 x1 _ H [] _ _ ls hH (fun _ q => nomatch q) (lv_sub hl [0, 1] rfl) hrun

/-! Massclaim$Out.all()J -/
def f_X3_all  (x0 : Nat) (h : Hp) : Rt Int64 :=
  gd (kC h x0 = 3) <| bd (f_X3_lawyers x0 h) fun v2 h3 => gd (kC h3 x0 = 3) <| some (.inl ((((((kL h 200 x0) + v2) + (kL h3 202 x0)) + (kL h3 203 x0)) + (kL h3 204 x0)) + (kL h3 205 x0)), h3)
theorem b_X3_all {rr : (Int64 ⊕ Ex) × Hp}  (C : CX p l R s m args meth c D Hs cX3_all "Massclaim$Out" 1 (some .long) [] 2 27)  : ∀ (x0 : Nat) (h : Hp) (H : Heap) (locs : List Loc) (cells slots : Nat) (ls : Array Slot), HP D Hs h H → LO Hs locs → lv_has ls 1 [(0, rv x0)] → f_X3_all x0 h = some rr → W p l e R s m args below meth c H locs cells slots (ZM D Hs iL rr below args s) (F0 m 0 ls []) := by
  obtain ⟨⟨hx, hb, hml, hown, hts⟩, -⟩ := id C
  have hl9 := C.2.1.2.2.1
  intro x0 h H locs cells slots ls hH hL hl hrun
  unfold f_X3_all at hrun
  refine V_aload_n (pc := 0) hx hb dX3_all_0 rfl (lv_at hl 0 rfl) ?_
  obtain ⟨c1, hrun⟩ := gd_some hrun
  refine V_getL (pc := 1) C hH fr_X3_15 dX3_all_1 c1 rfl ?_
  refine V_aload_n (pc := 4) hx hb dX3_all_4 rfl (lv_at hl 0 rfl) ?_
  refine V_bd (pc := 5) C hL rfl hrun (fun rr1 e1 => Z_runV (rest := [.long (kL h 200 x0)]) C hH (m_X3_lawyers hl9 e1) wV_X3_19 c1 rfl (by decide) rfl rfl ⟨by decide, by decide⟩ rfl (Nat.le_of_ble_eq_true rfl) hl.1 dX3_all_5) (fun v2 h3 H locs cells slots hH hL hrun => ?_)
  refine lv_ladd (pc := 8) hx hb dX3_all_8 ?_
  refine V_aload_n (pc := 9) hx hb dX3_all_9 rfl (lv_at hl 0 rfl) ?_
  obtain ⟨c4, hrun⟩ := gd_some hrun
  refine V_getL (pc := 10) C hH fr_X3_22 dX3_all_10 c4 rfl ?_
  refine lv_ladd (pc := 13) hx hb dX3_all_13 ?_
  refine V_aload_n (pc := 14) hx hb dX3_all_14 rfl (lv_at hl 0 rfl) ?_
  refine V_getL (pc := 15) C hH fr_X3_25 dX3_all_15 c4 rfl ?_
  refine lv_ladd (pc := 18) hx hb dX3_all_18 ?_
  refine V_aload_n (pc := 19) hx hb dX3_all_19 rfl (lv_at hl 0 rfl) ?_
  refine V_getL (pc := 20) C hH fr_X3_28 dX3_all_20 c4 rfl ?_
  refine lv_ladd (pc := 23) hx hb dX3_all_23 ?_
  refine V_aload_n (pc := 24) hx hb dX3_all_24 rfl (lv_at hl 0 rfl) ?_
  refine V_getL (pc := 25) C hH fr_X3_31 dX3_all_25 c4 rfl ?_
  refine lv_ladd (pc := 28) hx hb dX3_all_28 ?_
  exact V_lret (pc := 29) C hH hL hrun dX3_all_29

theorem m_X3_all {l : Launch} {D : va_G} {Hs : Heap} {h : Hp} {rr : (Int64 ⊕ Ex) × Hp} (hl9 : l.stackTraces = false) {x0 : Nat} (hrun : f_X3_all x0 h = some rr) : CM l yX3_all (ws_ yX3_all cX3_all 1 (some .long)) 2 27 iL [rv x0] D Hs h rr := by
  refine CM.of (lv := [(0, rv x0)]) (plainFor_of_name (by decide)) hl9 (by simp [lv_args, rv_cat, cat_i, cat_l, cat_f, cat_d]) (by simp [lg_sl, rv_cat, cat_i, cat_l, cat_f, cat_d]) ?_
  intro p e R s m args below meth c H ls C hH hl hin
  exact b_X3_all C x0 _ H [] _ _ ls hH (fun _ q => nomatch q) (lv_sub hl [0] rfl) hrun

/-! Massclaim.errors()I -/
def f_X1_errors_87 (k39 : Nat → Int32 → Nat → Hp → Rt Int32) (x0 : Nat) (x2 : Nat) (y0 : Int32) (y1 : Int32) (h : Hp) : Rt Int32 :=
  vl (y0 + y1) fun v1 => k39 x0 v1 x2 h
def f_X1_errors_39  : Nat → Nat → Int32 → Nat → Hp → Rt Int32
  | 0, _, _, _, _ => none
  | n + 1, x0, x1, x2, h => gd (kC h x2 = 19) <| bd (f_J16_hasNext x2 h) fun v2 h3 => if v2 = 0 then
  (some (.inl x1, h3))
  else
  (gd (kC h3 x2 = 19) <| bd (f_J16_next x2 h3) fun v5 h6 => gd (v5 = 0 ∨ kC h6 v5 = 12) <| gd (kC h6 v5 = 12) <| gd (kC h6 x0 = 1) <| bd (f_X1_part (kL h6 1107 v5) ((kI h6 16 x0).toInt64) (100 : Int64) h6) fun v11 h12 => if (kL h6 1106 v5) ≤ v11 then
  (f_X1_errors_87 (f_X1_errors_39 n) x0 x2 x1 (0 : Int32) h12)
  else
  (f_X1_errors_87 (f_X1_errors_39 n) x0 x2 x1 (1 : Int32) h12))
def f_X1_errors_30  (x0 : Nat) (y0 : Int32) (h : Hp) : Rt Int32 :=
  gd (kC h x0 = 1) <| gd (kC h (kR h 3 x0) = 2) <| bd (f_X2_iterator (kR h 3 x0) h) fun v14 h15 => f_X1_errors_39 FU x0 y0 v14 h15
def f_X1_errors  (x0 : Nat) (h : Hp) : Rt Int32 :=
  gd (kC h x0 = 1) <| bd (f_X1_paidIn x0 h) fun v17 h18 => gd (kC h18 x0 = 1) <| gd (kC h18 (kR h18 8 x0) = 3) <| bd (f_X3_all (kR h18 8 x0) h18) fun v21 h22 => gd (kC h22 x0 = 1) <| bd (f_X1_lying x0 h22) fun v24 h25 => if v17 = (((kL h18 17 x0) + v21) + v24) then
  (f_X1_errors_30 x0 (0 : Int32) h25)
  else
  (f_X1_errors_30 x0 (1 : Int32) h25)
theorem b_X1_errors_87 {rr : (Int32 ⊕ Ex) × Hp} {k39 : Nat → Int32 → Nat → Hp → Rt Int32} (C : CX p l R s m args meth c D Hs cX1_errors "Massclaim" 4 (some .int) [] 6 111) (K39 : ∀ (x0 : Nat) (x1 : Int32) (x2 : Nat) (h : Hp) (H : Heap) (locs : List Loc) (cells slots : Nat) (ls : Array Slot), HP D Hs h H → LO Hs locs → lv_has ls 4 [(0, rv x0), (1, .int x1), (2, rv x2)] → k39 x0 x1 x2 h = some rr → W p l e R s m args below meth c H locs cells slots (ZM D Hs iI rr below args s) (F0 m 39 ls [])) : ∀ (x0 : Nat) (x2 : Nat) (y0 : Int32) (y1 : Int32) (h : Hp) (H : Heap) (locs : List Loc) (cells slots : Nat) (ls : Array Slot), HP D Hs h H → LO Hs locs → lv_has ls 4 [(0, rv x0), (2, rv x2)] → f_X1_errors_87 k39 x0 x2 y0 y1 h = some rr → W p l e R s m args below meth c H locs cells slots (ZM D Hs iI rr below args s) (F0 m 87 ls [.int y1, .int y0]) := by
  obtain ⟨⟨hx, hb, hml, hown, hts⟩, -⟩ := id C
  have hl9 := C.2.1.2.2.1
  intro x0 x2 y0 y1 h H locs cells slots ls hH hL hl hrun
  unfold f_X1_errors_87 at hrun
  refine lv_iadd (pc := 87) hx hb dX1_errors_87 ?_
  refine lv_topi (fun v1 ev1 => ?_)
  have hrun := vl_at hrun v1 ev1
  refine lv_istore_n (i := 1) (lv' := [(1, .int v1), (0, rv x0), (2, rv x2)]) (pc := 88) hx hb dX1_errors_88 rfl hl (by decide) (by simp [rv_cat, cat_i, cat_l, cat_f, cat_d]) (fun ls hl => ?_)
  refine lv_goto (tgt := 39) (pc := 89) hx hb dX1_errors_89 (by decide) ?_
  exact K39 x0 v1 x2 h H locs cells slots ls hH hL (lv_sub hl [1, 0, 2] rfl) hrun

theorem b_X1_errors_39 {rr : (Int32 ⊕ Ex) × Hp}  (C : CX p l R s m args meth c D Hs cX1_errors "Massclaim" 4 (some .int) [] 6 111)  : ∀ (n : Nat) (x0 : Nat) (x1 : Int32) (x2 : Nat) (h : Hp) (H : Heap) (locs : List Loc) (cells slots : Nat) (ls : Array Slot), HP D Hs h H → LO Hs locs → lv_has ls 4 [(0, rv x0), (1, .int x1), (2, rv x2)] → f_X1_errors_39 n x0 x1 x2 h = some rr → W p l e R s m args below meth c H locs cells slots (ZM D Hs iI rr below args s) (F0 m 39 ls []) := by
  obtain ⟨⟨hx, hb, hml, hown, hts⟩, -⟩ := id C
  have hl9 := C.2.1.2.2.1
  intro n
  induction n with
  | zero =>
    intro x0 x1 x2 h H locs cells slots ls hH hL hl hrun
    cases (show (none : Option _) = some rr from hrun)
  | succ n ih =>
    intro x0 x1 x2 h H locs cells slots ls hH hL hl hrun
    rw [f_X1_errors_39] at hrun
    refine V_aload_n (pc := 39) hx hb dX1_errors_39 rfl (lv_at hl 2 rfl) ?_
    obtain ⟨c4, hrun⟩ := gd_some hrun
    refine V_bd5 (pc := 40) C hL rfl hrun (fun rr1 e1 => Z_runF (rest := []) C hH (m_J16_hasNext hl9 e1) rfl wF_X1_212_J16 c4 (by decide) rfl ⟨by decide, by decide⟩ rfl (Nat.le_of_ble_eq_true rfl) hl.1 dX1_errors_40) (fun v2 h3 H locs cells slots hH hL hrun => ?_)
    refine lv_if_eq (tgt := 92) (pc := 45) hx hb dX1_errors_45 (by decide) (fun c_ => ?_) (fun c_ => ?_)
    · have hrun := ite_t hrun c_
      refine lv_iload_n (pc := 92) hx hb dX1_errors_92 rfl (lv_at hl 1 rfl) ?_
      exact V_iret (pc := 93) C hH hL hrun dX1_errors_93
    · have hrun := ite_f hrun c_
      refine V_aload_n (pc := 48) hx hb dX1_errors_48 rfl (lv_at hl 2 rfl) ?_
      obtain ⟨c7, hrun⟩ := gd_some hrun
      refine V_bd5 (pc := 49) C hL rfl hrun (fun rr1 e1 => Z_runF (rest := []) C hH (m_J16_next hl9 e1) rfl wF_X1_217_J16 c7 (by decide) rfl ⟨by decide, by decide⟩ rfl (Nat.le_of_ble_eq_true rfl) hl.1 dX1_errors_49) (fun v5 h6 H locs cells slots hH hL hrun => ?_)
      obtain ⟨c8, hrun⟩ := gd_some hrun
      refine V_castX (pc := 54) (ci := 11) C hH rfl (by decide) q403 dX1_errors_54 c8 ?_
      refine V_astore_n (i := 3) (lv' := [(3, rv v5), (0, rv x0), (1, .int x1), (2, rv x2)]) (pc := 57) hx hb dX1_errors_57 rfl hl (by decide) (by simp [rv_cat, cat_i, cat_l, cat_f, cat_d]) (fun ls hl => ?_)
      refine lv_iload_n (pc := 58) hx hb dX1_errors_58 rfl (lv_at hl 2 rfl) ?_
      refine V_aload_n (pc := 59) hx hb dX1_errors_59 rfl (lv_at hl 0 rfl) ?_
      obtain ⟨c9, hrun⟩ := gd_some hrun
      refine V_getNL (pc := 60) C hH fn_X1_440 dX1_errors_60 c9 rfl ?_
      refine V_aload_n (pc := 63) hx hb dX1_errors_63 rfl (lv_at hl 0 rfl) ?_
      refine V_getNL (pc := 64) C hH fn_X1_527 dX1_errors_64 c9 rfl ?_
      refine V_aload_n (pc := 67) hx hb dX1_errors_67 rfl (lv_at hl 1 rfl) ?_
      obtain ⟨c10, hrun⟩ := gd_some hrun
      refine V_getI (pc := 68) C hH fr_X1_108 dX1_errors_68 c10 rfl ?_
      refine lv_i2l (pc := 71) hx hb dX1_errors_71 rfl ?_
      refine lv_ldc2 (pc := 72) hx hb hown (hts _ q404) dX1_errors_72 ?_
      refine V_bd (pc := 75) C hL rfl hrun (fun rr1 e1 => Z_runS (rest := [.long (kL h6 1106 v5), .int x1]) C hH (m_X1_part hl9 e1) wS_X1_347 rfl ⟨by decide, by decide⟩ rfl (Nat.le_of_ble_eq_true rfl) hl.1 dX1_errors_75) (fun v11 h12 H locs cells slots hH hL hrun => ?_)
      refine V_lcmp_le (tgt := 86) (pc := 78) hx hb dX1_errors_78 dX1_errors_79 (by decide) (fun c_ => ?_) (fun c_ => ?_)
      · have hrun := ite_t hrun c_
        refine lv_iconst (v := (0 : Int32)) (pc := 86) hx hb dX1_errors_86 (by decide) ?_
        exact b_X1_errors_87 C ih x0 x2 x1 (0 : Int32) h12 H locs cells slots ls hH hL (lv_sub hl [1, 3] rfl) hrun
      · have hrun := ite_f hrun c_
        refine lv_iconst (v := (1 : Int32)) (pc := 82) hx hb dX1_errors_82 (by decide) ?_
        refine lv_goto (tgt := 87) (pc := 83) hx hb dX1_errors_83 (by decide) ?_
        exact b_X1_errors_87 C ih x0 x2 x1 (1 : Int32) h12 H locs cells slots ls hH hL (lv_sub hl [1, 3] rfl) hrun

theorem b_X1_errors_30 {rr : (Int32 ⊕ Ex) × Hp}  (C : CX p l R s m args meth c D Hs cX1_errors "Massclaim" 4 (some .int) [] 6 111)  : ∀ (x0 : Nat) (y0 : Int32) (h : Hp) (H : Heap) (locs : List Loc) (cells slots : Nat) (ls : Array Slot), HP D Hs h H → LO Hs locs → lv_has ls 4 [(0, rv x0)] → f_X1_errors_30 x0 y0 h = some rr → W p l e R s m args below meth c H locs cells slots (ZM D Hs iI rr below args s) (F0 m 30 ls [.int y0]) := by
  obtain ⟨⟨hx, hb, hml, hown, hts⟩, -⟩ := id C
  have hl9 := C.2.1.2.2.1
  intro x0 y0 h H locs cells slots ls hH hL hl hrun
  unfold f_X1_errors_30 at hrun
  refine lv_istore_n (i := 1) (lv' := [(1, .int y0), (0, rv x0)]) (pc := 30) hx hb dX1_errors_30 rfl hl (by decide) (by simp [rv_cat, cat_i, cat_l, cat_f, cat_d]) (fun ls hl => ?_)
  refine V_aload_n (pc := 31) hx hb dX1_errors_31 rfl (lv_at hl 1 rfl) ?_
  obtain ⟨c13, hrun⟩ := gd_some hrun
  refine V_getR (pc := 32) C hH fr_X1_52 dX1_errors_32 c13 rfl ?_
  obtain ⟨c16, hrun⟩ := gd_some hrun
  refine V_bd (pc := 35) C hL rfl hrun (fun rr1 e1 => Z_runV (rest := []) C hH (m_X2_iterator hl9 e1) wV_X1_208 c16 rfl (by decide) rfl rfl ⟨by decide, by decide⟩ rfl (Nat.le_of_ble_eq_true rfl) hl.1 dX1_errors_35) (fun v14 h15 H locs cells slots hH hL hrun => ?_)
  refine V_astore_n (i := 2) (lv' := [(2, rv v14), (1, .int y0), (0, rv x0)]) (pc := 38) hx hb dX1_errors_38 rfl hl (by decide) rfl (fun ls hl => ?_)
  exact b_X1_errors_39 C FU x0 y0 v14 h15 H locs cells slots ls hH hL (lv_sub hl [2, 1, 0] rfl) hrun

theorem b_X1_errors {rr : (Int32 ⊕ Ex) × Hp}  (C : CX p l R s m args meth c D Hs cX1_errors "Massclaim" 4 (some .int) [] 6 111)  : ∀ (x0 : Nat) (h : Hp) (H : Heap) (locs : List Loc) (cells slots : Nat) (ls : Array Slot), HP D Hs h H → LO Hs locs → lv_has ls 4 [(0, rv x0)] → f_X1_errors x0 h = some rr → W p l e R s m args below meth c H locs cells slots (ZM D Hs iI rr below args s) (F0 m 0 ls []) := by
  obtain ⟨⟨hx, hb, hml, hown, hts⟩, -⟩ := id C
  have hl9 := C.2.1.2.2.1
  intro x0 h H locs cells slots ls hH hL hl hrun
  unfold f_X1_errors at hrun
  refine V_aload_n (pc := 0) hx hb dX1_errors_0 rfl (lv_at hl 0 rfl) ?_
  obtain ⟨c19, hrun⟩ := gd_some hrun
  refine V_bd (pc := 1) C hL rfl hrun (fun rr1 e1 => Z_runV (rest := []) C hH (m_X1_paidIn hl9 e1) wV_X1_502 c19 rfl (by decide) rfl rfl ⟨by decide, by decide⟩ rfl (Nat.le_of_ble_eq_true rfl) hl.1 dX1_errors_1) (fun v17 h18 H locs cells slots hH hL hrun => ?_)
  refine V_aload_n (pc := 4) hx hb dX1_errors_4 rfl (lv_at hl 0 rfl) ?_
  obtain ⟨c20, hrun⟩ := gd_some hrun
  refine V_getL (pc := 5) C hH fr_X1_111 dX1_errors_5 c20 rfl ?_
  refine V_aload_n (pc := 8) hx hb dX1_errors_8 rfl (lv_at hl 0 rfl) ?_
  refine V_getR (pc := 9) C hH fr_X1_74 dX1_errors_9 c20 rfl ?_
  obtain ⟨c23, hrun⟩ := gd_some hrun
  refine V_bd (pc := 12) C hL rfl hrun (fun rr1 e1 => Z_runV (rest := [.long (kL h18 17 x0), .long v17]) C hH (m_X3_all hl9 e1) wV_X1_524 c23 rfl (by decide) rfl rfl ⟨by decide, by decide⟩ rfl (Nat.le_of_ble_eq_true rfl) hl.1 dX1_errors_12) (fun v21 h22 H locs cells slots hH hL hrun => ?_)
  refine lv_ladd (pc := 15) hx hb dX1_errors_15 ?_
  refine V_aload_n (pc := 16) hx hb dX1_errors_16 rfl (lv_at hl 0 rfl) ?_
  obtain ⟨c26, hrun⟩ := gd_some hrun
  refine V_bd (pc := 17) C hL rfl hrun (fun rr1 e1 => Z_runV (rest := [.long ((kL h18 17 x0) + v21), .long v17]) C hH (m_X1_lying hl9 e1) wV_X1_514 c26 rfl (by decide) rfl rfl ⟨by decide, by decide⟩ rfl (Nat.le_of_ble_eq_true rfl) hl.1 dX1_errors_17) (fun v24 h25 H locs cells slots hH hL hrun => ?_)
  refine lv_ladd (pc := 20) hx hb dX1_errors_20 ?_
  refine V_lcmp_ne (tgt := 29) (pc := 21) hx hb dX1_errors_21 dX1_errors_22 (by decide) (fun c_ => ?_) (fun c_ => ?_)
  · have hrun := ite_f hrun c_
    refine lv_iconst (v := (1 : Int32)) (pc := 29) hx hb dX1_errors_29 (by decide) ?_
    exact b_X1_errors_30 C x0 (1 : Int32) h25 H locs cells slots ls hH hL (lv_sub hl [0] rfl) hrun
  · have hrun := ite_t hrun c_
    refine lv_iconst (v := (0 : Int32)) (pc := 25) hx hb dX1_errors_25 (by decide) ?_
    refine lv_goto (tgt := 30) (pc := 26) hx hb dX1_errors_26 (by decide) ?_
    exact b_X1_errors_30 C x0 (0 : Int32) h25 H locs cells slots ls hH hL (lv_sub hl [0] rfl) hrun

theorem m_X1_errors {l : Launch} {D : va_G} {Hs : Heap} {h : Hp} {rr : (Int32 ⊕ Ex) × Hp} (hl9 : l.stackTraces = false) {x0 : Nat} (hrun : f_X1_errors x0 h = some rr) : CM l yX1_errors (ws_ yX1_errors cX1_errors 4 (some .int)) 6 111 iI [rv x0] D Hs h rr := by
  refine CM.of (lv := [(0, rv x0)]) (plainFor_of_name (by decide)) hl9 (by simp [lv_args, rv_cat, cat_i, cat_l, cat_f, cat_d]) (by simp [lg_sl, rv_cat, cat_i, cat_l, cat_f, cat_d]) ?_
  intro p e R s m args below meth c H ls C hH hl hin
  exact b_X1_errors C x0 _ H [] _ _ ls hH (fun _ q => nomatch q) (lv_sub hl [0] rfl) hrun

/-! MassclaimModel.errors()I -/
def f_X4_errors  (x0 : Nat) (h : Hp) : Rt Int32 :=
  gd (kC h x0 = 4) <| vl (sI h 300 x0 (0 : Int32)) fun h2 => some (.inl (0 : Int32), h2)
theorem b_X4_errors {rr : (Int32 ⊕ Ex) × Hp}  (C : CX p l R s m args meth c D Hs cX4_errors "MassclaimModel" 1 (some .int) [] 1 0)  : ∀ (x0 : Nat) (h : Hp) (H : Heap) (locs : List Loc) (cells slots : Nat) (ls : Array Slot), HP D Hs h H → LO Hs locs → lv_has ls 1 [(0, rv x0)] → f_X4_errors x0 h = some rr → W p l e R s m args below meth c H locs cells slots (ZM D Hs iI rr below args s) (F0 m 0 ls []) := by
  obtain ⟨⟨hx, hb, hml, hown, hts⟩, -⟩ := id C
  have hl9 := C.2.1.2.2.1
  intro x0 h H locs cells slots ls hH hL hl hrun
  unfold f_X4_errors at hrun
  refine V_aload_n (pc := 0) hx hb dX4_errors_0 rfl (lv_at hl 0 rfl) ?_
  refine lv_iconst (v := (0 : Int32)) (pc := 1) hx hb dX4_errors_1 (by decide) ?_
  obtain ⟨c1, hrun⟩ := gd_some hrun
  refine V_putI (pc := 2) C hH hL fl_X4_1 dX4_errors_2 c1 (fok_i _) rfl (fun q => Bool.noConfusion q) hrun (fun h2 H locs hH hL hrun => ?_)
  refine lv_iconst (v := (0 : Int32)) (pc := 5) hx hb dX4_errors_5 (by decide) ?_
  exact V_iret (pc := 6) C hH hL hrun dX4_errors_6

theorem m_X4_errors {l : Launch} {D : va_G} {Hs : Heap} {h : Hp} {rr : (Int32 ⊕ Ex) × Hp} (hl9 : l.stackTraces = false) {x0 : Nat} (hrun : f_X4_errors x0 h = some rr) : CM l yX4_errors (ws_ yX4_errors cX4_errors 1 (some .int)) 1 0 iI [rv x0] D Hs h rr := by
  refine CM.of (lv := [(0, rv x0)]) (plainFor_of_name (by decide)) hl9 (by simp [lv_args, rv_cat, cat_i, cat_l, cat_f, cat_d]) (by simp [lg_sl, rv_cat, cat_i, cat_l, cat_f, cat_d]) ?_
  intro p e R s m args below meth c H ls C hH hl hin
  exact b_X4_errors C x0 _ H [] _ _ ls hH (fun _ q => nomatch q) (lv_sub hl [0] rfl) hrun

/-! java/lang/Float.isNaN(F)Z -/
def f_J22_isNaN_11  (y0 : Int32) (h : Hp) : Rt Int32 :=
  gd (b01 y0) <| some (.inl y0, h)
def f_J22_isNaN  (x0 : UInt32) (h : Hp) : Rt Int32 :=
  if (Op.cmpValue (FP.fcmp x0 x0) .l) = 0 then
  (f_J22_isNaN_11 (0 : Int32) h)
  else
  (f_J22_isNaN_11 (1 : Int32) h)
theorem b_J22_isNaN_11 {rr : (Int32 ⊕ Ex) × Hp}  (C : CX p l R s m args meth c D Hs cJ22_isNaN "java/lang/Float" 1 (some .boolean) [] 1 0)  : ∀ (y0 : Int32) (h : Hp) (H : Heap) (locs : List Loc) (cells slots : Nat) (ls : Array Slot), HP D Hs h H → LO Hs locs → lv_has ls 1 [] → f_J22_isNaN_11 y0 h = some rr → W p l e R s m args below meth c H locs cells slots (ZM D Hs iI rr below args s) (F0 m 11 ls [.int y0]) := by
  obtain ⟨⟨hx, hb, hml, hown, hts⟩, -⟩ := id C
  have hl9 := C.2.1.2.2.1
  intro y0 h H locs cells slots ls hH hL hl hrun
  unfold f_J22_isNaN_11 at hrun
  obtain ⟨c1, hrun⟩ := gd_some hrun
  exact V_zret (pc := 11) C hH hL c1 hrun dJ22_isNaN_11

theorem b_J22_isNaN {rr : (Int32 ⊕ Ex) × Hp}  (C : CX p l R s m args meth c D Hs cJ22_isNaN "java/lang/Float" 1 (some .boolean) [] 1 0)  : ∀ (x0 : UInt32) (h : Hp) (H : Heap) (locs : List Loc) (cells slots : Nat) (ls : Array Slot), HP D Hs h H → LO Hs locs → lv_has ls 1 [(0, .float x0)] → f_J22_isNaN x0 h = some rr → W p l e R s m args below meth c H locs cells slots (ZM D Hs iI rr below args s) (F0 m 0 ls []) := by
  obtain ⟨⟨hx, hb, hml, hown, hts⟩, -⟩ := id C
  have hl9 := C.2.1.2.2.1
  intro x0 h H locs cells slots ls hH hL hl hrun
  unfold f_J22_isNaN at hrun
  refine lv_fload_n (pc := 0) hx hb dJ22_isNaN_0 rfl (lv_at hl 0 rfl) ?_
  refine lv_fload_n (pc := 1) hx hb dJ22_isNaN_1 rfl (lv_at hl 0 rfl) ?_
  refine lv_fcmp (pc := 2) hx hb dJ22_isNaN_2 ?_
  refine lv_if_eq (tgt := 10) (pc := 3) hx hb dJ22_isNaN_3 (by decide) (fun c_ => ?_) (fun c_ => ?_)
  · have hrun := ite_t hrun c_
    refine lv_iconst (v := (0 : Int32)) (pc := 10) hx hb dJ22_isNaN_10 (by decide) ?_
    exact b_J22_isNaN_11 C (0 : Int32) h H locs cells slots ls hH hL (lv_sub hl [] rfl) hrun
  · have hrun := ite_f hrun c_
    refine lv_iconst (v := (1 : Int32)) (pc := 6) hx hb dJ22_isNaN_6 (by decide) ?_
    refine lv_goto (tgt := 11) (pc := 7) hx hb dJ22_isNaN_7 (by decide) ?_
    exact b_J22_isNaN_11 C (1 : Int32) h H locs cells slots ls hH hL (lv_sub hl [] rfl) hrun

theorem m_J22_isNaN {l : Launch} {D : va_G} {Hs : Heap} {h : Hp} {rr : (Int32 ⊕ Ex) × Hp} (hl9 : l.stackTraces = false) {x0 : UInt32} (hrun : f_J22_isNaN x0 h = some rr) : CM l yJ22_isNaN (ws_ yJ22_isNaN cJ22_isNaN 1 (some .boolean)) 1 0 iI [.float x0] D Hs h rr := by
  refine CM.of (lv := [(0, .float x0)]) (by decide +kernel) hl9 (by simp [lv_args, rv_cat, cat_i, cat_l, cat_f, cat_d]) (by simp [lg_sl, rv_cat, cat_i, cat_l, cat_f, cat_d]) ?_
  intro p e R s m args below meth c H ls C hH hl hin
  exact b_J22_isNaN C x0 _ H [] _ _ ls hH (fun _ q => nomatch q) (lv_sub hl [0] rfl) hrun

/-! java/lang/Float.floatToIntBits(F)I -/
def f_J22_floatToIntBits  (x0 : UInt32) (h : Hp) : Rt Int32 :=
  bd (f_J22_isNaN x0 h) fun v1 h2 => if v1 = 0 then
  (some (.inl ((x0).toInt32), h2))
  else
  (some (.inl (2143289344 : Int32), h2))
theorem b_J22_floatToIntBits {rr : (Int32 ⊕ Ex) × Hp}  (C : CX p l R s m args meth c D Hs cJ22_floatToIntBits "java/lang/Float" 1 (some .int) [] 2 30)  : ∀ (x0 : UInt32) (h : Hp) (H : Heap) (locs : List Loc) (cells slots : Nat) (ls : Array Slot), HP D Hs h H → LO Hs locs → lv_has ls 1 [(0, .float x0)] → f_J22_floatToIntBits x0 h = some rr → W p l e R s m args below meth c H locs cells slots (ZM D Hs iI rr below args s) (F0 m 0 ls []) := by
  obtain ⟨⟨hx, hb, hml, hown, hts⟩, -⟩ := id C
  have hl9 := C.2.1.2.2.1
  intro x0 h H locs cells slots ls hH hL hl hrun
  unfold f_J22_floatToIntBits at hrun
  refine lv_fload_n (pc := 0) hx hb dJ22_floatToIntBits_0 rfl (lv_at hl 0 rfl) ?_
  refine V_bd (pc := 1) C hL rfl hrun (fun rr1 e1 => Z_runS (rest := []) C hH (m_J22_isNaN hl9 e1) wS_J22_59 rfl ⟨by decide, by decide⟩ rfl (Nat.le_of_ble_eq_true rfl) hl.1 dJ22_floatToIntBits_1) (fun v1 h2 H locs cells slots hH hL hrun => ?_)
  refine lv_if_ne (tgt := 12) (pc := 4) hx hb dJ22_floatToIntBits_4 (by decide) (fun c_ => ?_) (fun c_ => ?_)
  · have hrun := ite_f hrun c_
    refine lv_ldc (pc := 12) hx hb hown (hts _ q437) dJ22_floatToIntBits_12 ?_
    exact V_iret (pc := 14) C hH hL hrun dJ22_floatToIntBits_14
  · have hrun := ite_t hrun c_
    refine lv_fload_n (pc := 7) hx hb dJ22_floatToIntBits_7 rfl (lv_at hl 0 rfl) ?_
    refine V_fraw (pc := 8) C q434 dJ22_floatToIntBits_8 (by decide) (by simp [csum, rv_cat, cat_i, cat_l, cat_f, cat_d]) hl.1 ?_
    exact V_iret (pc := 11) C hH hL hrun dJ22_floatToIntBits_11

theorem m_J22_floatToIntBits {l : Launch} {D : va_G} {Hs : Heap} {h : Hp} {rr : (Int32 ⊕ Ex) × Hp} (hl9 : l.stackTraces = false) {x0 : UInt32} (hrun : f_J22_floatToIntBits x0 h = some rr) : CM l yJ22_floatToIntBits (ws_ yJ22_floatToIntBits cJ22_floatToIntBits 1 (some .int)) 2 30 iI [.float x0] D Hs h rr := by
  refine CM.of (lv := [(0, .float x0)]) (by decide +kernel) hl9 (by simp [lv_args, rv_cat, cat_i, cat_l, cat_f, cat_d]) (by simp [lg_sl, rv_cat, cat_i, cat_l, cat_f, cat_d]) ?_
  intro p e R s m args below meth c H ls C hH hl hin
  exact b_J22_floatToIntBits C x0 _ H [] _ _ ls hH (fun _ q => nomatch q) (lv_sub hl [0] rfl) hrun

/-! Massclaim.paidBits()I -/
def f_X1_paidBits_73  (y0 : Int32) (h : Hp) : Rt Int32 :=
  some (.inl y0, h)
def f_X1_paidBits_13  : Nat → Int64 → Int64 → Nat → Hp → Rt Int32
  | 0, _, _, _, _ => none
  | n + 1, x1, x3, x5, h => gd (kC h x5 = 19) <| bd (f_J16_hasNext x5 h) fun v1 h2 => if v1 = 0 then
  (if x3 = (0 : Int64) then
  (f_X1_paidBits_73 (0 : Int32) h2)
  else
  (gd ((FP.fdiv (FP.l2f x1) (FP.l2f x3)) &&& 0x7fffffff ≤ 0x7f800000) <| bd (f_J22_floatToIntBits (FP.fdiv (FP.l2f x1) (FP.l2f x3)) h2) fun v5 h6 => f_X1_paidBits_73 v5 h6))
  else
  (gd (kC h2 x5 = 19) <| bd (f_J16_next x5 h2) fun v7 h8 => gd (v7 = 0 ∨ kC h8 v7 = 12) <| gd (kC h8 v7 = 12) <| vl (x1 + (kL h8 1106 v7)) fun v12 => bd (f_X12_value v7 h8) fun v13 h14 => vl (x3 + (v13.toInt64)) fun v15 => f_X1_paidBits_13 n v12 v15 x5 h14)
def f_X1_paidBits  (x0 : Nat) (h : Hp) : Rt Int32 :=
  gd (kC h x0 = 1) <| gd (kC h (kR h 3 x0) = 2) <| bd (f_X2_iterator (kR h 3 x0) h) fun v17 h18 => f_X1_paidBits_13 FU (0 : Int64) (0 : Int64) v17 h18
theorem b_X1_paidBits_73 {rr : (Int32 ⊕ Ex) × Hp}  (C : CX p l R s m args meth c D Hs cX1_paidBits "Massclaim" 7 (some .int) [] 4 81)  : ∀ (y0 : Int32) (h : Hp) (H : Heap) (locs : List Loc) (cells slots : Nat) (ls : Array Slot), HP D Hs h H → LO Hs locs → lv_has ls 7 [] → f_X1_paidBits_73 y0 h = some rr → W p l e R s m args below meth c H locs cells slots (ZM D Hs iI rr below args s) (F0 m 73 ls [.int y0]) := by
  obtain ⟨⟨hx, hb, hml, hown, hts⟩, -⟩ := id C
  have hl9 := C.2.1.2.2.1
  intro y0 h H locs cells slots ls hH hL hl hrun
  unfold f_X1_paidBits_73 at hrun
  exact V_iret (pc := 73) C hH hL hrun dX1_paidBits_73

theorem b_X1_paidBits_13 {rr : (Int32 ⊕ Ex) × Hp}  (C : CX p l R s m args meth c D Hs cX1_paidBits "Massclaim" 7 (some .int) [] 4 81)  : ∀ (n : Nat) (x1 : Int64) (x3 : Int64) (x5 : Nat) (h : Hp) (H : Heap) (locs : List Loc) (cells slots : Nat) (ls : Array Slot), HP D Hs h H → LO Hs locs → lv_has ls 7 [(1, .long x1), (3, .long x3), (5, rv x5)] → f_X1_paidBits_13 n x1 x3 x5 h = some rr → W p l e R s m args below meth c H locs cells slots (ZM D Hs iI rr below args s) (F0 m 13 ls []) := by
  obtain ⟨⟨hx, hb, hml, hown, hts⟩, -⟩ := id C
  have hl9 := C.2.1.2.2.1
  intro n
  induction n with
  | zero =>
    intro x1 x3 x5 h H locs cells slots ls hH hL hl hrun
    cases (show (none : Option _) = some rr from hrun)
  | succ n ih =>
    intro x1 x3 x5 h H locs cells slots ls hH hL hl hrun
    rw [f_X1_paidBits_13] at hrun
    refine V_aload (pc := 13) hx hb dX1_paidBits_13 (lv_at hl 2 rfl) ?_
    obtain ⟨c3, hrun⟩ := gd_some hrun
    refine V_bd5 (pc := 15) C hL rfl hrun (fun rr1 e1 => Z_runF (rest := []) C hH (m_J16_hasNext hl9 e1) rfl wF_X1_212_J16 c3 (by decide) rfl ⟨by decide, by decide⟩ rfl (Nat.le_of_ble_eq_true rfl) hl.1 dX1_paidBits_15) (fun v1 h2 H locs cells slots hH hL hrun => ?_)
    refine lv_if_eq (tgt := 55) (pc := 20) hx hb dX1_paidBits_20 (by decide) (fun c_ => ?_) (fun c_ => ?_)
    · have hrun := ite_t hrun c_
      refine lv_lload_n (pc := 55) hx hb dX1_paidBits_55 rfl (lv_at hl 1 rfl) ?_
      refine lv_lconst (v := (0 : Int64)) (pc := 56) hx hb dX1_paidBits_56 (by decide) ?_
      refine V_lcmp_ne (tgt := 65) (pc := 57) hx hb dX1_paidBits_57 dX1_paidBits_58 (by decide) (fun c_ => ?_) (fun c_ => ?_)
      · have hrun := ite_f hrun c_
        refine lv_lload_n (pc := 65) hx hb dX1_paidBits_65 rfl (lv_at hl 0 rfl) ?_
        refine lv_l2f (pc := 66) hx hb dX1_paidBits_66 ?_
        refine lv_lload_n (pc := 67) hx hb dX1_paidBits_67 rfl (lv_at hl 1 rfl) ?_
        refine lv_l2f (pc := 68) hx hb dX1_paidBits_68 ?_
        obtain ⟨c4, hrun⟩ := gd_some hrun
        refine lv_fdiv (pc := 69) hx hb dX1_paidBits_69 c4 ?_
        refine V_bd (pc := 70) C hL rfl hrun (fun rr1 e1 => Z_runS (rest := []) C hH (m_J22_floatToIntBits hl9 e1) wS_X1_530 rfl ⟨by decide, by decide⟩ rfl (Nat.le_of_ble_eq_true rfl) hl.1 dX1_paidBits_70) (fun v5 h6 H locs cells slots hH hL hrun => ?_)
        exact b_X1_paidBits_73 C v5 h6 H locs cells slots ls hH hL (lv_sub hl [] rfl) hrun
      · have hrun := ite_t hrun c_
        refine lv_iconst (v := (0 : Int32)) (pc := 61) hx hb dX1_paidBits_61 (by decide) ?_
        refine lv_goto (tgt := 73) (pc := 62) hx hb dX1_paidBits_62 (by decide) ?_
        exact b_X1_paidBits_73 C (0 : Int32) h2 H locs cells slots ls hH hL (lv_sub hl [] rfl) hrun
    · have hrun := ite_f hrun c_
      refine V_aload (pc := 23) hx hb dX1_paidBits_23 (lv_at hl 2 rfl) ?_
      obtain ⟨c9, hrun⟩ := gd_some hrun
      refine V_bd5 (pc := 25) C hL rfl hrun (fun rr1 e1 => Z_runF (rest := []) C hH (m_J16_next hl9 e1) rfl wF_X1_217_J16 c9 (by decide) rfl ⟨by decide, by decide⟩ rfl (Nat.le_of_ble_eq_true rfl) hl.1 dX1_paidBits_25) (fun v7 h8 H locs cells slots hH hL hrun => ?_)
      obtain ⟨c10, hrun⟩ := gd_some hrun
      refine V_castX (pc := 30) (ci := 11) C hH rfl (by decide) q403 dX1_paidBits_30 c10 ?_
      refine V_astore (i := 6) (lv' := [(6, rv v7), (1, .long x1), (3, .long x3), (5, rv x5)]) (pc := 33) hx hb dX1_paidBits_33 hl (by decide) (by simp [rv_cat, cat_i, cat_l, cat_f, cat_d]) (fun ls hl => ?_)
      refine lv_lload_n (pc := 35) hx hb dX1_paidBits_35 rfl (lv_at hl 1 rfl) ?_
      refine V_aload (pc := 36) hx hb dX1_paidBits_36 (lv_at hl 0 rfl) ?_
      obtain ⟨c11, hrun⟩ := gd_some hrun
      refine V_getNL (pc := 38) C hH fn_X1_440 dX1_paidBits_38 c11 rfl ?_
      refine lv_ladd (pc := 41) hx hb dX1_paidBits_41 ?_
      refine lv_topl (fun v12 ev12 => ?_)
      have hrun := vl_at hrun v12 ev12
      refine lv_lstore_n (i := 1) (lv' := [(1, .long v12), (6, rv v7), (3, .long x3), (5, rv x5)]) (pc := 42) hx hb dX1_paidBits_42 rfl hl (by decide) rfl (fun ls hl => ?_)
      refine lv_lload_n (pc := 43) hx hb dX1_paidBits_43 rfl (lv_at hl 2 rfl) ?_
      refine V_aload (pc := 44) hx hb dX1_paidBits_44 (lv_at hl 1 rfl) ?_
      refine V_bd (pc := 46) C hL rfl hrun (fun rr1 e1 => Z_runV (rest := [.long x3]) C hH (m_X12_value hl9 e1) wV_X1_437 c11 rfl (by decide) rfl rfl ⟨by decide, by decide⟩ rfl (Nat.le_of_ble_eq_true rfl) hl.1 dX1_paidBits_46) (fun v13 h14 H locs cells slots hH hL hrun => ?_)
      refine lv_i2l (pc := 49) hx hb dX1_paidBits_49 rfl ?_
      refine lv_ladd (pc := 50) hx hb dX1_paidBits_50 ?_
      refine lv_topl (fun v15 ev15 => ?_)
      have hrun := vl_at hrun v15 ev15
      refine lv_lstore_n (i := 3) (lv' := [(3, .long v15), (1, .long v12), (6, rv v7), (5, rv x5)]) (pc := 51) hx hb dX1_paidBits_51 rfl hl (by decide) rfl (fun ls hl => ?_)
      refine lv_goto (tgt := 13) (pc := 52) hx hb dX1_paidBits_52 (by decide) ?_
      exact ih v12 v15 x5 h14 H locs cells slots ls hH hL (lv_sub hl [1, 0, 3] rfl) hrun

theorem b_X1_paidBits {rr : (Int32 ⊕ Ex) × Hp}  (C : CX p l R s m args meth c D Hs cX1_paidBits "Massclaim" 7 (some .int) [] 4 81)  : ∀ (x0 : Nat) (h : Hp) (H : Heap) (locs : List Loc) (cells slots : Nat) (ls : Array Slot), HP D Hs h H → LO Hs locs → lv_has ls 7 [(0, rv x0)] → f_X1_paidBits x0 h = some rr → W p l e R s m args below meth c H locs cells slots (ZM D Hs iI rr below args s) (F0 m 0 ls []) := by
  obtain ⟨⟨hx, hb, hml, hown, hts⟩, -⟩ := id C
  have hl9 := C.2.1.2.2.1
  intro x0 h H locs cells slots ls hH hL hl hrun
  unfold f_X1_paidBits at hrun
  refine lv_lconst (v := (0 : Int64)) (pc := 0) hx hb dX1_paidBits_0 (by decide) ?_
  refine lv_lstore_n (i := 1) (lv' := [(1, .long (0 : Int64)), (0, rv x0)]) (pc := 1) hx hb dX1_paidBits_1 rfl hl (by decide) (by simp [rv_cat, cat_i, cat_l, cat_f, cat_d]) (fun ls hl => ?_)
  refine lv_lconst (v := (0 : Int64)) (pc := 2) hx hb dX1_paidBits_2 (by decide) ?_
  refine lv_lstore_n (i := 3) (lv' := [(3, .long (0 : Int64)), (1, .long (0 : Int64)), (0, rv x0)]) (pc := 3) hx hb dX1_paidBits_3 rfl hl (by decide) rfl (fun ls hl => ?_)
  refine V_aload_n (pc := 4) hx hb dX1_paidBits_4 rfl (lv_at hl 2 rfl) ?_
  obtain ⟨c16, hrun⟩ := gd_some hrun
  refine V_getR (pc := 5) C hH fr_X1_52 dX1_paidBits_5 c16 rfl ?_
  obtain ⟨c19, hrun⟩ := gd_some hrun
  refine V_bd (pc := 8) C hL rfl hrun (fun rr1 e1 => Z_runV (rest := []) C hH (m_X2_iterator hl9 e1) wV_X1_208 c19 rfl (by decide) rfl rfl ⟨by decide, by decide⟩ rfl (Nat.le_of_ble_eq_true rfl) hl.1 dX1_paidBits_8) (fun v17 h18 H locs cells slots hH hL hrun => ?_)
  refine V_astore (i := 5) (lv' := [(5, rv v17), (3, .long (0 : Int64)), (1, .long (0 : Int64)), (0, rv x0)]) (pc := 11) hx hb dX1_paidBits_11 hl (by decide) rfl (fun ls hl => ?_)
  exact b_X1_paidBits_13 C FU (0 : Int64) (0 : Int64) v17 h18 H locs cells slots ls hH hL (lv_sub hl [2, 1, 0] rfl) hrun

theorem m_X1_paidBits {l : Launch} {D : va_G} {Hs : Heap} {h : Hp} {rr : (Int32 ⊕ Ex) × Hp} (hl9 : l.stackTraces = false) {x0 : Nat} (hrun : f_X1_paidBits x0 h = some rr) : CM l yX1_paidBits (ws_ yX1_paidBits cX1_paidBits 7 (some .int)) 4 81 iI [rv x0] D Hs h rr := by
  refine CM.of (lv := [(0, rv x0)]) (plainFor_of_name (by decide)) hl9 (by simp [lv_args, rv_cat, cat_i, cat_l, cat_f, cat_d]) (by simp [lg_sl, rv_cat, cat_i, cat_l, cat_f, cat_d]) ?_
  intro p e R s m args below meth c H ls C hH hl hin
  exact b_X1_paidBits C x0 _ H [] _ _ ls hH (fun _ q => nomatch q) (lv_sub hl [0] rfl) hrun

/-! MassclaimModel.paidBits()I -/
def f_X4_paidBits_85  (y0 : Int32) (h : Hp) : Rt Int32 :=
  some (.inl y0, h)
def f_X4_paidBits_12  : Nat → Nat → Int64 → Int64 → Int32 → Hp → Rt Int32
  | 0, _, _, _, _, _ => none
  | n + 1, x0, x1, x3, x5, h => gd (kC h x0 = 4) <| gd (kC h (kR h 320 x0) = 18) <| bd (f_J2_size (kR h 320 x0) h) fun v2 h3 => if v2 ≤ x5 then
  (if x3 = (0 : Int64) then
  (f_X4_paidBits_85 (0 : Int32) h3)
  else
  (gd ((FP.fdiv (FP.l2f x1) (FP.l2f x3)) &&& 0x7fffffff ≤ 0x7f800000) <| bd (f_J22_floatToIntBits (FP.fdiv (FP.l2f x1) (FP.l2f x3)) h3) fun v6 h7 => f_X4_paidBits_85 v6 h7))
  else
  (gd (kC h3 x0 = 4) <| gd (kC h3 (kR h3 320 x0) = 18) <| bd (f_J2_get (kR h3 320 x0) x5 h3) fun v9 h10 => gd (v9 = 0 ∨ kC h10 v9 = 13) <| gd (kC h10 v9 = 13) <| vl (x1 + (kL h10 1208 v9)) fun v14 => gd (kC h10 x0 = 4) <| gd (kC h10 (kR h10 320 x0) = 18) <| bd (f_J2_get (kR h10 320 x0) x5 h10) fun v16 h17 => gd (v16 = 0 ∨ kC h17 v16 = 13) <| gd (kC h17 x0 = 4) <| bd (f_X4_value x0 v16 h17) fun v20 h21 => vl (x3 + v20) fun v23 => vl (x5 + (1 : Int32)) fun v24 => f_X4_paidBits_12 n x0 v14 v23 v24 h21)
def f_X4_paidBits  (x0 : Nat) (h : Hp) : Rt Int32 :=
  gd (kC h x0 = 4) <| vl (sI h 300 x0 (0 : Int32)) fun h26 => f_X4_paidBits_12 FU x0 (0 : Int64) (0 : Int64) (0 : Int32) h26
theorem b_X4_paidBits_85 {rr : (Int32 ⊕ Ex) × Hp}  (C : CX p l R s m args meth c D Hs cX4_paidBits "MassclaimModel" 6 (some .int) [] 4 72)  : ∀ (y0 : Int32) (h : Hp) (H : Heap) (locs : List Loc) (cells slots : Nat) (ls : Array Slot), HP D Hs h H → LO Hs locs → lv_has ls 6 [] → f_X4_paidBits_85 y0 h = some rr → W p l e R s m args below meth c H locs cells slots (ZM D Hs iI rr below args s) (F0 m 85 ls [.int y0]) := by
  obtain ⟨⟨hx, hb, hml, hown, hts⟩, -⟩ := id C
  have hl9 := C.2.1.2.2.1
  intro y0 h H locs cells slots ls hH hL hl hrun
  unfold f_X4_paidBits_85 at hrun
  exact V_iret (pc := 85) C hH hL hrun dX4_paidBits_85

theorem b_X4_paidBits_12 {rr : (Int32 ⊕ Ex) × Hp}  (C : CX p l R s m args meth c D Hs cX4_paidBits "MassclaimModel" 6 (some .int) [] 4 72)  : ∀ (n : Nat) (x0 : Nat) (x1 : Int64) (x3 : Int64) (x5 : Int32) (h : Hp) (H : Heap) (locs : List Loc) (cells slots : Nat) (ls : Array Slot), HP D Hs h H → LO Hs locs → lv_has ls 6 [(0, rv x0), (1, .long x1), (3, .long x3), (5, .int x5)] → f_X4_paidBits_12 n x0 x1 x3 x5 h = some rr → W p l e R s m args below meth c H locs cells slots (ZM D Hs iI rr below args s) (F0 m 12 ls []) := by
  obtain ⟨⟨hx, hb, hml, hown, hts⟩, -⟩ := id C
  have hl9 := C.2.1.2.2.1
  intro n
  induction n with
  | zero =>
    intro x0 x1 x3 x5 h H locs cells slots ls hH hL hl hrun
    cases (show (none : Option _) = some rr from hrun)
  | succ n ih =>
    intro x0 x1 x3 x5 h H locs cells slots ls hH hL hl hrun
    rw [f_X4_paidBits_12] at hrun
    refine lv_iload (pc := 12) hx hb dX4_paidBits_12 (lv_at hl 3 rfl) ?_
    refine V_aload_n (pc := 14) hx hb dX4_paidBits_14 rfl (lv_at hl 0 rfl) ?_
    obtain ⟨c1, hrun⟩ := gd_some hrun
    refine V_getR (pc := 15) C hH fr_X4_30 dX4_paidBits_15 c1 rfl ?_
    obtain ⟨c4, hrun⟩ := gd_some hrun
    refine V_bd (pc := 18) C hL rfl hrun (fun rr1 e1 => Z_runV (rest := [.int x5]) C hH (m_J2_size hl9 e1) wV_X4_94 c4 rfl (by decide) rfl rfl ⟨by decide, by decide⟩ rfl (Nat.le_of_ble_eq_true rfl) hl.1 dX4_paidBits_18) (fun v2 h3 H locs cells slots hH hL hrun => ?_)
    refine lv_icmp_ge (tgt := 67) (pc := 21) hx hb dX4_paidBits_21 (by decide) (fun c_ => ?_) (fun c_ => ?_)
    · have hrun := ite_t hrun c_
      refine lv_lload_n (pc := 67) hx hb dX4_paidBits_67 rfl (lv_at hl 2 rfl) ?_
      refine lv_lconst (v := (0 : Int64)) (pc := 68) hx hb dX4_paidBits_68 (by decide) ?_
      refine V_lcmp_ne (tgt := 77) (pc := 69) hx hb dX4_paidBits_69 dX4_paidBits_70 (by decide) (fun c_ => ?_) (fun c_ => ?_)
      · have hrun := ite_f hrun c_
        refine lv_lload_n (pc := 77) hx hb dX4_paidBits_77 rfl (lv_at hl 1 rfl) ?_
        refine lv_l2f (pc := 78) hx hb dX4_paidBits_78 ?_
        refine lv_lload_n (pc := 79) hx hb dX4_paidBits_79 rfl (lv_at hl 2 rfl) ?_
        refine lv_l2f (pc := 80) hx hb dX4_paidBits_80 ?_
        obtain ⟨c5, hrun⟩ := gd_some hrun
        refine lv_fdiv (pc := 81) hx hb dX4_paidBits_81 c5 ?_
        refine V_bd (pc := 82) C hL rfl hrun (fun rr1 e1 => Z_runS (rest := []) C hH (m_J22_floatToIntBits hl9 e1) wS_X4_482 rfl ⟨by decide, by decide⟩ rfl (Nat.le_of_ble_eq_true rfl) hl.1 dX4_paidBits_82) (fun v6 h7 H locs cells slots hH hL hrun => ?_)
        exact b_X4_paidBits_85 C v6 h7 H locs cells slots ls hH hL (lv_sub hl [] rfl) hrun
      · have hrun := ite_t hrun c_
        refine lv_iconst (v := (0 : Int32)) (pc := 73) hx hb dX4_paidBits_73 (by decide) ?_
        refine lv_goto (tgt := 85) (pc := 74) hx hb dX4_paidBits_74 (by decide) ?_
        exact b_X4_paidBits_85 C (0 : Int32) h3 H locs cells slots ls hH hL (lv_sub hl [] rfl) hrun
    · have hrun := ite_f hrun c_
      refine lv_lload_n (pc := 24) hx hb dX4_paidBits_24 rfl (lv_at hl 1 rfl) ?_
      refine V_aload_n (pc := 25) hx hb dX4_paidBits_25 rfl (lv_at hl 0 rfl) ?_
      obtain ⟨c8, hrun⟩ := gd_some hrun
      refine V_getR (pc := 26) C hH fr_X4_30 dX4_paidBits_26 c8 rfl ?_
      refine lv_iload (pc := 29) hx hb dX4_paidBits_29 (lv_at hl 3 rfl) ?_
      obtain ⟨c11, hrun⟩ := gd_some hrun
      refine V_bd (pc := 31) C hL rfl hrun (fun rr1 e1 => Z_runV (rest := [.long x1]) C hH (m_J2_get hl9 e1) wV_X4_108 c11 rfl (by decide) rfl rfl ⟨by decide, by decide⟩ rfl (Nat.le_of_ble_eq_true rfl) hl.1 dX4_paidBits_31) (fun v9 h10 H locs cells slots hH hL hrun => ?_)
      obtain ⟨c12, hrun⟩ := gd_some hrun
      refine V_castX (pc := 34) (ci := 12) C hH rfl (by decide) q1955 dX4_paidBits_34 c12 ?_
      obtain ⟨c13, hrun⟩ := gd_some hrun
      refine V_getL (pc := 37) C hH fr_X4_406 dX4_paidBits_37 c13 rfl ?_
      refine lv_ladd (pc := 40) hx hb dX4_paidBits_40 ?_
      refine lv_topl (fun v14 ev14 => ?_)
      have hrun := vl_at hrun v14 ev14
      refine lv_lstore_n (i := 1) (lv' := [(1, .long v14), (0, rv x0), (3, .long x3), (5, .int x5)]) (pc := 41) hx hb dX4_paidBits_41 rfl hl (by decide) (by simp [rv_cat, cat_i, cat_l, cat_f, cat_d]) (fun ls hl => ?_)
      refine lv_lload_n (pc := 42) hx hb dX4_paidBits_42 rfl (lv_at hl 2 rfl) ?_
      refine V_aload_n (pc := 43) hx hb dX4_paidBits_43 rfl (lv_at hl 1 rfl) ?_
      refine V_aload_n (pc := 44) hx hb dX4_paidBits_44 rfl (lv_at hl 1 rfl) ?_
      obtain ⟨c15, hrun⟩ := gd_some hrun
      refine V_getR (pc := 45) C hH fr_X4_30 dX4_paidBits_45 c15 rfl ?_
      refine lv_iload (pc := 48) hx hb dX4_paidBits_48 (lv_at hl 3 rfl) ?_
      obtain ⟨c18, hrun⟩ := gd_some hrun
      refine V_bd (pc := 50) C hL rfl hrun (fun rr1 e1 => Z_runV (rest := [rv x0, .long x3]) C hH (m_J2_get hl9 e1) wV_X4_108 c18 rfl (by decide) rfl rfl ⟨by decide, by decide⟩ rfl (by simp [csum, rv_cat, cat_i, cat_l, cat_f, cat_d]) hl.1 dX4_paidBits_50) (fun v16 h17 H locs cells slots hH hL hrun => ?_)
      obtain ⟨c19, hrun⟩ := gd_some hrun
      refine V_castX (pc := 53) (ci := 12) C hH rfl (by decide) q1955 dX4_paidBits_53 c19 ?_
      obtain ⟨c22, hrun⟩ := gd_some hrun
      refine V_bd (pc := 56) C hL rfl hrun (fun rr1 e1 => Z_runV (rest := [.long x3]) C hH (m_X4_value hl9 e1) wV_X4_402 c22 rfl (by decide) rfl rfl ⟨by decide, by decide⟩ rfl (Nat.le_of_ble_eq_true rfl) hl.1 dX4_paidBits_56) (fun v20 h21 H locs cells slots hH hL hrun => ?_)
      refine lv_ladd (pc := 59) hx hb dX4_paidBits_59 ?_
      refine lv_topl (fun v23 ev23 => ?_)
      have hrun := vl_at hrun v23 ev23
      refine lv_lstore_n (i := 3) (lv' := [(3, .long v23), (1, .long v14), (0, rv x0), (5, .int x5)]) (pc := 60) hx hb dX4_paidBits_60 rfl hl (by decide) rfl (fun ls hl => ?_)
      obtain ⟨v24, ev24⟩ : ∃ y : Int32, y = x5 + (1 : Int32) := ⟨_, rfl⟩
      have hrun := vl_at hrun v24 ev24
      refine lv_iinc (v := v24) (lv' := [(5, .int v24), (3, .long v23), (1, .long v14), (0, rv x0)]) (pc := 61) hx hb dX4_paidBits_61 hl (k := 3) rfl (by rw [ev24]; rfl) (by decide) (by first | rfl | simp [rv_cat, cat_i, cat_l, cat_f, cat_d]) (fun ls hl => ?_)
      refine lv_goto (tgt := 12) (pc := 64) hx hb dX4_paidBits_64 (by decide) ?_
      exact ih x0 v14 v23 v24 h21 H locs cells slots ls hH hL (lv_sub hl [3, 2, 1, 0] rfl) hrun

theorem b_X4_paidBits {rr : (Int32 ⊕ Ex) × Hp}  (C : CX p l R s m args meth c D Hs cX4_paidBits "MassclaimModel" 6 (some .int) [] 4 72)  : ∀ (x0 : Nat) (h : Hp) (H : Heap) (locs : List Loc) (cells slots : Nat) (ls : Array Slot), HP D Hs h H → LO Hs locs → lv_has ls 6 [(0, rv x0)] → f_X4_paidBits x0 h = some rr → W p l e R s m args below meth c H locs cells slots (ZM D Hs iI rr below args s) (F0 m 0 ls []) := by
  obtain ⟨⟨hx, hb, hml, hown, hts⟩, -⟩ := id C
  have hl9 := C.2.1.2.2.1
  intro x0 h H locs cells slots ls hH hL hl hrun
  unfold f_X4_paidBits at hrun
  refine V_aload_n (pc := 0) hx hb dX4_paidBits_0 rfl (lv_at hl 0 rfl) ?_
  refine lv_iconst (v := (0 : Int32)) (pc := 1) hx hb dX4_paidBits_1 (by decide) ?_
  obtain ⟨c25, hrun⟩ := gd_some hrun
  refine V_putI (pc := 2) C hH hL fl_X4_1 dX4_paidBits_2 c25 (fok_i _) rfl (fun q => Bool.noConfusion q) hrun (fun h26 H locs hH hL hrun => ?_)
  refine lv_lconst (v := (0 : Int64)) (pc := 5) hx hb dX4_paidBits_5 (by decide) ?_
  refine lv_lstore_n (i := 1) (lv' := [(1, .long (0 : Int64)), (0, rv x0)]) (pc := 6) hx hb dX4_paidBits_6 rfl hl (by decide) (by simp [rv_cat, cat_i, cat_l, cat_f, cat_d]) (fun ls hl => ?_)
  refine lv_lconst (v := (0 : Int64)) (pc := 7) hx hb dX4_paidBits_7 (by decide) ?_
  refine lv_lstore_n (i := 3) (lv' := [(3, .long (0 : Int64)), (1, .long (0 : Int64)), (0, rv x0)]) (pc := 8) hx hb dX4_paidBits_8 rfl hl (by decide) rfl (fun ls hl => ?_)
  refine lv_iconst (v := (0 : Int32)) (pc := 9) hx hb dX4_paidBits_9 (by decide) ?_
  refine lv_istore (i := 5) (lv' := [(5, .int (0 : Int32)), (3, .long (0 : Int64)), (1, .long (0 : Int64)), (0, rv x0)]) (pc := 10) hx hb dX4_paidBits_10 hl (by decide) rfl (fun ls hl => ?_)
  exact b_X4_paidBits_12 C FU x0 (0 : Int64) (0 : Int64) (0 : Int32) h26 H locs cells slots ls hH hL (lv_sub hl [3, 2, 1, 0] rfl) hrun

theorem m_X4_paidBits {l : Launch} {D : va_G} {Hs : Heap} {h : Hp} {rr : (Int32 ⊕ Ex) × Hp} (hl9 : l.stackTraces = false) {x0 : Nat} (hrun : f_X4_paidBits x0 h = some rr) : CM l yX4_paidBits (ws_ yX4_paidBits cX4_paidBits 6 (some .int)) 4 72 iI [rv x0] D Hs h rr := by
  refine CM.of (lv := [(0, rv x0)]) (plainFor_of_name (by decide)) hl9 (by simp [lv_args, rv_cat, cat_i, cat_l, cat_f, cat_d]) (by simp [lg_sl, rv_cat, cat_i, cat_l, cat_f, cat_d]) ?_
  intro p e R s m args below meth c H ls C hH hl hin
  exact b_X4_paidBits C x0 _ H [] _ _ ls hH (fun _ q => nomatch q) (lv_sub hl [0] rfl) hrun

/-! Massclaim.meanDelivered()D -/
def f_X1_meanDelivered_31  (y0 : UInt64) (h : Hp) : Rt UInt64 :=
  some (.inl y0, h)
def f_X1_meanDelivered  (x0 : Nat) (h : Hp) : Rt UInt64 :=
  gd (kC h x0 = 1) <| gd (kC h (kR h 3 x0) = 2) <| bd (f_X2_size (kR h 3 x0) h) fun v2 h3 => if v2 = 0 then
  (f_X1_meanDelivered_31 (0 : UInt64) h3)
  else
  (gd (kC h3 x0 = 1) <| gd (kC h3 (kR h3 8 x0) = 3) <| gd (kC h3 (kR h3 3 x0) = 2) <| bd (f_X2_size (kR h3 3 x0) h3) fun v7 h8 => gd ((FP.ddiv (FP.l2d (kL h3 203 (kR h3 8 x0))) (FP.i2d v7)) &&& 0x7fffffffffffffff ≤ 0x7ff0000000000000) <| f_X1_meanDelivered_31 (FP.ddiv (FP.l2d (kL h3 203 (kR h3 8 x0))) (FP.i2d v7)) h8)
theorem b_X1_meanDelivered_31 {rr : (UInt64 ⊕ Ex) × Hp}  (C : CX p l R s m args meth c D Hs cX1_meanDelivered "Massclaim" 1 (some .double) [] 3 40)  : ∀ (y0 : UInt64) (h : Hp) (H : Heap) (locs : List Loc) (cells slots : Nat) (ls : Array Slot), HP D Hs h H → LO Hs locs → lv_has ls 1 [] → f_X1_meanDelivered_31 y0 h = some rr → W p l e R s m args below meth c H locs cells slots (ZM D Hs iD rr below args s) (F0 m 31 ls [.double y0]) := by
  obtain ⟨⟨hx, hb, hml, hown, hts⟩, -⟩ := id C
  have hl9 := C.2.1.2.2.1
  intro y0 h H locs cells slots ls hH hL hl hrun
  unfold f_X1_meanDelivered_31 at hrun
  exact V_dret (pc := 31) C hH hL hrun dX1_meanDelivered_31

theorem b_X1_meanDelivered {rr : (UInt64 ⊕ Ex) × Hp}  (C : CX p l R s m args meth c D Hs cX1_meanDelivered "Massclaim" 1 (some .double) [] 3 40)  : ∀ (x0 : Nat) (h : Hp) (H : Heap) (locs : List Loc) (cells slots : Nat) (ls : Array Slot), HP D Hs h H → LO Hs locs → lv_has ls 1 [(0, rv x0)] → f_X1_meanDelivered x0 h = some rr → W p l e R s m args below meth c H locs cells slots (ZM D Hs iD rr below args s) (F0 m 0 ls []) := by
  obtain ⟨⟨hx, hb, hml, hown, hts⟩, -⟩ := id C
  have hl9 := C.2.1.2.2.1
  intro x0 h H locs cells slots ls hH hL hl hrun
  unfold f_X1_meanDelivered at hrun
  refine V_aload_n (pc := 0) hx hb dX1_meanDelivered_0 rfl (lv_at hl 0 rfl) ?_
  obtain ⟨c1, hrun⟩ := gd_some hrun
  refine V_getR (pc := 1) C hH fr_X1_52 dX1_meanDelivered_1 c1 rfl ?_
  obtain ⟨c4, hrun⟩ := gd_some hrun
  refine V_bd (pc := 4) C hL rfl hrun (fun rr1 e1 => Z_runV (rest := []) C hH (m_X2_size hl9 e1) wV_X1_135 c4 rfl (by decide) rfl rfl ⟨by decide, by decide⟩ rfl (Nat.le_of_ble_eq_true rfl) hl.1 dX1_meanDelivered_4) (fun v2 h3 H locs cells slots hH hL hrun => ?_)
  refine lv_if_ne (tgt := 14) (pc := 7) hx hb dX1_meanDelivered_7 (by decide) (fun c_ => ?_) (fun c_ => ?_)
  · have hrun := ite_f hrun c_
    refine V_aload_n (pc := 14) hx hb dX1_meanDelivered_14 rfl (lv_at hl 0 rfl) ?_
    obtain ⟨c5, hrun⟩ := gd_some hrun
    refine V_getR (pc := 15) C hH fr_X1_74 dX1_meanDelivered_15 c5 rfl ?_
    obtain ⟨c6, hrun⟩ := gd_some hrun
    refine V_getNL (pc := 18) C hH fn_X1_512 dX1_meanDelivered_18 c6 rfl ?_
    refine lv_l2d (pc := 21) hx hb dX1_meanDelivered_21 ?_
    refine V_aload_n (pc := 22) hx hb dX1_meanDelivered_22 rfl (lv_at hl 0 rfl) ?_
    refine V_getR (pc := 23) C hH fr_X1_52 dX1_meanDelivered_23 c5 rfl ?_
    obtain ⟨c9, hrun⟩ := gd_some hrun
    refine V_bd (pc := 26) C hL rfl hrun (fun rr1 e1 => Z_runV (rest := [.double (FP.l2d (kL h3 203 (kR h3 8 x0)))]) C hH (m_X2_size hl9 e1) wV_X1_135 c9 rfl (by decide) rfl rfl ⟨by decide, by decide⟩ rfl (Nat.le_of_ble_eq_true rfl) hl.1 dX1_meanDelivered_26) (fun v7 h8 H locs cells slots hH hL hrun => ?_)
    refine lv_i2d (pc := 29) hx hb dX1_meanDelivered_29 ?_
    obtain ⟨c10, hrun⟩ := gd_some hrun
    refine lv_ddiv (pc := 30) hx hb dX1_meanDelivered_30 c10 ?_
    exact b_X1_meanDelivered_31 C (FP.ddiv (FP.l2d (kL h3 203 (kR h3 8 x0))) (FP.i2d v7)) h8 H locs cells slots ls hH hL (lv_sub hl [] rfl) hrun
  · have hrun := ite_t hrun c_
    refine lv_dconst0 (pc := 10) hx hb dX1_meanDelivered_10 ?_
    refine lv_goto (tgt := 31) (pc := 11) hx hb dX1_meanDelivered_11 (by decide) ?_
    exact b_X1_meanDelivered_31 C (0 : UInt64) h3 H locs cells slots ls hH hL (lv_sub hl [] rfl) hrun

theorem m_X1_meanDelivered {l : Launch} {D : va_G} {Hs : Heap} {h : Hp} {rr : (UInt64 ⊕ Ex) × Hp} (hl9 : l.stackTraces = false) {x0 : Nat} (hrun : f_X1_meanDelivered x0 h = some rr) : CM l yX1_meanDelivered (ws_ yX1_meanDelivered cX1_meanDelivered 1 (some .double)) 3 40 iD [rv x0] D Hs h rr := by
  refine CM.of (lv := [(0, rv x0)]) (plainFor_of_name (by decide)) hl9 (by simp [lv_args, rv_cat, cat_i, cat_l, cat_f, cat_d]) (by simp [lg_sl, rv_cat, cat_i, cat_l, cat_f, cat_d]) ?_
  intro p e R s m args below meth c H ls C hH hl hin
  exact b_X1_meanDelivered C x0 _ H [] _ _ ls hH (fun _ q => nomatch q) (lv_sub hl [0] rfl) hrun

/-! MassclaimModel.meanDelivered()D -/
def f_X4_meanDelivered_33  (y0 : UInt64) (h : Hp) : Rt UInt64 :=
  some (.inl y0, h)
def f_X4_meanDelivered  (x0 : Nat) (h : Hp) : Rt UInt64 :=
  gd (kC h x0 = 4) <| vl (sI h 300 x0 (0 : Int32)) fun h2 => gd (kC h2 x0 = 4) <| gd (kC h2 (kR h2 320 x0) = 18) <| bd (f_J2_isEmpty (kR h2 320 x0) h2) fun v4 h5 => if v4 = 0 then
  (gd (kC h5 x0 = 4) <| bd (f_X4_delivered x0 h5) fun v7 h8 => gd (kC h8 x0 = 4) <| gd (kC h8 (kR h8 320 x0) = 18) <| bd (f_J2_size (kR h8 320 x0) h8) fun v11 h12 => gd ((FP.ddiv (FP.l2d v7) (FP.i2d v11)) &&& 0x7fffffffffffffff ≤ 0x7ff0000000000000) <| f_X4_meanDelivered_33 (FP.ddiv (FP.l2d v7) (FP.i2d v11)) h12)
  else
  (f_X4_meanDelivered_33 (0 : UInt64) h5)
theorem b_X4_meanDelivered_33 {rr : (UInt64 ⊕ Ex) × Hp}  (C : CX p l R s m args meth c D Hs cX4_meanDelivered "MassclaimModel" 1 (some .double) [] 5 87)  : ∀ (y0 : UInt64) (h : Hp) (H : Heap) (locs : List Loc) (cells slots : Nat) (ls : Array Slot), HP D Hs h H → LO Hs locs → lv_has ls 1 [] → f_X4_meanDelivered_33 y0 h = some rr → W p l e R s m args below meth c H locs cells slots (ZM D Hs iD rr below args s) (F0 m 33 ls [.double y0]) := by
  obtain ⟨⟨hx, hb, hml, hown, hts⟩, -⟩ := id C
  have hl9 := C.2.1.2.2.1
  intro y0 h H locs cells slots ls hH hL hl hrun
  unfold f_X4_meanDelivered_33 at hrun
  exact V_dret (pc := 33) C hH hL hrun dX4_meanDelivered_33

theorem b_X4_meanDelivered {rr : (UInt64 ⊕ Ex) × Hp}  (C : CX p l R s m args meth c D Hs cX4_meanDelivered "MassclaimModel" 1 (some .double) [] 5 87)  : ∀ (x0 : Nat) (h : Hp) (H : Heap) (locs : List Loc) (cells slots : Nat) (ls : Array Slot), HP D Hs h H → LO Hs locs → lv_has ls 1 [(0, rv x0)] → f_X4_meanDelivered x0 h = some rr → W p l e R s m args below meth c H locs cells slots (ZM D Hs iD rr below args s) (F0 m 0 ls []) := by
  obtain ⟨⟨hx, hb, hml, hown, hts⟩, -⟩ := id C
  have hl9 := C.2.1.2.2.1
  intro x0 h H locs cells slots ls hH hL hl hrun
  unfold f_X4_meanDelivered at hrun
  refine V_aload_n (pc := 0) hx hb dX4_meanDelivered_0 rfl (lv_at hl 0 rfl) ?_
  refine lv_iconst (v := (0 : Int32)) (pc := 1) hx hb dX4_meanDelivered_1 (by decide) ?_
  obtain ⟨c1, hrun⟩ := gd_some hrun
  refine V_putI (pc := 2) C hH hL fl_X4_1 dX4_meanDelivered_2 c1 (fok_i _) rfl (fun q => Bool.noConfusion q) hrun (fun h2 H locs hH hL hrun => ?_)
  refine V_aload_n (pc := 5) hx hb dX4_meanDelivered_5 rfl (lv_at hl 0 rfl) ?_
  obtain ⟨c3, hrun⟩ := gd_some hrun
  refine V_getR (pc := 6) C hH fr_X4_30 dX4_meanDelivered_6 c3 rfl ?_
  obtain ⟨c6, hrun⟩ := gd_some hrun
  refine V_bd (pc := 9) C hL rfl hrun (fun rr1 e1 => Z_runV (rest := []) C hH (m_J2_isEmpty hl9 e1) wV_X4_281 c6 rfl (by decide) rfl rfl ⟨by decide, by decide⟩ rfl (Nat.le_of_ble_eq_true rfl) hl.1 dX4_meanDelivered_9) (fun v4 h5 H locs cells slots hH hL hrun => ?_)
  refine lv_if_eq (tgt := 19) (pc := 12) hx hb dX4_meanDelivered_12 (by decide) (fun c_ => ?_) (fun c_ => ?_)
  · have hrun := ite_t hrun c_
    refine V_aload_n (pc := 19) hx hb dX4_meanDelivered_19 rfl (lv_at hl 0 rfl) ?_
    obtain ⟨c9, hrun⟩ := gd_some hrun
    refine V_bd (pc := 20) C hL rfl hrun (fun rr1 e1 => Z_runV (rest := []) C hH (m_X4_delivered hl9 e1) wV_X4_467 c9 rfl (by decide) rfl rfl ⟨by decide, by decide⟩ rfl (Nat.le_of_ble_eq_true rfl) hl.1 dX4_meanDelivered_20) (fun v7 h8 H locs cells slots hH hL hrun => ?_)
    refine lv_l2d (pc := 23) hx hb dX4_meanDelivered_23 ?_
    refine V_aload_n (pc := 24) hx hb dX4_meanDelivered_24 rfl (lv_at hl 0 rfl) ?_
    obtain ⟨c10, hrun⟩ := gd_some hrun
    refine V_getR (pc := 25) C hH fr_X4_30 dX4_meanDelivered_25 c10 rfl ?_
    obtain ⟨c13, hrun⟩ := gd_some hrun
    refine V_bd (pc := 28) C hL rfl hrun (fun rr1 e1 => Z_runV (rest := [.double (FP.l2d v7)]) C hH (m_J2_size hl9 e1) wV_X4_94 c13 rfl (by decide) rfl rfl ⟨by decide, by decide⟩ rfl (Nat.le_of_ble_eq_true rfl) hl.1 dX4_meanDelivered_28) (fun v11 h12 H locs cells slots hH hL hrun => ?_)
    refine lv_i2d (pc := 31) hx hb dX4_meanDelivered_31 ?_
    obtain ⟨c14, hrun⟩ := gd_some hrun
    refine lv_ddiv (pc := 32) hx hb dX4_meanDelivered_32 c14 ?_
    exact b_X4_meanDelivered_33 C (FP.ddiv (FP.l2d v7) (FP.i2d v11)) h12 H locs cells slots ls hH hL (lv_sub hl [] rfl) hrun
  · have hrun := ite_f hrun c_
    refine lv_dconst0 (pc := 15) hx hb dX4_meanDelivered_15 ?_
    refine lv_goto (tgt := 33) (pc := 16) hx hb dX4_meanDelivered_16 (by decide) ?_
    exact b_X4_meanDelivered_33 C (0 : UInt64) h5 H locs cells slots ls hH hL (lv_sub hl [] rfl) hrun

theorem m_X4_meanDelivered {l : Launch} {D : va_G} {Hs : Heap} {h : Hp} {rr : (UInt64 ⊕ Ex) × Hp} (hl9 : l.stackTraces = false) {x0 : Nat} (hrun : f_X4_meanDelivered x0 h = some rr) : CM l yX4_meanDelivered (ws_ yX4_meanDelivered cX4_meanDelivered 1 (some .double)) 5 87 iD [rv x0] D Hs h rr := by
  refine CM.of (lv := [(0, rv x0)]) (plainFor_of_name (by decide)) hl9 (by simp [lv_args, rv_cat, cat_i, cat_l, cat_f, cat_d]) (by simp [lg_sl, rv_cat, cat_i, cat_l, cat_f, cat_d]) ?_
  intro p e R s m args below meth c H ls C hH hl hin
  exact b_X4_meanDelivered C x0 _ H [] _ _ ls hH (fun _ q => nomatch q) (lv_sub hl [0] rfl) hrun
end WK17

section WK16
variable {p : Program} {l : Launch} {e : Env} {R : Room} {s : State} {m : MethodId} {args : Array Value} {below : List Frame} {meth : Method} {c : Code} {D : va_G} {Hs : Heap} {F X : Nat}
/-! MassclaimLaw.waive(LMassclaim;I[J)I -/
def f_X0_waive_12  (y0 : Nat) (h : Hp) : Rt Int32 :=
  some (.inl (1 : Int32), h)
def f_X0_waive  (x0 : Nat) (x1 : Int32) (x2 : Nat) (h : Hp) : Rt Int32 :=
  gd (kC h x0 = 1) <| bdH (f_X1_waive x0 x1 h)
  (fun v1 h2 => gd (kC h2 x2 = 102 ∧ ixo (0 : Int32) (kN h2 x2)) <| vl (tL h2 x2 ((0 : Int32)).toNatClampNeg (v1.toInt64)) fun h5 => some (.inl (0 : Int32), h5))
  (fun ex6 h7 => if ex6.1 = 901 then
  (f_X0_waive_12 ex6.2 h7)
  else
  none)
theorem b_X0_waive_12 {rr : (Int32 ⊕ Ex) × Hp}  (C : CX p l R s m args meth c D Hs cX0_waive "MassclaimLaw" 4 (some .int) [(0, 9, 12, 25)] 11 400)  : ∀ (y0 : Nat) (h : Hp) (H : Heap) (locs : List Loc) (cells slots : Nat) (ls : Array Slot), HP D Hs h H → LO Hs locs → lv_has ls 4 [] → f_X0_waive_12 y0 h = some rr → W p l e R s m args below meth c H locs cells slots (ZM D Hs iI rr below args s) (F0 m 12 ls [rv y0]) := by
  obtain ⟨⟨hx, hb, hml, hown, hts⟩, -⟩ := id C
  have hl9 := C.2.1.2.2.1
  intro y0 h H locs cells slots ls hH hL hl hrun
  unfold f_X0_waive_12 at hrun
  refine V_astore_n (i := 3) (lv' := [(3, rv y0)]) (pc := 12) hx hb dX0_waive_12 rfl hl (by decide) rfl (fun ls hl => ?_)
  refine lv_iconst (v := (1 : Int32)) (pc := 13) hx hb dX0_waive_13 (by decide) ?_
  exact V_iret (pc := 14) C hH hL hrun dX0_waive_14

theorem b_X0_waive {rr : (Int32 ⊕ Ex) × Hp}  (C : CX p l R s m args meth c D Hs cX0_waive "MassclaimLaw" 4 (some .int) [(0, 9, 12, 25)] 11 400)  : ∀ (x0 : Nat) (x1 : Int32) (x2 : Nat) (h : Hp) (H : Heap) (locs : List Loc) (cells slots : Nat) (ls : Array Slot), HP D Hs h H → LO Hs locs → lv_has ls 4 [(0, rv x0), (1, .int x1), (2, rv x2)] → f_X0_waive x0 x1 x2 h = some rr → W p l e R s m args below meth c H locs cells slots (ZM D Hs iI rr below args s) (F0 m 0 ls []) := by
  obtain ⟨⟨hx, hb, hml, hown, hts⟩, -⟩ := id C
  have hl9 := C.2.1.2.2.1
  intro x0 x1 x2 h H locs cells slots ls hH hL hl hrun
  unfold f_X0_waive at hrun
  refine V_aload_n (pc := 0) hx hb dX0_waive_0 rfl (lv_at hl 2 rfl) ?_
  refine lv_iconst (v := (0 : Int32)) (pc := 1) hx hb dX0_waive_1 (by decide) ?_
  refine V_aload_n (pc := 2) hx hb dX0_waive_2 rfl (lv_at hl 0 rfl) ?_
  refine lv_iload_n (pc := 3) hx hb dX0_waive_3 rfl (lv_at hl 1 rfl) ?_
  obtain ⟨c3, hrun⟩ := gd_some hrun
  refine V_bdH (pc := 4) hL hrun (fun rr1 e1 => Z_runV (rest := [.int (0 : Int32), rv x2]) C hH (m_X1_waive hl9 e1) wV_X0_141 c3 rfl (by decide) rfl rfl ⟨by decide, by decide⟩ rfl (by simp [csum, rv_cat, cat_i, cat_l, cat_f, cat_d]) hl.1 dX0_waive_4) (fun v1 h2 H locs cells slots hH hL hrun => ?_) (fun x_ q_ ce_ h7 H locs cells slots hH hL hrun hc_ hv_ hcl_ => ?_)
  · refine lv_i2l (pc := 7) hx hb dX0_waive_7 rfl ?_
    obtain ⟨c4, hrun⟩ := gd_some hrun
    refine V_last (pc := 8) C hH hL dX0_waive_8 c4 hrun (fun h5 H locs hH hL hrun => ?_)
    refine lv_goto (tgt := 15) (pc := 9) hx hb dX0_waive_9 (by decide) ?_
    refine lv_iconst (v := (0 : Int32)) (pc := 15) hx hb dX0_waive_15 (by decide) ?_
    exact V_iret (pc := 16) C hH hL hrun dX0_waive_16
  · by_cases n901 : x_ = 901
    · subst n901
      have hrun := ite_t hrun rfl
      refine vx_catch (E := "java/lang/IndexOutOfBoundsException") (name := "java/lang/IndexOutOfBoundsException") hown (tableOf []) ⟨0, 9, 12, 25⟩ (tableOf []) (by rw [C.2.1.2.2.2.2]; rfl) (fun z hz => nomatch hz) (by decide) (by decide) (hts _ q829) (va_Nw.use rfl (C.2.1.2.2.2.1.2.1 _ q537 rfl)) hc_ hv_ hcl_ ?_
      exact b_X0_waive_12 C (q_ + 1) h7 H locs cells slots ls hH hL (lv_sub hl [] rfl) hrun
    have hrun := ite_f hrun n901
    cases hrun

theorem m_X0_waive {l : Launch} {D : va_G} {Hs : Heap} {h : Hp} {rr : (Int32 ⊕ Ex) × Hp} (hl9 : l.stackTraces = false) {x0 : Nat} {x1 : Int32} {x2 : Nat} (hrun : f_X0_waive x0 x1 x2 h = some rr) : CM l yX0_waive (wsW_ yX0_waive cX0_waive 4 (some .int) [(0, 9, 12, 25)]) 11 400 iI [rv x0, .int x1, rv x2] D Hs h rr := by
  refine CM.ofH (lv := [(0, rv x0), (1, .int x1), (2, rv x2)]) (plainFor_of_name (by decide)) hl9 (by simp [lv_args, rv_cat, cat_i, cat_l, cat_f, cat_d]) (by simp [lg_sl, rv_cat, cat_i, cat_l, cat_f, cat_d]) ?_
  intro p e R s m args below meth c H ls C hH hl hin
  exact b_X0_waive C x0 x1 x2 _ H [] _ _ ls hH (fun _ q => nomatch q) (lv_sub hl [0, 1, 2] rfl) hrun

/-! MassclaimModel.waive(I)I -/
def f_X4_waive_67  (x3 : Int32) (h : Hp) : Rt Int32 :=
  some (.inl x3, h)
def f_X4_waive  (x0 : Nat) (x1 : Int32) (h : Hp) : Rt Int32 :=
  gd (kC h x0 = 4) <| gd (kC h (kR h 321 x0) = 18) <| bd (f_J2_size (kR h 321 x0) h) fun v2 h3 => bd (f_X4_isWithin (x1.toInt64) (0 : Int64) ((v2 - (1 : Int32)).toInt64) h3) fun v5 h6 => gd (kC h6 x0 = 4) <| bd (f_X4_isGood x0 v5 (1 : Int32) h6) fun v7 h8 => if v7 = 0 then
  (some (.inl (0 : Int32), h8))
  else
  (gd (kC h8 x0 = 4) <| gd (kC h8 (kR h8 321 x0) = 18) <| bd (f_J2_get (kR h8 321 x0) x1 h8) fun v11 h12 => gd (v11 = 0 ∨ kC h12 v11 = 17) <| gd (kC h12 v11 = 17) <| vl (kI h12 1601 v11) fun v16 => vl (sI h12 1601 v11 (0 : Int32)) fun h17 => gd (kC h17 v11 = 17) <| gd (kC h17 x0 = 4) <| bd (f_X4_openOf x0 (kR h17 1600 v11) h17) fun v19 h20 => if v19 = 0 then
  (gd (kC h20 v11 = 17) <| gd (kC h20 x0 = 4) <| bd (f_X4_freeHeld x0 (kR h20 1600 v11) h20) fun _ h24 => f_X4_waive_67 v16 h24)
  else
  (f_X4_waive_67 v16 h20))
theorem b_X4_waive_67 {rr : (Int32 ⊕ Ex) × Hp}  (C : CX p l R s m args meth c D Hs cX4_waive "MassclaimModel" 4 (some .int) [] 10 378)  : ∀ (x3 : Int32) (h : Hp) (H : Heap) (locs : List Loc) (cells slots : Nat) (ls : Array Slot), HP D Hs h H → LO Hs locs → lv_has ls 4 [(3, .int x3)] → f_X4_waive_67 x3 h = some rr → W p l e R s m args below meth c H locs cells slots (ZM D Hs iI rr below args s) (F0 m 67 ls []) := by
  obtain ⟨⟨hx, hb, hml, hown, hts⟩, -⟩ := id C
  have hl9 := C.2.1.2.2.1
  intro x3 h H locs cells slots ls hH hL hl hrun
  unfold f_X4_waive_67 at hrun
  refine lv_iload_n (pc := 67) hx hb dX4_waive_67 rfl (lv_at hl 0 rfl) ?_
  exact V_iret (pc := 68) C hH hL hrun dX4_waive_68

theorem b_X4_waive {rr : (Int32 ⊕ Ex) × Hp}  (C : CX p l R s m args meth c D Hs cX4_waive "MassclaimModel" 4 (some .int) [] 10 378)  : ∀ (x0 : Nat) (x1 : Int32) (h : Hp) (H : Heap) (locs : List Loc) (cells slots : Nat) (ls : Array Slot), HP D Hs h H → LO Hs locs → lv_has ls 4 [(0, rv x0), (1, .int x1)] → f_X4_waive x0 x1 h = some rr → W p l e R s m args below meth c H locs cells slots (ZM D Hs iI rr below args s) (F0 m 0 ls []) := by
  obtain ⟨⟨hx, hb, hml, hown, hts⟩, -⟩ := id C
  have hl9 := C.2.1.2.2.1
  intro x0 x1 h H locs cells slots ls hH hL hl hrun
  unfold f_X4_waive at hrun
  refine V_aload_n (pc := 0) hx hb dX4_waive_0 rfl (lv_at hl 0 rfl) ?_
  refine lv_iload_n (pc := 1) hx hb dX4_waive_1 rfl (lv_at hl 1 rfl) ?_
  refine lv_i2l (pc := 2) hx hb dX4_waive_2 rfl ?_
  refine lv_lconst (v := (0 : Int64)) (pc := 3) hx hb dX4_waive_3 (by decide) ?_
  refine V_aload_n (pc := 4) hx hb dX4_waive_4 rfl (lv_at hl 0 rfl) ?_
  obtain ⟨c1, hrun⟩ := gd_some hrun
  refine V_getR (pc := 5) C hH fr_X4_33 dX4_waive_5 c1 rfl ?_
  obtain ⟨c4, hrun⟩ := gd_some hrun
  refine V_bd (pc := 8) C hL rfl hrun (fun rr1 e1 => Z_runV (rest := [.long (0 : Int64), .long (x1.toInt64), rv x0]) C hH (m_J2_size hl9 e1) wV_X4_94 c4 rfl (by decide) rfl rfl ⟨by decide, by decide⟩ rfl (by simp [csum, rv_cat, cat_i, cat_l, cat_f, cat_d]) hl.1 dX4_waive_8) (fun v2 h3 H locs cells slots hH hL hrun => ?_)
  refine lv_iconst (v := (1 : Int32)) (pc := 11) hx hb dX4_waive_11 (by decide) ?_
  refine lv_isub (pc := 12) hx hb dX4_waive_12 ?_
  refine lv_i2l (pc := 13) hx hb dX4_waive_13 rfl ?_
  refine V_bd (pc := 14) C hL rfl hrun (fun rr1 e1 => Z_runS (rest := [rv x0]) C hH (m_X4_isWithin hl9 e1) wS_X4_100 rfl ⟨by decide, by decide⟩ rfl (by simp [csum, rv_cat, cat_i, cat_l, cat_f, cat_d]) hl.1 dX4_waive_14) (fun v5 h6 H locs cells slots hH hL hrun => ?_)
  refine lv_iconst (v := (1 : Int32)) (pc := 17) hx hb dX4_waive_17 (by decide) ?_
  obtain ⟨c9, hrun⟩ := gd_some hrun
  refine V_bd (pc := 18) C hL rfl hrun (fun rr1 e1 => Z_runV (rest := []) C hH (m_X4_isGood hl9 e1) wV_X4_104 c9 rfl (by decide) rfl rfl ⟨by decide, by decide⟩ rfl (Nat.le_of_ble_eq_true rfl) hl.1 dX4_waive_18) (fun v7 h8 H locs cells slots hH hL hrun => ?_)
  refine lv_if_ne (tgt := 26) (pc := 21) hx hb dX4_waive_21 (by decide) (fun c_ => ?_) (fun c_ => ?_)
  · have hrun := ite_f hrun c_
    refine V_aload_n (pc := 26) hx hb dX4_waive_26 rfl (lv_at hl 0 rfl) ?_
    obtain ⟨c10, hrun⟩ := gd_some hrun
    refine V_getR (pc := 27) C hH fr_X4_33 dX4_waive_27 c10 rfl ?_
    refine lv_iload_n (pc := 30) hx hb dX4_waive_30 rfl (lv_at hl 1 rfl) ?_
    obtain ⟨c13, hrun⟩ := gd_some hrun
    refine V_bd (pc := 31) C hL rfl hrun (fun rr1 e1 => Z_runV (rest := []) C hH (m_J2_get hl9 e1) wV_X4_108 c13 rfl (by decide) rfl rfl ⟨by decide, by decide⟩ rfl (Nat.le_of_ble_eq_true rfl) hl.1 dX4_waive_31) (fun v11 h12 H locs cells slots hH hL hrun => ?_)
    obtain ⟨c14, hrun⟩ := gd_some hrun
    refine V_castX (pc := 34) (ci := 16) C hH rfl (by decide) q2161 dX4_waive_34 c14 ?_
    refine V_astore_n (i := 2) (lv' := [(2, rv v11), (0, rv x0), (1, .int x1)]) (pc := 37) hx hb dX4_waive_37 rfl hl (by decide) rfl (fun ls hl => ?_)
    refine V_aload_n (pc := 38) hx hb dX4_waive_38 rfl (lv_at hl 0 rfl) ?_
    obtain ⟨c15, hrun⟩ := gd_some hrun
    refine V_getI (pc := 39) C hH fr_X4_262 dX4_waive_39 c15 rfl ?_
    refine lv_topi (fun v16 ev16 => ?_)
    have hrun := vl_at hrun v16 ev16
    refine lv_istore_n (i := 3) (lv' := [(3, .int v16), (2, rv v11), (0, rv x0), (1, .int x1)]) (pc := 42) hx hb dX4_waive_42 rfl hl (by decide) (by simp [rv_cat, cat_i, cat_l, cat_f, cat_d]) (fun ls hl => ?_)
    refine V_aload_n (pc := 43) hx hb dX4_waive_43 rfl (lv_at hl 1 rfl) ?_
    refine lv_iconst (v := (0 : Int32)) (pc := 44) hx hb dX4_waive_44 (by decide) ?_
    refine V_putI (pc := 45) C hH hL fl_X4_262 dX4_waive_45 c15 (fok_i _) rfl (fun q => Bool.noConfusion q) hrun (fun h17 H locs hH hL hrun => ?_)
    refine V_aload_n (pc := 48) hx hb dX4_waive_48 rfl (lv_at hl 2 rfl) ?_
    refine V_aload_n (pc := 49) hx hb dX4_waive_49 rfl (lv_at hl 1 rfl) ?_
    obtain ⟨c18, hrun⟩ := gd_some hrun
    refine V_getR (pc := 50) C hH fr_X4_258 dX4_waive_50 c18 rfl ?_
    obtain ⟨c21, hrun⟩ := gd_some hrun
    refine V_bd (pc := 53) C hL rfl hrun (fun rr1 e1 => Z_runV (rest := []) C hH (m_X4_openOf hl9 e1) wV_X4_270 c21 rfl (by decide) rfl rfl ⟨by decide, by decide⟩ rfl (Nat.le_of_ble_eq_true rfl) hl.1 dX4_waive_53) (fun v19 h20 H locs cells slots hH hL hrun => ?_)
    refine lv_if_ne (tgt := 67) (pc := 56) hx hb dX4_waive_56 (by decide) (fun c_ => ?_) (fun c_ => ?_)
    · have hrun := ite_f hrun c_
      exact b_X4_waive_67 C v16 h20 H locs cells slots ls hH hL (lv_sub hl [0] rfl) hrun
    · have hrun := ite_t hrun c_
      refine V_aload_n (pc := 59) hx hb dX4_waive_59 rfl (lv_at hl 2 rfl) ?_
      refine V_aload_n (pc := 60) hx hb dX4_waive_60 rfl (lv_at hl 1 rfl) ?_
      obtain ⟨c22, hrun⟩ := gd_some hrun
      refine V_getR (pc := 61) C hH fr_X4_258 dX4_waive_61 c22 rfl ?_
      obtain ⟨c25, hrun⟩ := gd_some hrun
      refine V_bd (pc := 64) C hL rfl hrun (fun rr1 e1 => Z_runV (rest := []) C hH (m_X4_freeHeld hl9 e1) wV_X4_452 c25 rfl (by decide) rfl rfl ⟨by decide, by decide⟩ rfl (Nat.le_of_ble_eq_true rfl) hl.1 dX4_waive_64) (fun _ h24 H locs cells slots hH hL hrun => ?_)
      exact b_X4_waive_67 C v16 h24 H locs cells slots ls hH hL (lv_sub hl [0] rfl) hrun
  · have hrun := ite_t hrun c_
    refine lv_iconst (v := (0 : Int32)) (pc := 24) hx hb dX4_waive_24 (by decide) ?_
    exact V_iret (pc := 25) C hH hL hrun dX4_waive_25

theorem m_X4_waive {l : Launch} {D : va_G} {Hs : Heap} {h : Hp} {rr : (Int32 ⊕ Ex) × Hp} (hl9 : l.stackTraces = false) {x0 : Nat} {x1 : Int32} (hrun : f_X4_waive x0 x1 h = some rr) : CM l yX4_waive (ws_ yX4_waive cX4_waive 4 (some .int)) 10 378 iI [rv x0, .int x1] D Hs h rr := by
  refine CM.of (lv := [(0, rv x0), (1, .int x1)]) (plainFor_of_name (by decide)) hl9 (by simp [lv_args, rv_cat, cat_i, cat_l, cat_f, cat_d]) (by simp [lg_sl, rv_cat, cat_i, cat_l, cat_f, cat_d]) ?_
  intro p e R s m args below meth c H ls C hH hl hin
  exact b_X4_waive C x0 x1 _ H [] _ _ ls hH (fun _ q => nomatch q) (lv_sub hl [0, 1] rfl) hrun

/-! Massclaim.end()J -/
def f_X1_end_88 (k44 : Nat → Int32 → Nat → Hp → Rt Int64) (x0 : Nat) (x2 : Nat) (y0 : Int32) (h : Hp) : Rt Int64 :=
  k44 x0 y0 x2 h
def f_X1_end_87 (k44 : Nat → Int32 → Nat → Hp → Rt Int64) (x0 : Nat) (x2 : Nat) (h : Hp) : Rt Int64 :=
  f_X1_end_88 k44 x0 x2 (0 : Int32) h
def f_X1_end_44  : Nat → Nat → Int32 → Nat → Hp → Rt Int64
  | 0, _, _, _, _ => none
  | n + 1, x0, x1, x2, h => gd (kC h x2 = 19) <| bd (f_J16_hasNext x2 h) fun v1 h2 => if v1 = 0 then
  (bd (f_X1_requireState x1 h2) fun _ h5 => gd (kC h5 x0 = 1) <| gd (kC h5 (kR h5 9 x0) = 10) <| bd (f_X1_part (kL h5 17 x0) ((kI h5 902 (kR h5 9 x0)).toInt64) (100 : Int64) h5) fun v8 h9 => gd (kC h9 x0 = 1) <| vl ((kL h9 17 x0) - v8) fun v11 => gd (kC h9 (kR h9 8 x0) = 3) <| vl (sL h9 204 (kR h9 8 x0) ((kL h9 204 (kR h9 8 x0)) + v8)) fun h13 => gd (kC h13 x0 = 1) <| gd (kC h13 (kR h13 8 x0) = 3) <| vl (sL h13 205 (kR h13 8 x0) ((kL h13 205 (kR h13 8 x0)) + v11)) fun h16 => gd (kC h16 x0 = 1) <| vl (sL h16 17 x0 (0 : Int64)) fun h18 => gd (kC h18 x0 = 1) <| gd (kC h18 (kR h18 9 x0) = 10) <| vl (sI h18 903 (kR h18 9 x0) (5 : Int32)) fun h21 => some (.inl v11, h21))
  else
  (gd (kC h2 x2 = 19) <| bd (f_J16_next x2 h2) fun v22 h23 => gd (v22 = 0 ∨ kC h23 v22 = 12) <| if x1 = 0 then
  (f_X1_end_87 (f_X1_end_44 n) x0 x2 h23)
  else
  (gd (kC h23 v22 = 12) <| if (kI h23 1104 v22) = (1 : Int32) then
  (f_X1_end_87 (f_X1_end_44 n) x0 x2 h23)
  else
  (if (kI h23 1104 v22) = (2 : Int32) then
  (f_X1_end_87 (f_X1_end_44 n) x0 x2 h23)
  else
  (f_X1_end_88 (f_X1_end_44 n) x0 x2 (1 : Int32) h23))))
def f_X1_end_35  (x0 : Nat) (y0 : Int32) (h : Hp) : Rt Int64 :=
  gd (kC h x0 = 1) <| gd (kC h (kR h 3 x0) = 2) <| bd (f_X2_iterator (kR h 3 x0) h) fun v28 h29 => f_X1_end_44 FU x0 y0 v28 h29
def f_X1_end_34  (x0 : Nat) (h : Hp) : Rt Int64 :=
  f_X1_end_35 x0 (0 : Int32) h
def f_X1_end  (x0 : Nat) (h : Hp) : Rt Int64 :=
  gd (kC h x0 = 1) <| bd (f_X1_stage x0 h) fun v31 h32 => if v31 = (3 : Int32) then
  (gd (kC h32 x0 = 1) <| bd (f_X1_due x0 (kI h32 16 x0) h32) fun v35 h36 => if v35 = (0 : Int64) then
  (gd (kC h36 x0 = 1) <| bd (f_X1_owed x0 h36) fun v37 h38 => if v37 = (0 : Int64) then
  (f_X1_end_35 x0 (1 : Int32) h38)
  else
  (f_X1_end_34 x0 h38))
  else
  (f_X1_end_34 x0 h36))
  else
  (f_X1_end_34 x0 h32)
theorem b_X1_end_88 {rr : (Int64 ⊕ Ex) × Hp} {k44 : Nat → Int32 → Nat → Hp → Rt Int64} (C : CX p l R s m args meth c D Hs cX1_end "Massclaim" 6 (some .long) [] 7 110) (K44 : ∀ (x0 : Nat) (x1 : Int32) (x2 : Nat) (h : Hp) (H : Heap) (locs : List Loc) (cells slots : Nat) (ls : Array Slot), HP D Hs h H → LO Hs locs → lv_has ls 6 [(0, rv x0), (1, .int x1), (2, rv x2)] → k44 x0 x1 x2 h = some rr → W p l e R s m args below meth c H locs cells slots (ZM D Hs iL rr below args s) (F0 m 44 ls [])) : ∀ (x0 : Nat) (x2 : Nat) (y0 : Int32) (h : Hp) (H : Heap) (locs : List Loc) (cells slots : Nat) (ls : Array Slot), HP D Hs h H → LO Hs locs → lv_has ls 6 [(0, rv x0), (2, rv x2)] → f_X1_end_88 k44 x0 x2 y0 h = some rr → W p l e R s m args below meth c H locs cells slots (ZM D Hs iL rr below args s) (F0 m 88 ls [.int y0]) := by
  obtain ⟨⟨hx, hb, hml, hown, hts⟩, -⟩ := id C
  have hl9 := C.2.1.2.2.1
  intro x0 x2 y0 h H locs cells slots ls hH hL hl hrun
  unfold f_X1_end_88 at hrun
  refine lv_istore_n (i := 1) (lv' := [(1, .int y0), (0, rv x0), (2, rv x2)]) (pc := 88) hx hb dX1_end_88 rfl hl (by decide) (by simp [rv_cat, cat_i, cat_l, cat_f, cat_d]) (fun ls hl => ?_)
  refine lv_goto (tgt := 44) (pc := 89) hx hb dX1_end_89 (by decide) ?_
  exact K44 x0 y0 x2 h H locs cells slots ls hH hL (lv_sub hl [1, 0, 2] rfl) hrun

theorem b_X1_end_87 {rr : (Int64 ⊕ Ex) × Hp} {k44 : Nat → Int32 → Nat → Hp → Rt Int64} (C : CX p l R s m args meth c D Hs cX1_end "Massclaim" 6 (some .long) [] 7 110) (K44 : ∀ (x0 : Nat) (x1 : Int32) (x2 : Nat) (h : Hp) (H : Heap) (locs : List Loc) (cells slots : Nat) (ls : Array Slot), HP D Hs h H → LO Hs locs → lv_has ls 6 [(0, rv x0), (1, .int x1), (2, rv x2)] → k44 x0 x1 x2 h = some rr → W p l e R s m args below meth c H locs cells slots (ZM D Hs iL rr below args s) (F0 m 44 ls [])) : ∀ (x0 : Nat) (x2 : Nat) (h : Hp) (H : Heap) (locs : List Loc) (cells slots : Nat) (ls : Array Slot), HP D Hs h H → LO Hs locs → lv_has ls 6 [(0, rv x0), (2, rv x2)] → f_X1_end_87 k44 x0 x2 h = some rr → W p l e R s m args below meth c H locs cells slots (ZM D Hs iL rr below args s) (F0 m 87 ls []) := by
  obtain ⟨⟨hx, hb, hml, hown, hts⟩, -⟩ := id C
  have hl9 := C.2.1.2.2.1
  intro x0 x2 h H locs cells slots ls hH hL hl hrun
  unfold f_X1_end_87 at hrun
  refine lv_iconst (v := (0 : Int32)) (pc := 87) hx hb dX1_end_87 (by decide) ?_
  exact b_X1_end_88 C K44 x0 x2 (0 : Int32) h H locs cells slots ls hH hL (lv_sub hl [0, 1] rfl) hrun

theorem b_X1_end_44 {rr : (Int64 ⊕ Ex) × Hp}  (C : CX p l R s m args meth c D Hs cX1_end "Massclaim" 6 (some .long) [] 7 110)  : ∀ (n : Nat) (x0 : Nat) (x1 : Int32) (x2 : Nat) (h : Hp) (H : Heap) (locs : List Loc) (cells slots : Nat) (ls : Array Slot), HP D Hs h H → LO Hs locs → lv_has ls 6 [(0, rv x0), (1, .int x1), (2, rv x2)] → f_X1_end_44 n x0 x1 x2 h = some rr → W p l e R s m args below meth c H locs cells slots (ZM D Hs iL rr below args s) (F0 m 44 ls []) := by
  obtain ⟨⟨hx, hb, hml, hown, hts⟩, -⟩ := id C
  have hl9 := C.2.1.2.2.1
  intro n
  induction n with
  | zero =>
    intro x0 x1 x2 h H locs cells slots ls hH hL hl hrun
    cases (show (none : Option _) = some rr from hrun)
  | succ n ih =>
    intro x0 x1 x2 h H locs cells slots ls hH hL hl hrun
    rw [f_X1_end_44] at hrun
    refine V_aload_n (pc := 44) hx hb dX1_end_44 rfl (lv_at hl 2 rfl) ?_
    obtain ⟨c3, hrun⟩ := gd_some hrun
    refine V_bd5 (pc := 45) C hL rfl hrun (fun rr1 e1 => Z_runF (rest := []) C hH (m_J16_hasNext hl9 e1) rfl wF_X1_212_J16 c3 (by decide) rfl ⟨by decide, by decide⟩ rfl (Nat.le_of_ble_eq_true rfl) hl.1 dX1_end_45) (fun v1 h2 H locs cells slots hH hL hrun => ?_)
    refine lv_if_eq (tgt := 92) (pc := 50) hx hb dX1_end_50 (by decide) (fun c_ => ?_) (fun c_ => ?_)
    · have hrun := ite_t hrun c_
      refine lv_iload_n (pc := 92) hx hb dX1_end_92 rfl (lv_at hl 1 rfl) ?_
      refine V_bd (pc := 93) C hL rfl hrun (fun rr1 e1 => Z_runS (rest := []) C hH (m_X1_requireState hl9 e1) wS_X1_182 rfl ⟨by decide, by decide⟩ rfl (Nat.le_of_ble_eq_true rfl) hl.1 dX1_end_93) (fun _ h5 H locs cells slots hH hL hrun => ?_)
      refine V_aload_n (pc := 96) hx hb dX1_end_96 rfl (lv_at hl 0 rfl) ?_
      obtain ⟨c6, hrun⟩ := gd_some hrun
      refine V_getL (pc := 97) C hH fr_X1_111 dX1_end_97 c6 rfl ?_
      refine V_aload_n (pc := 100) hx hb dX1_end_100 rfl (lv_at hl 0 rfl) ?_
      refine V_getR (pc := 101) C hH fr_X1_84 dX1_end_101 c6 rfl ?_
      obtain ⟨c7, hrun⟩ := gd_some hrun
      refine V_getNI (pc := 104) C hH fn_X1_488 dX1_end_104 c7 rfl ?_
      refine lv_i2l (pc := 107) hx hb dX1_end_107 rfl ?_
      refine lv_ldc2 (pc := 108) hx hb hown (hts _ q404) dX1_end_108 ?_
      refine V_bd (pc := 111) C hL rfl hrun (fun rr1 e1 => Z_runS (rest := []) C hH (m_X1_part hl9 e1) wS_X1_347 rfl ⟨by decide, by decide⟩ rfl (Nat.le_of_ble_eq_true rfl) hl.1 dX1_end_111) (fun v8 h9 H locs cells slots hH hL hrun => ?_)
      refine lv_lstore_n (i := 2) (lv' := [(2, .long v8), (0, rv x0), (1, .int x1)]) (pc := 114) hx hb dX1_end_114 rfl hl (by decide) rfl (fun ls hl => ?_)
      refine V_aload_n (pc := 115) hx hb dX1_end_115 rfl (lv_at hl 1 rfl) ?_
      obtain ⟨c10, hrun⟩ := gd_some hrun
      refine V_getL (pc := 116) C hH fr_X1_111 dX1_end_116 c10 rfl ?_
      refine lv_lload_n (pc := 119) hx hb dX1_end_119 rfl (lv_at hl 0 rfl) ?_
      refine lv_lsub (pc := 120) hx hb dX1_end_120 ?_
      refine lv_topl (fun v11 ev11 => ?_)
      have hrun := vl_at hrun v11 ev11
      refine lv_lstore (i := 4) (lv' := [(4, .long v11), (2, .long v8), (0, rv x0), (1, .int x1)]) (pc := 121) hx hb dX1_end_121 hl (by decide) rfl (fun ls hl => ?_)
      refine V_aload_n (pc := 123) hx hb dX1_end_123 rfl (lv_at hl 2 rfl) ?_
      refine V_getR (pc := 124) C hH fr_X1_74 dX1_end_124 c10 rfl ?_
      refine lv_dup (pc := 127) hx hb dX1_end_127 (rv_cat _) ?_
      obtain ⟨c12, hrun⟩ := gd_some hrun
      refine V_getNL (pc := 128) C hH fn_X1_491 dX1_end_128 c12 rfl ?_
      refine lv_lload_n (pc := 131) hx hb dX1_end_131 rfl (lv_at hl 1 rfl) ?_
      refine lv_ladd (pc := 132) hx hb dX1_end_132 ?_
      refine V_putNL (pc := 133) C hH hL fn_X1_491 dX1_end_133 c12 (fok_l _) rfl hrun (fun h13 H locs hH hL hrun => ?_)
      refine V_aload_n (pc := 136) hx hb dX1_end_136 rfl (lv_at hl 2 rfl) ?_
      obtain ⟨c14, hrun⟩ := gd_some hrun
      refine V_getR (pc := 137) C hH fr_X1_74 dX1_end_137 c14 rfl ?_
      refine lv_dup (pc := 140) hx hb dX1_end_140 (rv_cat _) ?_
      obtain ⟨c15, hrun⟩ := gd_some hrun
      refine V_getNL (pc := 141) C hH fn_X1_494 dX1_end_141 c15 rfl ?_
      refine lv_lload (pc := 144) hx hb dX1_end_144 (lv_at hl 0 rfl) ?_
      refine lv_ladd (pc := 146) hx hb dX1_end_146 ?_
      refine V_putNL (pc := 147) C hH hL fn_X1_494 dX1_end_147 c15 (fok_l _) rfl hrun (fun h16 H locs hH hL hrun => ?_)
      refine V_aload_n (pc := 150) hx hb dX1_end_150 rfl (lv_at hl 2 rfl) ?_
      refine lv_lconst (v := (0 : Int64)) (pc := 151) hx hb dX1_end_151 (by decide) ?_
      obtain ⟨c17, hrun⟩ := gd_some hrun
      refine V_putL (pc := 152) C hH hL fl_X1_111 dX1_end_152 c17 (fok_l _) rfl (fun q => Bool.noConfusion q) hrun (fun h18 H locs hH hL hrun => ?_)
      refine V_aload_n (pc := 155) hx hb dX1_end_155 rfl (lv_at hl 2 rfl) ?_
      obtain ⟨c19, hrun⟩ := gd_some hrun
      refine V_getR (pc := 156) C hH fr_X1_84 dX1_end_156 c19 rfl ?_
      refine lv_iconst (v := (5 : Int32)) (pc := 159) hx hb dX1_end_159 (by decide) ?_
      obtain ⟨c20, hrun⟩ := gd_some hrun
      refine V_putNI (pc := 160) C hH hL fn_X1_118 dX1_end_160 c20 (fok_i _) rfl hrun (fun h21 H locs hH hL hrun => ?_)
      refine lv_lload (pc := 163) hx hb dX1_end_163 (lv_at hl 0 rfl) ?_
      exact V_lret (pc := 165) C hH hL hrun dX1_end_165
    · have hrun := ite_f hrun c_
      refine V_aload_n (pc := 53) hx hb dX1_end_53 rfl (lv_at hl 2 rfl) ?_
      obtain ⟨c24, hrun⟩ := gd_some hrun
      refine V_bd5 (pc := 54) C hL rfl hrun (fun rr1 e1 => Z_runF (rest := []) C hH (m_J16_next hl9 e1) rfl wF_X1_217_J16 c24 (by decide) rfl ⟨by decide, by decide⟩ rfl (Nat.le_of_ble_eq_true rfl) hl.1 dX1_end_54) (fun v22 h23 H locs cells slots hH hL hrun => ?_)
      obtain ⟨c25, hrun⟩ := gd_some hrun
      refine V_castX (pc := 59) (ci := 11) C hH rfl (by decide) q403 dX1_end_59 c25 ?_
      refine V_astore_n (i := 3) (lv' := [(3, rv v22), (0, rv x0), (1, .int x1), (2, rv x2)]) (pc := 62) hx hb dX1_end_62 rfl hl (by decide) (by simp [rv_cat, cat_i, cat_l, cat_f, cat_d]) (fun ls hl => ?_)
      refine lv_iload_n (pc := 63) hx hb dX1_end_63 rfl (lv_at hl 2 rfl) ?_
      refine lv_if_eq (tgt := 87) (pc := 64) hx hb dX1_end_64 (by decide) (fun c_ => ?_) (fun c_ => ?_)
      · have hrun := ite_t hrun c_
        exact b_X1_end_87 C ih x0 x2 h23 H locs cells slots ls hH hL (lv_sub hl [1, 3] rfl) hrun
      · have hrun := ite_f hrun c_
        refine V_aload_n (pc := 67) hx hb dX1_end_67 rfl (lv_at hl 0 rfl) ?_
        obtain ⟨c26, hrun⟩ := gd_some hrun
        refine V_getNI (pc := 68) C hH fn_X1_157 dX1_end_68 c26 rfl ?_
        refine lv_iconst (v := (1 : Int32)) (pc := 71) hx hb dX1_end_71 (by decide) ?_
        refine lv_icmp_eq (tgt := 87) (pc := 72) hx hb dX1_end_72 (by decide) (fun c_ => ?_) (fun c_ => ?_)
        · have hrun := ite_t hrun c_
          exact b_X1_end_87 C ih x0 x2 h23 H locs cells slots ls hH hL (lv_sub hl [1, 3] rfl) hrun
        · have hrun := ite_f hrun c_
          refine V_aload_n (pc := 75) hx hb dX1_end_75 rfl (lv_at hl 0 rfl) ?_
          refine V_getNI (pc := 76) C hH fn_X1_157 dX1_end_76 c26 rfl ?_
          refine lv_iconst (v := (2 : Int32)) (pc := 79) hx hb dX1_end_79 (by decide) ?_
          refine lv_icmp_eq (tgt := 87) (pc := 80) hx hb dX1_end_80 (by decide) (fun c_ => ?_) (fun c_ => ?_)
          · have hrun := ite_t hrun c_
            exact b_X1_end_87 C ih x0 x2 h23 H locs cells slots ls hH hL (lv_sub hl [1, 3] rfl) hrun
          · have hrun := ite_f hrun c_
            refine lv_iconst (v := (1 : Int32)) (pc := 83) hx hb dX1_end_83 (by decide) ?_
            refine lv_goto (tgt := 88) (pc := 84) hx hb dX1_end_84 (by decide) ?_
            exact b_X1_end_88 C ih x0 x2 (1 : Int32) h23 H locs cells slots ls hH hL (lv_sub hl [1, 3] rfl) hrun

theorem b_X1_end_35 {rr : (Int64 ⊕ Ex) × Hp}  (C : CX p l R s m args meth c D Hs cX1_end "Massclaim" 6 (some .long) [] 7 110)  : ∀ (x0 : Nat) (y0 : Int32) (h : Hp) (H : Heap) (locs : List Loc) (cells slots : Nat) (ls : Array Slot), HP D Hs h H → LO Hs locs → lv_has ls 6 [(0, rv x0)] → f_X1_end_35 x0 y0 h = some rr → W p l e R s m args below meth c H locs cells slots (ZM D Hs iL rr below args s) (F0 m 35 ls [.int y0]) := by
  obtain ⟨⟨hx, hb, hml, hown, hts⟩, -⟩ := id C
  have hl9 := C.2.1.2.2.1
  intro x0 y0 h H locs cells slots ls hH hL hl hrun
  unfold f_X1_end_35 at hrun
  refine lv_istore_n (i := 1) (lv' := [(1, .int y0), (0, rv x0)]) (pc := 35) hx hb dX1_end_35 rfl hl (by decide) (by simp [rv_cat, cat_i, cat_l, cat_f, cat_d]) (fun ls hl => ?_)
  refine V_aload_n (pc := 36) hx hb dX1_end_36 rfl (lv_at hl 1 rfl) ?_
  obtain ⟨c27, hrun⟩ := gd_some hrun
  refine V_getR (pc := 37) C hH fr_X1_52 dX1_end_37 c27 rfl ?_
  obtain ⟨c30, hrun⟩ := gd_some hrun
  refine V_bd (pc := 40) C hL rfl hrun (fun rr1 e1 => Z_runV (rest := []) C hH (m_X2_iterator hl9 e1) wV_X1_208 c30 rfl (by decide) rfl rfl ⟨by decide, by decide⟩ rfl (Nat.le_of_ble_eq_true rfl) hl.1 dX1_end_40) (fun v28 h29 H locs cells slots hH hL hrun => ?_)
  refine V_astore_n (i := 2) (lv' := [(2, rv v28), (1, .int y0), (0, rv x0)]) (pc := 43) hx hb dX1_end_43 rfl hl (by decide) rfl (fun ls hl => ?_)
  exact b_X1_end_44 C FU x0 y0 v28 h29 H locs cells slots ls hH hL (lv_sub hl [2, 1, 0] rfl) hrun

theorem b_X1_end_34 {rr : (Int64 ⊕ Ex) × Hp}  (C : CX p l R s m args meth c D Hs cX1_end "Massclaim" 6 (some .long) [] 7 110)  : ∀ (x0 : Nat) (h : Hp) (H : Heap) (locs : List Loc) (cells slots : Nat) (ls : Array Slot), HP D Hs h H → LO Hs locs → lv_has ls 6 [(0, rv x0)] → f_X1_end_34 x0 h = some rr → W p l e R s m args below meth c H locs cells slots (ZM D Hs iL rr below args s) (F0 m 34 ls []) := by
  obtain ⟨⟨hx, hb, hml, hown, hts⟩, -⟩ := id C
  have hl9 := C.2.1.2.2.1
  intro x0 h H locs cells slots ls hH hL hl hrun
  unfold f_X1_end_34 at hrun
  refine lv_iconst (v := (0 : Int32)) (pc := 34) hx hb dX1_end_34 (by decide) ?_
  exact b_X1_end_35 C x0 (0 : Int32) h H locs cells slots ls hH hL (lv_sub hl [0] rfl) hrun

theorem b_X1_end {rr : (Int64 ⊕ Ex) × Hp}  (C : CX p l R s m args meth c D Hs cX1_end "Massclaim" 6 (some .long) [] 7 110)  : ∀ (x0 : Nat) (h : Hp) (H : Heap) (locs : List Loc) (cells slots : Nat) (ls : Array Slot), HP D Hs h H → LO Hs locs → lv_has ls 6 [(0, rv x0)] → f_X1_end x0 h = some rr → W p l e R s m args below meth c H locs cells slots (ZM D Hs iL rr below args s) (F0 m 0 ls []) := by
  obtain ⟨⟨hx, hb, hml, hown, hts⟩, -⟩ := id C
  have hl9 := C.2.1.2.2.1
  intro x0 h H locs cells slots ls hH hL hl hrun
  unfold f_X1_end at hrun
  refine V_aload_n (pc := 0) hx hb dX1_end_0 rfl (lv_at hl 0 rfl) ?_
  obtain ⟨c33, hrun⟩ := gd_some hrun
  refine V_bd (pc := 1) C hL rfl hrun (fun rr1 e1 => Z_runV (rest := []) C hH (m_X1_stage hl9 e1) wV_X1_123 c33 rfl (by decide) rfl rfl ⟨by decide, by decide⟩ rfl (Nat.le_of_ble_eq_true rfl) hl.1 dX1_end_1) (fun v31 h32 H locs cells slots hH hL hrun => ?_)
  refine lv_iconst (v := (3 : Int32)) (pc := 4) hx hb dX1_end_4 (by decide) ?_
  refine lv_icmp_ne (tgt := 34) (pc := 5) hx hb dX1_end_5 (by decide) (fun c_ => ?_) (fun c_ => ?_)
  · have hrun := ite_f hrun c_
    exact b_X1_end_34 C x0 h32 H locs cells slots ls hH hL (lv_sub hl [0] rfl) hrun
  · have hrun := ite_t hrun c_
    refine V_aload_n (pc := 8) hx hb dX1_end_8 rfl (lv_at hl 0 rfl) ?_
    refine V_aload_n (pc := 9) hx hb dX1_end_9 rfl (lv_at hl 0 rfl) ?_
    obtain ⟨c34, hrun⟩ := gd_some hrun
    refine V_getI (pc := 10) C hH fr_X1_108 dX1_end_10 c34 rfl ?_
    refine V_bd (pc := 13) C hL rfl hrun (fun rr1 e1 => Z_runV (rest := []) C hH (m_X1_due hl9 e1) wV_X1_471 c34 rfl (by decide) rfl rfl ⟨by decide, by decide⟩ rfl (Nat.le_of_ble_eq_true rfl) hl.1 dX1_end_13) (fun v35 h36 H locs cells slots hH hL hrun => ?_)
    refine lv_lconst (v := (0 : Int64)) (pc := 16) hx hb dX1_end_16 (by decide) ?_
    refine V_lcmp_ne (tgt := 34) (pc := 17) hx hb dX1_end_17 dX1_end_18 (by decide) (fun c_ => ?_) (fun c_ => ?_)
    · have hrun := ite_f hrun c_
      exact b_X1_end_34 C x0 h36 H locs cells slots ls hH hL (lv_sub hl [0] rfl) hrun
    · have hrun := ite_t hrun c_
      refine V_aload_n (pc := 21) hx hb dX1_end_21 rfl (lv_at hl 0 rfl) ?_
      obtain ⟨c39, hrun⟩ := gd_some hrun
      refine V_bd (pc := 22) C hL rfl hrun (fun rr1 e1 => Z_runV (rest := []) C hH (m_X1_owed hl9 e1) wV_X1_409 c39 rfl (by decide) rfl rfl ⟨by decide, by decide⟩ rfl (Nat.le_of_ble_eq_true rfl) hl.1 dX1_end_22) (fun v37 h38 H locs cells slots hH hL hrun => ?_)
      refine lv_lconst (v := (0 : Int64)) (pc := 25) hx hb dX1_end_25 (by decide) ?_
      refine V_lcmp_ne (tgt := 34) (pc := 26) hx hb dX1_end_26 dX1_end_27 (by decide) (fun c_ => ?_) (fun c_ => ?_)
      · have hrun := ite_f hrun c_
        exact b_X1_end_34 C x0 h38 H locs cells slots ls hH hL (lv_sub hl [0] rfl) hrun
      · have hrun := ite_t hrun c_
        refine lv_iconst (v := (1 : Int32)) (pc := 30) hx hb dX1_end_30 (by decide) ?_
        refine lv_goto (tgt := 35) (pc := 31) hx hb dX1_end_31 (by decide) ?_
        exact b_X1_end_35 C x0 (1 : Int32) h38 H locs cells slots ls hH hL (lv_sub hl [0] rfl) hrun

theorem m_X1_end {l : Launch} {D : va_G} {Hs : Heap} {h : Hp} {rr : (Int64 ⊕ Ex) × Hp} (hl9 : l.stackTraces = false) {x0 : Nat} (hrun : f_X1_end x0 h = some rr) : CM l yX1_end (ws_ yX1_end cX1_end 6 (some .long)) 7 110 iL [rv x0] D Hs h rr := by
  refine CM.of (lv := [(0, rv x0)]) (plainFor_of_name (by decide)) hl9 (by simp [lv_args, rv_cat, cat_i, cat_l, cat_f, cat_d]) (by simp [lg_sl, rv_cat, cat_i, cat_l, cat_f, cat_d]) ?_
  intro p e R s m args below meth c H ls C hH hl hin
  exact b_X1_end C x0 _ H [] _ _ ls hH (fun _ q => nomatch q) (lv_sub hl [0] rfl) hrun

/-! MassclaimLaw.end(LMassclaim;[J)I -/
def f_X0_end_10  (y0 : Nat) (h : Hp) : Rt Int32 :=
  some (.inl (1 : Int32), h)
def f_X0_end  (x0 : Nat) (x1 : Nat) (h : Hp) : Rt Int32 :=
  gd (kC h x0 = 1) <| bdH (f_X1_end x0 h)
  (fun v1 h2 => gd (kC h2 x1 = 102 ∧ ixo (0 : Int32) (kN h2 x1)) <| vl (tL h2 x1 ((0 : Int32)).toNatClampNeg v1) fun h5 => some (.inl (0 : Int32), h5))
  (fun ex6 h7 => if ex6.1 = 903 then
  (f_X0_end_10 ex6.2 h7)
  else
  none)
theorem b_X0_end_10 {rr : (Int32 ⊕ Ex) × Hp}  (C : CX p l R s m args meth c D Hs cX0_end "MassclaimLaw" 3 (some .int) [(0, 7, 10, 19)] 8 135)  : ∀ (y0 : Nat) (h : Hp) (H : Heap) (locs : List Loc) (cells slots : Nat) (ls : Array Slot), HP D Hs h H → LO Hs locs → lv_has ls 3 [] → f_X0_end_10 y0 h = some rr → W p l e R s m args below meth c H locs cells slots (ZM D Hs iI rr below args s) (F0 m 10 ls [rv y0]) := by
  obtain ⟨⟨hx, hb, hml, hown, hts⟩, -⟩ := id C
  have hl9 := C.2.1.2.2.1
  intro y0 h H locs cells slots ls hH hL hl hrun
  unfold f_X0_end_10 at hrun
  refine V_astore_n (i := 2) (lv' := [(2, rv y0)]) (pc := 10) hx hb dX0_end_10 rfl hl (by decide) rfl (fun ls hl => ?_)
  refine lv_iconst (v := (1 : Int32)) (pc := 11) hx hb dX0_end_11 (by decide) ?_
  exact V_iret (pc := 12) C hH hL hrun dX0_end_12

theorem b_X0_end {rr : (Int32 ⊕ Ex) × Hp}  (C : CX p l R s m args meth c D Hs cX0_end "MassclaimLaw" 3 (some .int) [(0, 7, 10, 19)] 8 135)  : ∀ (x0 : Nat) (x1 : Nat) (h : Hp) (H : Heap) (locs : List Loc) (cells slots : Nat) (ls : Array Slot), HP D Hs h H → LO Hs locs → lv_has ls 3 [(0, rv x0), (1, rv x1)] → f_X0_end x0 x1 h = some rr → W p l e R s m args below meth c H locs cells slots (ZM D Hs iI rr below args s) (F0 m 0 ls []) := by
  obtain ⟨⟨hx, hb, hml, hown, hts⟩, -⟩ := id C
  have hl9 := C.2.1.2.2.1
  intro x0 x1 h H locs cells slots ls hH hL hl hrun
  unfold f_X0_end at hrun
  refine V_aload_n (pc := 0) hx hb dX0_end_0 rfl (lv_at hl 1 rfl) ?_
  refine lv_iconst (v := (0 : Int32)) (pc := 1) hx hb dX0_end_1 (by decide) ?_
  refine V_aload_n (pc := 2) hx hb dX0_end_2 rfl (lv_at hl 0 rfl) ?_
  obtain ⟨c3, hrun⟩ := gd_some hrun
  refine V_bdH (pc := 3) hL hrun (fun rr1 e1 => Z_runV (rest := [.int (0 : Int32), rv x1]) C hH (m_X1_end hl9 e1) wV_X0_144 c3 rfl (by decide) rfl rfl ⟨by decide, by decide⟩ rfl (by simp [csum, rv_cat, cat_i, cat_l, cat_f, cat_d]) hl.1 dX0_end_3) (fun v1 h2 H locs cells slots hH hL hrun => ?_) (fun x_ q_ ce_ h7 H locs cells slots hH hL hrun hc_ hv_ hcl_ => ?_)
  · obtain ⟨c4, hrun⟩ := gd_some hrun
    refine V_last (pc := 6) C hH hL dX0_end_6 c4 hrun (fun h5 H locs hH hL hrun => ?_)
    refine lv_goto (tgt := 13) (pc := 7) hx hb dX0_end_7 (by decide) ?_
    refine lv_iconst (v := (0 : Int32)) (pc := 13) hx hb dX0_end_13 (by decide) ?_
    exact V_iret (pc := 14) C hH hL hrun dX0_end_14
  · by_cases n903 : x_ = 903
    · subst n903
      have hrun := ite_t hrun rfl
      refine vx_catch (E := "java/lang/IllegalStateException") (name := "java/lang/IllegalStateException") hown (tableOf []) ⟨0, 7, 10, 19⟩ (tableOf []) (by rw [C.2.1.2.2.2.2]; rfl) (fun z hz => nomatch hz) (by decide) (by decide) (hts _ q585) (va_Nw.use rfl (C.2.1.2.2.2.1.2.1 _ q702 rfl)) hc_ hv_ hcl_ ?_
      exact b_X0_end_10 C (q_ + 1) h7 H locs cells slots ls hH hL (lv_sub hl [] rfl) hrun
    have hrun := ite_f hrun n903
    cases hrun

theorem m_X0_end {l : Launch} {D : va_G} {Hs : Heap} {h : Hp} {rr : (Int32 ⊕ Ex) × Hp} (hl9 : l.stackTraces = false) {x0 : Nat} {x1 : Nat} (hrun : f_X0_end x0 x1 h = some rr) : CM l yX0_end (wsW_ yX0_end cX0_end 3 (some .int) [(0, 7, 10, 19)]) 8 135 iI [rv x0, rv x1] D Hs h rr := by
  refine CM.ofH (lv := [(0, rv x0), (1, rv x1)]) (plainFor_of_name (by decide)) hl9 (by simp [lv_args, rv_cat, cat_i, cat_l, cat_f, cat_d]) (by simp [lg_sl, rv_cat, cat_i, cat_l, cat_f, cat_d]) ?_
  intro p e R s m args below meth c H ls C hH hl hin
  exact b_X0_end C x0 x1 _ H [] _ _ ls hH (fun _ q => nomatch q) (lv_sub hl [0, 1] rfl) hrun

/-! MassclaimModel.in(I)I -/
def f_X4_in_39 (k4 : Nat → Int32 → Int32 → Int32 → Hp → Rt Int32) (x0 : Nat) (x1 : Int32) (x3 : Int32) (y0 : Int32) (y1 : Int32) (h : Hp) : Rt Int32 :=
  vl (y0 + y1) fun v1 => vl (x3 + (1 : Int32)) fun v2 => k4 x0 x1 v1 v2 h
def f_X4_in_4  : Nat → Nat → Int32 → Int32 → Int32 → Hp → Rt Int32
  | 0, _, _, _, _, _ => none
  | n + 1, x0, x1, x2, x3, h => gd (kC h x0 = 4) <| gd (kC h (kR h 320 x0) = 18) <| bd (f_J2_size (kR h 320 x0) h) fun v4 h5 => if v4 ≤ x3 then
  (some (.inl x2, h5))
  else
  (gd (kC h5 x0 = 4) <| gd (kC h5 (kR h5 320 x0) = 18) <| bd (f_J2_get (kR h5 320 x0) x3 h5) fun v8 h9 => gd (v8 = 0 ∨ kC h9 v8 = 13) <| gd (kC h9 v8 = 13) <| if (kI h9 1203 v8) = x1 then
  (f_X4_in_39 (f_X4_in_4 n) x0 x1 x3 x2 (1 : Int32) h9)
  else
  (f_X4_in_39 (f_X4_in_4 n) x0 x1 x3 x2 (0 : Int32) h9))
def f_X4_in  (x0 : Nat) (x1 : Int32) (h : Hp) : Rt Int32 :=
  f_X4_in_4 FU x0 x1 (0 : Int32) (0 : Int32) h
theorem b_X4_in_39 {rr : (Int32 ⊕ Ex) × Hp} {k4 : Nat → Int32 → Int32 → Int32 → Hp → Rt Int32} (C : CX p l R s m args meth c D Hs cX4_in "MassclaimModel" 4 (some .int) [] 4 64) (K4 : ∀ (x0 : Nat) (x1 : Int32) (x2 : Int32) (x3 : Int32) (h : Hp) (H : Heap) (locs : List Loc) (cells slots : Nat) (ls : Array Slot), HP D Hs h H → LO Hs locs → lv_has ls 4 [(0, rv x0), (1, .int x1), (2, .int x2), (3, .int x3)] → k4 x0 x1 x2 x3 h = some rr → W p l e R s m args below meth c H locs cells slots (ZM D Hs iI rr below args s) (F0 m 4 ls [])) : ∀ (x0 : Nat) (x1 : Int32) (x3 : Int32) (y0 : Int32) (y1 : Int32) (h : Hp) (H : Heap) (locs : List Loc) (cells slots : Nat) (ls : Array Slot), HP D Hs h H → LO Hs locs → lv_has ls 4 [(0, rv x0), (1, .int x1), (3, .int x3)] → f_X4_in_39 k4 x0 x1 x3 y0 y1 h = some rr → W p l e R s m args below meth c H locs cells slots (ZM D Hs iI rr below args s) (F0 m 39 ls [.int y1, .int y0]) := by
  obtain ⟨⟨hx, hb, hml, hown, hts⟩, -⟩ := id C
  have hl9 := C.2.1.2.2.1
  intro x0 x1 x3 y0 y1 h H locs cells slots ls hH hL hl hrun
  unfold f_X4_in_39 at hrun
  refine lv_iadd (pc := 39) hx hb dX4_in_39 ?_
  refine lv_topi (fun v1 ev1 => ?_)
  have hrun := vl_at hrun v1 ev1
  refine lv_istore_n (i := 2) (lv' := [(2, .int v1), (0, rv x0), (1, .int x1), (3, .int x3)]) (pc := 40) hx hb dX4_in_40 rfl hl (by decide) rfl (fun ls hl => ?_)
  obtain ⟨v2, ev2⟩ : ∃ y : Int32, y = x3 + (1 : Int32) := ⟨_, rfl⟩
  have hrun := vl_at hrun v2 ev2
  refine lv_iinc (v := v2) (lv' := [(3, .int v2), (2, .int v1), (0, rv x0), (1, .int x1)]) (pc := 41) hx hb dX4_in_41 hl (k := 3) rfl (by rw [ev2]; rfl) (by decide) (by first | rfl | simp [rv_cat, cat_i, cat_l, cat_f, cat_d]) (fun ls hl => ?_)
  refine lv_goto (tgt := 4) (pc := 44) hx hb dX4_in_44 (by decide) ?_
  exact K4 x0 x1 v1 v2 h H locs cells slots ls hH hL (lv_sub hl [2, 3, 1, 0] rfl) hrun

theorem b_X4_in_4 {rr : (Int32 ⊕ Ex) × Hp}  (C : CX p l R s m args meth c D Hs cX4_in "MassclaimModel" 4 (some .int) [] 4 64)  : ∀ (n : Nat) (x0 : Nat) (x1 : Int32) (x2 : Int32) (x3 : Int32) (h : Hp) (H : Heap) (locs : List Loc) (cells slots : Nat) (ls : Array Slot), HP D Hs h H → LO Hs locs → lv_has ls 4 [(0, rv x0), (1, .int x1), (2, .int x2), (3, .int x3)] → f_X4_in_4 n x0 x1 x2 x3 h = some rr → W p l e R s m args below meth c H locs cells slots (ZM D Hs iI rr below args s) (F0 m 4 ls []) := by
  obtain ⟨⟨hx, hb, hml, hown, hts⟩, -⟩ := id C
  have hl9 := C.2.1.2.2.1
  intro n
  induction n with
  | zero =>
    intro x0 x1 x2 x3 h H locs cells slots ls hH hL hl hrun
    cases (show (none : Option _) = some rr from hrun)
  | succ n ih =>
    intro x0 x1 x2 x3 h H locs cells slots ls hH hL hl hrun
    rw [f_X4_in_4] at hrun
    refine lv_iload_n (pc := 4) hx hb dX4_in_4 rfl (lv_at hl 3 rfl) ?_
    refine V_aload_n (pc := 5) hx hb dX4_in_5 rfl (lv_at hl 0 rfl) ?_
    obtain ⟨c3, hrun⟩ := gd_some hrun
    refine V_getR (pc := 6) C hH fr_X4_30 dX4_in_6 c3 rfl ?_
    obtain ⟨c6, hrun⟩ := gd_some hrun
    refine V_bd (pc := 9) C hL rfl hrun (fun rr1 e1 => Z_runV (rest := [.int x3]) C hH (m_J2_size hl9 e1) wV_X4_94 c6 rfl (by decide) rfl rfl ⟨by decide, by decide⟩ rfl (Nat.le_of_ble_eq_true rfl) hl.1 dX4_in_9) (fun v4 h5 H locs cells slots hH hL hrun => ?_)
    refine lv_icmp_ge (tgt := 47) (pc := 12) hx hb dX4_in_12 (by decide) (fun c_ => ?_) (fun c_ => ?_)
    · have hrun := ite_t hrun c_
      refine lv_iload_n (pc := 47) hx hb dX4_in_47 rfl (lv_at hl 2 rfl) ?_
      exact V_iret (pc := 48) C hH hL hrun dX4_in_48
    · have hrun := ite_f hrun c_
      refine lv_iload_n (pc := 15) hx hb dX4_in_15 rfl (lv_at hl 2 rfl) ?_
      refine V_aload_n (pc := 16) hx hb dX4_in_16 rfl (lv_at hl 0 rfl) ?_
      obtain ⟨c7, hrun⟩ := gd_some hrun
      refine V_getR (pc := 17) C hH fr_X4_30 dX4_in_17 c7 rfl ?_
      refine lv_iload_n (pc := 20) hx hb dX4_in_20 rfl (lv_at hl 3 rfl) ?_
      obtain ⟨c10, hrun⟩ := gd_some hrun
      refine V_bd (pc := 21) C hL rfl hrun (fun rr1 e1 => Z_runV (rest := [.int x2]) C hH (m_J2_get hl9 e1) wV_X4_108 c10 rfl (by decide) rfl rfl ⟨by decide, by decide⟩ rfl (Nat.le_of_ble_eq_true rfl) hl.1 dX4_in_21) (fun v8 h9 H locs cells slots hH hL hrun => ?_)
      obtain ⟨c11, hrun⟩ := gd_some hrun
      refine V_castX (pc := 24) (ci := 12) C hH rfl (by decide) q1955 dX4_in_24 c11 ?_
      obtain ⟨c12, hrun⟩ := gd_some hrun
      refine V_getI (pc := 27) C hH fr_X4_126 dX4_in_27 c12 rfl ?_
      refine lv_iload_n (pc := 30) hx hb dX4_in_30 rfl (lv_at hl 1 rfl) ?_
      refine lv_icmp_ne (tgt := 38) (pc := 31) hx hb dX4_in_31 (by decide) (fun c_ => ?_) (fun c_ => ?_)
      · have hrun := ite_f hrun c_
        refine lv_iconst (v := (0 : Int32)) (pc := 38) hx hb dX4_in_38 (by decide) ?_
        exact b_X4_in_39 C ih x0 x1 x3 x2 (0 : Int32) h9 H locs cells slots ls hH hL (lv_sub hl [0, 1, 3] rfl) hrun
      · have hrun := ite_t hrun c_
        refine lv_iconst (v := (1 : Int32)) (pc := 34) hx hb dX4_in_34 (by decide) ?_
        refine lv_goto (tgt := 39) (pc := 35) hx hb dX4_in_35 (by decide) ?_
        exact b_X4_in_39 C ih x0 x1 x3 x2 (1 : Int32) h9 H locs cells slots ls hH hL (lv_sub hl [0, 1, 3] rfl) hrun

theorem b_X4_in {rr : (Int32 ⊕ Ex) × Hp}  (C : CX p l R s m args meth c D Hs cX4_in "MassclaimModel" 4 (some .int) [] 4 64)  : ∀ (x0 : Nat) (x1 : Int32) (h : Hp) (H : Heap) (locs : List Loc) (cells slots : Nat) (ls : Array Slot), HP D Hs h H → LO Hs locs → lv_has ls 4 [(0, rv x0), (1, .int x1)] → f_X4_in x0 x1 h = some rr → W p l e R s m args below meth c H locs cells slots (ZM D Hs iI rr below args s) (F0 m 0 ls []) := by
  obtain ⟨⟨hx, hb, hml, hown, hts⟩, -⟩ := id C
  have hl9 := C.2.1.2.2.1
  intro x0 x1 h H locs cells slots ls hH hL hl hrun
  unfold f_X4_in at hrun
  refine lv_iconst (v := (0 : Int32)) (pc := 0) hx hb dX4_in_0 (by decide) ?_
  refine lv_istore_n (i := 2) (lv' := [(2, .int (0 : Int32)), (0, rv x0), (1, .int x1)]) (pc := 1) hx hb dX4_in_1 rfl hl (by decide) rfl (fun ls hl => ?_)
  refine lv_iconst (v := (0 : Int32)) (pc := 2) hx hb dX4_in_2 (by decide) ?_
  refine lv_istore_n (i := 3) (lv' := [(3, .int (0 : Int32)), (2, .int (0 : Int32)), (0, rv x0), (1, .int x1)]) (pc := 3) hx hb dX4_in_3 rfl hl (by decide) rfl (fun ls hl => ?_)
  exact b_X4_in_4 C FU x0 x1 (0 : Int32) (0 : Int32) h H locs cells slots ls hH hL (lv_sub hl [2, 3, 1, 0] rfl) hrun

theorem m_X4_in {l : Launch} {D : va_G} {Hs : Heap} {h : Hp} {rr : (Int32 ⊕ Ex) × Hp} (hl9 : l.stackTraces = false) {x0 : Nat} {x1 : Int32} (hrun : f_X4_in x0 x1 h = some rr) : CM l yX4_in (ws_ yX4_in cX4_in 4 (some .int)) 4 64 iI [rv x0, .int x1] D Hs h rr := by
  refine CM.of (lv := [(0, rv x0), (1, .int x1)]) (plainFor_of_name (by decide)) hl9 (by simp [lv_args, rv_cat, cat_i, cat_l, cat_f, cat_d]) (by simp [lg_sl, rv_cat, cat_i, cat_l, cat_f, cat_d]) ?_
  intro p e R s m args below meth c H ls C hH hl hin
  exact b_X4_in C x0 x1 _ H [] _ _ ls hH (fun _ q => nomatch q) (lv_sub hl [0, 1] rfl) hrun

/-! MassclaimModel.end()J -/
def f_X4_end_51  (x0 : Nat) (y0 : Int32) (h : Hp) : Rt Int64 :=
  gd (kC h x0 = 4) <| bd (f_X4_isGood x0 y0 (1 : Int32) h) fun v1 h2 => if v1 = 0 then
  (some (.inl (0 : Int64), h2))
  else
  (gd (kC h2 x0 = 4) <| vl (sL h2 327 x0 ((kL h2 327 x0) + (((kL h2 322 x0) * ((kI h2 312 x0).toInt64)) / (100 : Int64)))) fun h5 => gd (kC h5 x0 = 4) <| vl (sL h5 328 x0 ((kL h5 328 x0) + ((kL h5 322 x0) - (((kL h5 322 x0) * ((kI h5 312 x0).toInt64)) / (100 : Int64))))) fun h7 => gd (kC h7 x0 = 4) <| vl (sL h7 322 x0 (0 : Int64)) fun h9 => gd (kC h9 x0 = 4) <| vl (sI h9 309 x0 (5 : Int32)) fun h11 => gd (kC h11 x0 = 4) <| some (.inl (kL h11 328 x0), h11))
def f_X4_end_50  (x0 : Nat) (h : Hp) : Rt Int64 :=
  f_X4_end_51 x0 (0 : Int32) h
def f_X4_end  (x0 : Nat) (h : Hp) : Rt Int64 :=
  gd (kC h x0 = 4) <| if (kI h 309 x0) = (3 : Int32) then
  (bd (f_X4_in x0 (1 : Int32) h) fun v14 h15 => if v14 = 0 then
  (gd (kC h15 x0 = 4) <| bd (f_X4_in x0 (2 : Int32) h15) fun v16 h17 => if v16 = 0 then
  (gd (kC h17 x0 = 4) <| bd (f_X4_allDue x0 (kI h17 319 x0) h17) fun v20 h21 => if v20 = (0 : Int64) then
  (gd (kC h21 x0 = 4) <| bd (f_X4_owed x0 h21) fun v22 h23 => if v22 = (0 : Int64) then
  (f_X4_end_51 x0 (1 : Int32) h23)
  else
  (f_X4_end_50 x0 h23))
  else
  (f_X4_end_50 x0 h21))
  else
  (f_X4_end_50 x0 h17))
  else
  (f_X4_end_50 x0 h15))
  else
  (f_X4_end_50 x0 h)
theorem b_X4_end_51 {rr : (Int64 ⊕ Ex) × Hp}  (C : CX p l R s m args meth c D Hs cX4_end "MassclaimModel" 2 (some .long) [] 6 118)  : ∀ (x0 : Nat) (y0 : Int32) (h : Hp) (H : Heap) (locs : List Loc) (cells slots : Nat) (ls : Array Slot), HP D Hs h H → LO Hs locs → lv_has ls 2 [(0, rv x0)] → f_X4_end_51 x0 y0 h = some rr → W p l e R s m args below meth c H locs cells slots (ZM D Hs iL rr below args s) (F0 m 51 ls [.int y0]) := by
  obtain ⟨⟨hx, hb, hml, hown, hts⟩, -⟩ := id C
  have hl9 := C.2.1.2.2.1
  intro x0 y0 h H locs cells slots ls hH hL hl hrun
  unfold f_X4_end_51 at hrun
  refine lv_istore_n (i := 1) (lv' := [(1, .int y0), (0, rv x0)]) (pc := 51) hx hb dX4_end_51 rfl hl (by decide) (by simp [rv_cat, cat_i, cat_l, cat_f, cat_d]) (fun ls hl => ?_)
  refine V_aload_n (pc := 52) hx hb dX4_end_52 rfl (lv_at hl 1 rfl) ?_
  refine lv_iload_n (pc := 53) hx hb dX4_end_53 rfl (lv_at hl 0 rfl) ?_
  refine lv_iconst (v := (1 : Int32)) (pc := 54) hx hb dX4_end_54 (by decide) ?_
  obtain ⟨c3, hrun⟩ := gd_some hrun
  refine V_bd (pc := 55) C hL rfl hrun (fun rr1 e1 => Z_runV (rest := []) C hH (m_X4_isGood hl9 e1) wV_X4_104 c3 rfl (by decide) rfl rfl ⟨by decide, by decide⟩ rfl (Nat.le_of_ble_eq_true rfl) hl.1 dX4_end_55) (fun v1 h2 H locs cells slots hH hL hrun => ?_)
  refine lv_if_ne (tgt := 63) (pc := 58) hx hb dX4_end_58 (by decide) (fun c_ => ?_) (fun c_ => ?_)
  · have hrun := ite_f hrun c_
    refine V_aload_n (pc := 63) hx hb dX4_end_63 rfl (lv_at hl 1 rfl) ?_
    refine lv_dup (pc := 64) hx hb dX4_end_64 (rv_cat _) ?_
    obtain ⟨c4, hrun⟩ := gd_some hrun
    refine V_getL (pc := 65) C hH fr_X4_88 dX4_end_65 c4 rfl ?_
    refine V_aload_n (pc := 68) hx hb dX4_end_68 rfl (lv_at hl 1 rfl) ?_
    refine V_getL (pc := 69) C hH fr_X4_76 dX4_end_69 c4 rfl ?_
    refine V_aload_n (pc := 72) hx hb dX4_end_72 rfl (lv_at hl 1 rfl) ?_
    refine V_getI (pc := 73) C hH fr_X4_338 dX4_end_73 c4 rfl ?_
    refine lv_i2l (pc := 76) hx hb dX4_end_76 rfl ?_
    refine lv_lmul (pc := 77) hx hb dX4_end_77 ?_
    refine lv_ldc2 (pc := 78) hx hb hown (hts _ q2205) dX4_end_78 ?_
    refine lv_ldiv (pc := 81) hx hb dX4_end_81 (by decide) ?_
    refine lv_ladd (pc := 82) hx hb dX4_end_82 ?_
    refine V_putL (pc := 83) C hH hL fl_X4_88 dX4_end_83 c4 (fok_l _) rfl (fun q => Bool.noConfusion q) hrun (fun h5 H locs hH hL hrun => ?_)
    refine V_aload_n (pc := 86) hx hb dX4_end_86 rfl (lv_at hl 1 rfl) ?_
    refine lv_dup (pc := 87) hx hb dX4_end_87 (rv_cat _) ?_
    obtain ⟨c6, hrun⟩ := gd_some hrun
    refine V_getL (pc := 88) C hH fr_X4_91 dX4_end_88 c6 rfl ?_
    refine V_aload_n (pc := 91) hx hb dX4_end_91 rfl (lv_at hl 1 rfl) ?_
    refine V_getL (pc := 92) C hH fr_X4_76 dX4_end_92 c6 rfl ?_
    refine V_aload_n (pc := 95) hx hb dX4_end_95 rfl (lv_at hl 1 rfl) ?_
    refine V_getL (pc := 96) C hH fr_X4_76 dX4_end_96 c6 rfl ?_
    refine V_aload_n (pc := 99) hx hb dX4_end_99 rfl (lv_at hl 1 rfl) ?_
    refine V_getI (pc := 100) C hH fr_X4_338 dX4_end_100 c6 rfl ?_
    refine lv_i2l (pc := 103) hx hb dX4_end_103 rfl ?_
    refine lv_lmul (pc := 104) hx hb dX4_end_104 ?_
    refine lv_ldc2 (pc := 105) hx hb hown (hts _ q2205) dX4_end_105 ?_
    refine lv_ldiv (pc := 108) hx hb dX4_end_108 (by decide) ?_
    refine lv_lsub (pc := 109) hx hb dX4_end_109 ?_
    refine lv_ladd (pc := 110) hx hb dX4_end_110 ?_
    refine V_putL (pc := 111) C hH hL fl_X4_91 dX4_end_111 c6 (fok_l _) rfl (fun q => Bool.noConfusion q) hrun (fun h7 H locs hH hL hrun => ?_)
    refine V_aload_n (pc := 114) hx hb dX4_end_114 rfl (lv_at hl 1 rfl) ?_
    refine lv_lconst (v := (0 : Int64)) (pc := 115) hx hb dX4_end_115 (by decide) ?_
    obtain ⟨c8, hrun⟩ := gd_some hrun
    refine V_putL (pc := 116) C hH hL fl_X4_76 dX4_end_116 c8 (fok_l _) rfl (fun q => Bool.noConfusion q) hrun (fun h9 H locs hH hL hrun => ?_)
    refine V_aload_n (pc := 119) hx hb dX4_end_119 rfl (lv_at hl 1 rfl) ?_
    refine lv_iconst (v := (5 : Int32)) (pc := 120) hx hb dX4_end_120 (by decide) ?_
    obtain ⟨c10, hrun⟩ := gd_some hrun
    refine V_putI (pc := 121) C hH hL fl_X4_53 dX4_end_121 c10 (fok_i _) rfl (fun q => Bool.noConfusion q) hrun (fun h11 H locs hH hL hrun => ?_)
    refine V_aload_n (pc := 124) hx hb dX4_end_124 rfl (lv_at hl 1 rfl) ?_
    obtain ⟨c12, hrun⟩ := gd_some hrun
    refine V_getL (pc := 125) C hH fr_X4_91 dX4_end_125 c12 rfl ?_
    exact V_lret (pc := 128) C hH hL hrun dX4_end_128
  · have hrun := ite_t hrun c_
    refine lv_lconst (v := (0 : Int64)) (pc := 61) hx hb dX4_end_61 (by decide) ?_
    exact V_lret (pc := 62) C hH hL hrun dX4_end_62

theorem b_X4_end_50 {rr : (Int64 ⊕ Ex) × Hp}  (C : CX p l R s m args meth c D Hs cX4_end "MassclaimModel" 2 (some .long) [] 6 118)  : ∀ (x0 : Nat) (h : Hp) (H : Heap) (locs : List Loc) (cells slots : Nat) (ls : Array Slot), HP D Hs h H → LO Hs locs → lv_has ls 2 [(0, rv x0)] → f_X4_end_50 x0 h = some rr → W p l e R s m args below meth c H locs cells slots (ZM D Hs iL rr below args s) (F0 m 50 ls []) := by
  obtain ⟨⟨hx, hb, hml, hown, hts⟩, -⟩ := id C
  have hl9 := C.2.1.2.2.1
  intro x0 h H locs cells slots ls hH hL hl hrun
  unfold f_X4_end_50 at hrun
  refine lv_iconst (v := (0 : Int32)) (pc := 50) hx hb dX4_end_50 (by decide) ?_
  exact b_X4_end_51 C x0 (0 : Int32) h H locs cells slots ls hH hL (lv_sub hl [0] rfl) hrun

theorem b_X4_end {rr : (Int64 ⊕ Ex) × Hp}  (C : CX p l R s m args meth c D Hs cX4_end "MassclaimModel" 2 (some .long) [] 6 118)  : ∀ (x0 : Nat) (h : Hp) (H : Heap) (locs : List Loc) (cells slots : Nat) (ls : Array Slot), HP D Hs h H → LO Hs locs → lv_has ls 2 [(0, rv x0)] → f_X4_end x0 h = some rr → W p l e R s m args below meth c H locs cells slots (ZM D Hs iL rr below args s) (F0 m 0 ls []) := by
  obtain ⟨⟨hx, hb, hml, hown, hts⟩, -⟩ := id C
  have hl9 := C.2.1.2.2.1
  intro x0 h H locs cells slots ls hH hL hl hrun
  unfold f_X4_end at hrun
  refine V_aload_n (pc := 0) hx hb dX4_end_0 rfl (lv_at hl 0 rfl) ?_
  obtain ⟨c13, hrun⟩ := gd_some hrun
  refine V_getI (pc := 1) C hH fr_X4_53 dX4_end_1 c13 rfl ?_
  refine lv_iconst (v := (3 : Int32)) (pc := 4) hx hb dX4_end_4 (by decide) ?_
  refine lv_icmp_ne (tgt := 50) (pc := 5) hx hb dX4_end_5 (by decide) (fun c_ => ?_) (fun c_ => ?_)
  · have hrun := ite_f hrun c_
    exact b_X4_end_50 C x0 h H locs cells slots ls hH hL (lv_sub hl [0] rfl) hrun
  · have hrun := ite_t hrun c_
    refine V_aload_n (pc := 8) hx hb dX4_end_8 rfl (lv_at hl 0 rfl) ?_
    refine lv_iconst (v := (1 : Int32)) (pc := 9) hx hb dX4_end_9 (by decide) ?_
    refine V_bd (pc := 10) C hL rfl hrun (fun rr1 e1 => Z_runV (rest := []) C hH (m_X4_in hl9 e1) wV_X4_462 c13 rfl (by decide) rfl rfl ⟨by decide, by decide⟩ rfl (Nat.le_of_ble_eq_true rfl) hl.1 dX4_end_10) (fun v14 h15 H locs cells slots hH hL hrun => ?_)
    refine lv_if_ne (tgt := 50) (pc := 13) hx hb dX4_end_13 (by decide) (fun c_ => ?_) (fun c_ => ?_)
    · have hrun := ite_f hrun c_
      exact b_X4_end_50 C x0 h15 H locs cells slots ls hH hL (lv_sub hl [0] rfl) hrun
    · have hrun := ite_t hrun c_
      refine V_aload_n (pc := 16) hx hb dX4_end_16 rfl (lv_at hl 0 rfl) ?_
      refine lv_iconst (v := (2 : Int32)) (pc := 17) hx hb dX4_end_17 (by decide) ?_
      obtain ⟨c18, hrun⟩ := gd_some hrun
      refine V_bd (pc := 18) C hL rfl hrun (fun rr1 e1 => Z_runV (rest := []) C hH (m_X4_in hl9 e1) wV_X4_462 c18 rfl (by decide) rfl rfl ⟨by decide, by decide⟩ rfl (Nat.le_of_ble_eq_true rfl) hl.1 dX4_end_18) (fun v16 h17 H locs cells slots hH hL hrun => ?_)
      refine lv_if_ne (tgt := 50) (pc := 21) hx hb dX4_end_21 (by decide) (fun c_ => ?_) (fun c_ => ?_)
      · have hrun := ite_f hrun c_
        exact b_X4_end_50 C x0 h17 H locs cells slots ls hH hL (lv_sub hl [0] rfl) hrun
      · have hrun := ite_t hrun c_
        refine V_aload_n (pc := 24) hx hb dX4_end_24 rfl (lv_at hl 0 rfl) ?_
        refine V_aload_n (pc := 25) hx hb dX4_end_25 rfl (lv_at hl 0 rfl) ?_
        obtain ⟨c19, hrun⟩ := gd_some hrun
        refine V_getI (pc := 26) C hH fr_X4_73 dX4_end_26 c19 rfl ?_
        refine V_bd (pc := 29) C hL rfl hrun (fun rr1 e1 => Z_runV (rest := []) C hH (m_X4_allDue hl9 e1) wV_X4_429 c19 rfl (by decide) rfl rfl ⟨by decide, by decide⟩ rfl (Nat.le_of_ble_eq_true rfl) hl.1 dX4_end_29) (fun v20 h21 H locs cells slots hH hL hrun => ?_)
        refine lv_lconst (v := (0 : Int64)) (pc := 32) hx hb dX4_end_32 (by decide) ?_
        refine V_lcmp_ne (tgt := 50) (pc := 33) hx hb dX4_end_33 dX4_end_34 (by decide) (fun c_ => ?_) (fun c_ => ?_)
        · have hrun := ite_f hrun c_
          exact b_X4_end_50 C x0 h21 H locs cells slots ls hH hL (lv_sub hl [0] rfl) hrun
        · have hrun := ite_t hrun c_
          refine V_aload_n (pc := 37) hx hb dX4_end_37 rfl (lv_at hl 0 rfl) ?_
          obtain ⟨c24, hrun⟩ := gd_some hrun
          refine V_bd (pc := 38) C hL rfl hrun (fun rr1 e1 => Z_runV (rest := []) C hH (m_X4_owed hl9 e1) wV_X4_362 c24 rfl (by decide) rfl rfl ⟨by decide, by decide⟩ rfl (Nat.le_of_ble_eq_true rfl) hl.1 dX4_end_38) (fun v22 h23 H locs cells slots hH hL hrun => ?_)
          refine lv_lconst (v := (0 : Int64)) (pc := 41) hx hb dX4_end_41 (by decide) ?_
          refine V_lcmp_ne (tgt := 50) (pc := 42) hx hb dX4_end_42 dX4_end_43 (by decide) (fun c_ => ?_) (fun c_ => ?_)
          · have hrun := ite_f hrun c_
            exact b_X4_end_50 C x0 h23 H locs cells slots ls hH hL (lv_sub hl [0] rfl) hrun
          · have hrun := ite_t hrun c_
            refine lv_iconst (v := (1 : Int32)) (pc := 46) hx hb dX4_end_46 (by decide) ?_
            refine lv_goto (tgt := 51) (pc := 47) hx hb dX4_end_47 (by decide) ?_
            exact b_X4_end_51 C x0 (1 : Int32) h23 H locs cells slots ls hH hL (lv_sub hl [0] rfl) hrun

theorem m_X4_end {l : Launch} {D : va_G} {Hs : Heap} {h : Hp} {rr : (Int64 ⊕ Ex) × Hp} (hl9 : l.stackTraces = false) {x0 : Nat} (hrun : f_X4_end x0 h = some rr) : CM l yX4_end (ws_ yX4_end cX4_end 2 (some .long)) 6 118 iL [rv x0] D Hs h rr := by
  refine CM.of (lv := [(0, rv x0)]) (plainFor_of_name (by decide)) hl9 (by simp [lv_args, rv_cat, cat_i, cat_l, cat_f, cat_d]) (by simp [lg_sl, rv_cat, cat_i, cat_l, cat_f, cat_d]) ?_
  intro p e R s m args below meth c H ls C hH hl hin
  exact b_X4_end C x0 _ H [] _ _ ls hH (fun _ q => nomatch q) (lv_sub hl [0] rfl) hrun

/-! Massclaim.paidIn()J -/
def f_X1_paidIn_10  : Nat → Int64 → Nat → Hp → Rt Int64
  | 0, _, _, _ => none
  | n + 1, x1, x3, h => gd (kC h x3 = 19) <| bd (f_J16_hasNext x3 h) fun v1 h2 => if v1 = 0 then
  (some (.inl x1, h2))
  else
  (gd (kC h2 x3 = 19) <| bd (f_J16_next x3 h2) fun v4 h5 => gd (v4 = 0 ∨ kC h5 v4 = 8) <| gd (kC h5 v4 = 8) <| vl (x1 + (kL h5 704 v4)) fun v9 => f_X1_paidIn_10 n v9 x3 h5)
def f_X1_paidIn  (x0 : Nat) (h : Hp) : Rt Int64 :=
  gd (kC h x0 = 1) <| gd (kC h (kR h 2 x0) = 2) <| bd (f_X2_iterator (kR h 2 x0) h) fun v11 h12 => f_X1_paidIn_10 FU (0 : Int64) v11 h12
theorem b_X1_paidIn_10 {rr : (Int64 ⊕ Ex) × Hp}  (C : CX p l R s m args meth c D Hs cX1_paidIn "Massclaim" 5 (some .long) [] 4 81)  : ∀ (n : Nat) (x1 : Int64) (x3 : Nat) (h : Hp) (H : Heap) (locs : List Loc) (cells slots : Nat) (ls : Array Slot), HP D Hs h H → LO Hs locs → lv_has ls 5 [(1, .long x1), (3, rv x3)] → f_X1_paidIn_10 n x1 x3 h = some rr → W p l e R s m args below meth c H locs cells slots (ZM D Hs iL rr below args s) (F0 m 10 ls []) := by
  obtain ⟨⟨hx, hb, hml, hown, hts⟩, -⟩ := id C
  have hl9 := C.2.1.2.2.1
  intro n
  induction n with
  | zero =>
    intro x1 x3 h H locs cells slots ls hH hL hl hrun
    cases (show (none : Option _) = some rr from hrun)
  | succ n ih =>
    intro x1 x3 h H locs cells slots ls hH hL hl hrun
    rw [f_X1_paidIn_10] at hrun
    refine V_aload_n (pc := 10) hx hb dX1_paidIn_10 rfl (lv_at hl 1 rfl) ?_
    obtain ⟨c3, hrun⟩ := gd_some hrun
    refine V_bd5 (pc := 11) C hL rfl hrun (fun rr1 e1 => Z_runF (rest := []) C hH (m_J16_hasNext hl9 e1) rfl wF_X1_212_J16 c3 (by decide) rfl ⟨by decide, by decide⟩ rfl (Nat.le_of_ble_eq_true rfl) hl.1 dX1_paidIn_11) (fun v1 h2 H locs cells slots hH hL hrun => ?_)
    refine lv_if_eq (tgt := 41) (pc := 16) hx hb dX1_paidIn_16 (by decide) (fun c_ => ?_) (fun c_ => ?_)
    · have hrun := ite_t hrun c_
      refine lv_lload_n (pc := 41) hx hb dX1_paidIn_41 rfl (lv_at hl 0 rfl) ?_
      exact V_lret (pc := 42) C hH hL hrun dX1_paidIn_42
    · have hrun := ite_f hrun c_
      refine V_aload_n (pc := 19) hx hb dX1_paidIn_19 rfl (lv_at hl 1 rfl) ?_
      obtain ⟨c6, hrun⟩ := gd_some hrun
      refine V_bd5 (pc := 20) C hL rfl hrun (fun rr1 e1 => Z_runF (rest := []) C hH (m_J16_next hl9 e1) rfl wF_X1_217_J16 c6 (by decide) rfl ⟨by decide, by decide⟩ rfl (Nat.le_of_ble_eq_true rfl) hl.1 dX1_paidIn_20) (fun v4 h5 H locs cells slots hH hL hrun => ?_)
      obtain ⟨c7, hrun⟩ := gd_some hrun
      refine V_castX (pc := 25) (ci := 7) C hH rfl (by decide) q363 dX1_paidIn_25 c7 ?_
      refine V_astore (i := 4) (lv' := [(4, rv v4), (1, .long x1), (3, rv x3)]) (pc := 28) hx hb dX1_paidIn_28 hl (by decide) (by simp [rv_cat, cat_i, cat_l, cat_f, cat_d]) (fun ls hl => ?_)
      refine lv_lload_n (pc := 30) hx hb dX1_paidIn_30 rfl (lv_at hl 1 rfl) ?_
      refine V_aload (pc := 31) hx hb dX1_paidIn_31 (lv_at hl 0 rfl) ?_
      obtain ⟨c8, hrun⟩ := gd_some hrun
      refine V_getNL (pc := 33) C hH fn_X1_341 dX1_paidIn_33 c8 rfl ?_
      refine lv_ladd (pc := 36) hx hb dX1_paidIn_36 ?_
      refine lv_topl (fun v9 ev9 => ?_)
      have hrun := vl_at hrun v9 ev9
      refine lv_lstore_n (i := 1) (lv' := [(1, .long v9), (4, rv v4), (3, rv x3)]) (pc := 37) hx hb dX1_paidIn_37 rfl hl (by decide) rfl (fun ls hl => ?_)
      refine lv_goto (tgt := 10) (pc := 38) hx hb dX1_paidIn_38 (by decide) ?_
      exact ih v9 x3 h5 H locs cells slots ls hH hL (lv_sub hl [0, 2] rfl) hrun

theorem b_X1_paidIn {rr : (Int64 ⊕ Ex) × Hp}  (C : CX p l R s m args meth c D Hs cX1_paidIn "Massclaim" 5 (some .long) [] 4 81)  : ∀ (x0 : Nat) (h : Hp) (H : Heap) (locs : List Loc) (cells slots : Nat) (ls : Array Slot), HP D Hs h H → LO Hs locs → lv_has ls 5 [(0, rv x0)] → f_X1_paidIn x0 h = some rr → W p l e R s m args below meth c H locs cells slots (ZM D Hs iL rr below args s) (F0 m 0 ls []) := by
  obtain ⟨⟨hx, hb, hml, hown, hts⟩, -⟩ := id C
  have hl9 := C.2.1.2.2.1
  intro x0 h H locs cells slots ls hH hL hl hrun
  unfold f_X1_paidIn at hrun
  refine lv_lconst (v := (0 : Int64)) (pc := 0) hx hb dX1_paidIn_0 (by decide) ?_
  refine lv_lstore_n (i := 1) (lv' := [(1, .long (0 : Int64)), (0, rv x0)]) (pc := 1) hx hb dX1_paidIn_1 rfl hl (by decide) (by simp [rv_cat, cat_i, cat_l, cat_f, cat_d]) (fun ls hl => ?_)
  refine V_aload_n (pc := 2) hx hb dX1_paidIn_2 rfl (lv_at hl 1 rfl) ?_
  obtain ⟨c10, hrun⟩ := gd_some hrun
  refine V_getR (pc := 3) C hH fr_X1_49 dX1_paidIn_3 c10 rfl ?_
  obtain ⟨c13, hrun⟩ := gd_some hrun
  refine V_bd (pc := 6) C hL rfl hrun (fun rr1 e1 => Z_runV (rest := []) C hH (m_X2_iterator hl9 e1) wV_X1_208 c13 rfl (by decide) rfl rfl ⟨by decide, by decide⟩ rfl (Nat.le_of_ble_eq_true rfl) hl.1 dX1_paidIn_6) (fun v11 h12 H locs cells slots hH hL hrun => ?_)
  refine V_astore_n (i := 3) (lv' := [(3, rv v11), (1, .long (0 : Int64)), (0, rv x0)]) (pc := 9) hx hb dX1_paidIn_9 rfl hl (by decide) rfl (fun ls hl => ?_)
  exact b_X1_paidIn_10 C FU (0 : Int64) v11 h12 H locs cells slots ls hH hL (lv_sub hl [1, 0] rfl) hrun

theorem m_X1_paidIn {l : Launch} {D : va_G} {Hs : Heap} {h : Hp} {rr : (Int64 ⊕ Ex) × Hp} (hl9 : l.stackTraces = false) {x0 : Nat} (hrun : f_X1_paidIn x0 h = some rr) : CM l yX1_paidIn (ws_ yX1_paidIn cX1_paidIn 5 (some .long)) 4 81 iL [rv x0] D Hs h rr := by
  refine CM.of (lv := [(0, rv x0)]) (plainFor_of_name (by decide)) hl9 (by simp [lv_args, rv_cat, cat_i, cat_l, cat_f, cat_d]) (by simp [lg_sl, rv_cat, cat_i, cat_l, cat_f, cat_d]) ?_
  intro p e R s m args below meth c H ls C hH hl hin
  exact b_X1_paidIn C x0 _ H [] _ _ ls hH (fun _ q => nomatch q) (lv_sub hl [0] rfl) hrun

/-! Massclaim$Out.lawyers()J -/
def f_X3_lawyers_14  : Nat → Int64 → Nat → Int32 → Int32 → Hp → Rt Int64
  | 0, _, _, _, _, _ => none
  | n + 1, x1, x3, x4, x5, h => if x4 ≤ x5 then
  (some (.inl x1, h))
  else
  (gd (kC h x3 = 102 ∧ ixo x5 (kN h x3)) <| vl (jL h x3 (x5).toNatClampNeg) fun v2 => vl (x1 + v2) fun v3 => vl (x5 + (1 : Int32)) fun v4 => f_X3_lawyers_14 n v3 x3 x4 v4 h)
def f_X3_lawyers  (x0 : Nat) (h : Hp) : Rt Int64 :=
  gd (kC h x0 = 3) <| vl (kR h 201 x0) fun v6 => gd (kC h v6 = 102) <| vl (Int32.ofNat (kN h v6)) fun v8 => f_X3_lawyers_14 FU (0 : Int64) v6 v8 (0 : Int32) h
theorem b_X3_lawyers_14 {rr : (Int64 ⊕ Ex) × Hp}  (C : CX p l R s m args meth c D Hs cX3_lawyers "Massclaim$Out" 8 (some .long) [] 1 0)  : ∀ (n : Nat) (x1 : Int64) (x3 : Nat) (x4 : Int32) (x5 : Int32) (h : Hp) (H : Heap) (locs : List Loc) (cells slots : Nat) (ls : Array Slot), HP D Hs h H → LO Hs locs → lv_has ls 8 [(1, .long x1), (3, rv x3), (4, .int x4), (5, .int x5)] → f_X3_lawyers_14 n x1 x3 x4 x5 h = some rr → W p l e R s m args below meth c H locs cells slots (ZM D Hs iL rr below args s) (F0 m 14 ls []) := by
  obtain ⟨⟨hx, hb, hml, hown, hts⟩, -⟩ := id C
  have hl9 := C.2.1.2.2.1
  intro n
  induction n with
  | zero =>
    intro x1 x3 x4 x5 h H locs cells slots ls hH hL hl hrun
    cases (show (none : Option _) = some rr from hrun)
  | succ n ih =>
    intro x1 x3 x4 x5 h H locs cells slots ls hH hL hl hrun
    rw [f_X3_lawyers_14] at hrun
    refine lv_iload (pc := 14) hx hb dX3_lawyers_14 (lv_at hl 3 rfl) ?_
    refine lv_iload (pc := 16) hx hb dX3_lawyers_16 (lv_at hl 2 rfl) ?_
    refine lv_icmp_ge (tgt := 38) (pc := 18) hx hb dX3_lawyers_18 (by decide) (fun c_ => ?_) (fun c_ => ?_)
    · have hrun := ite_t hrun c_
      refine lv_lload_n (pc := 38) hx hb dX3_lawyers_38 rfl (lv_at hl 0 rfl) ?_
      exact V_lret (pc := 39) C hH hL hrun dX3_lawyers_39
    · have hrun := ite_f hrun c_
      refine V_aload_n (pc := 21) hx hb dX3_lawyers_21 rfl (lv_at hl 1 rfl) ?_
      refine lv_iload (pc := 22) hx hb dX3_lawyers_22 (lv_at hl 3 rfl) ?_
      obtain ⟨c1, hrun⟩ := gd_some hrun
      refine V_lald (pc := 24) C hH dX3_lawyers_24 c1 ?_
      refine lv_topl (fun v2 ev2 => ?_)
      have hrun := vl_at hrun v2 ev2
      refine lv_lstore (i := 6) (lv' := [(6, .long v2), (1, .long x1), (3, rv x3), (4, .int x4), (5, .int x5)]) (pc := 25) hx hb dX3_lawyers_25 hl (by decide) rfl (fun ls hl => ?_)
      refine lv_lload_n (pc := 27) hx hb dX3_lawyers_27 rfl (lv_at hl 1 rfl) ?_
      refine lv_lload (pc := 28) hx hb dX3_lawyers_28 (lv_at hl 0 rfl) ?_
      refine lv_ladd (pc := 30) hx hb dX3_lawyers_30 ?_
      refine lv_topl (fun v3 ev3 => ?_)
      have hrun := vl_at hrun v3 ev3
      refine lv_lstore_n (i := 1) (lv' := [(1, .long v3), (6, .long v2), (3, rv x3), (4, .int x4), (5, .int x5)]) (pc := 31) hx hb dX3_lawyers_31 rfl hl (by decide) rfl (fun ls hl => ?_)
      obtain ⟨v4, ev4⟩ : ∃ y : Int32, y = x5 + (1 : Int32) := ⟨_, rfl⟩
      have hrun := vl_at hrun v4 ev4
      refine lv_iinc (v := v4) (lv' := [(5, .int v4), (1, .long v3), (6, .long v2), (3, rv x3), (4, .int x4)]) (pc := 32) hx hb dX3_lawyers_32 hl (k := 4) rfl (by rw [ev4]; rfl) (by decide) (by first | rfl | simp [rv_cat, cat_i, cat_l, cat_f, cat_d]) (fun ls hl => ?_)
      refine lv_goto (tgt := 14) (pc := 35) hx hb dX3_lawyers_35 (by decide) ?_
      exact ih v3 x3 x4 v4 h H locs cells slots ls hH hL (lv_sub hl [1, 3, 4, 0] rfl) hrun

theorem b_X3_lawyers {rr : (Int64 ⊕ Ex) × Hp}  (C : CX p l R s m args meth c D Hs cX3_lawyers "Massclaim$Out" 8 (some .long) [] 1 0)  : ∀ (x0 : Nat) (h : Hp) (H : Heap) (locs : List Loc) (cells slots : Nat) (ls : Array Slot), HP D Hs h H → LO Hs locs → lv_has ls 8 [(0, rv x0)] → f_X3_lawyers x0 h = some rr → W p l e R s m args below meth c H locs cells slots (ZM D Hs iL rr below args s) (F0 m 0 ls []) := by
  obtain ⟨⟨hx, hb, hml, hown, hts⟩, -⟩ := id C
  have hl9 := C.2.1.2.2.1
  intro x0 h H locs cells slots ls hH hL hl hrun
  unfold f_X3_lawyers at hrun
  refine lv_lconst (v := (0 : Int64)) (pc := 0) hx hb dX3_lawyers_0 (by decide) ?_
  refine lv_lstore_n (i := 1) (lv' := [(1, .long (0 : Int64)), (0, rv x0)]) (pc := 1) hx hb dX3_lawyers_1 rfl hl (by decide) (by simp [rv_cat, cat_i, cat_l, cat_f, cat_d]) (fun ls hl => ?_)
  refine V_aload_n (pc := 2) hx hb dX3_lawyers_2 rfl (lv_at hl 1 rfl) ?_
  obtain ⟨c5, hrun⟩ := gd_some hrun
  refine V_getR (pc := 3) C hH fr_X3_9 dX3_lawyers_3 c5 rfl ?_
  refine V_topr (fun v6 ev6 => ?_)
  have hrun := vl_at hrun v6 ev6
  refine V_astore_n (i := 3) (lv' := [(3, rv v6), (1, .long (0 : Int64)), (0, rv x0)]) (pc := 6) hx hb dX3_lawyers_6 rfl hl (by decide) rfl (fun ls hl => ?_)
  refine V_aload_n (pc := 7) hx hb dX3_lawyers_7 rfl (lv_at hl 0 rfl) ?_
  obtain ⟨c7, hrun⟩ := gd_some hrun
  refine V_alen (pc := 8) C hH dX3_lawyers_8 c7 (by decide) ?_
  refine lv_topi (fun v8 ev8 => ?_)
  have hrun := vl_at hrun v8 ev8
  refine lv_istore (i := 4) (lv' := [(4, .int v8), (3, rv v6), (1, .long (0 : Int64)), (0, rv x0)]) (pc := 9) hx hb dX3_lawyers_9 hl (by decide) (by simp [rv_cat, cat_i, cat_l, cat_f, cat_d]) (fun ls hl => ?_)
  refine lv_iconst (v := (0 : Int32)) (pc := 11) hx hb dX3_lawyers_11 (by decide) ?_
  refine lv_istore (i := 5) (lv' := [(5, .int (0 : Int32)), (4, .int v8), (3, rv v6), (1, .long (0 : Int64)), (0, rv x0)]) (pc := 12) hx hb dX3_lawyers_12 hl (by decide) rfl (fun ls hl => ?_)
  exact b_X3_lawyers_14 C FU (0 : Int64) v6 v8 (0 : Int32) h H locs cells slots ls hH hL (lv_sub hl [3, 2, 1, 0] rfl) hrun

theorem m_X3_lawyers {l : Launch} {D : va_G} {Hs : Heap} {h : Hp} {rr : (Int64 ⊕ Ex) × Hp} (hl9 : l.stackTraces = false) {x0 : Nat} (hrun : f_X3_lawyers x0 h = some rr) : CM l yX3_lawyers (ws_ yX3_lawyers cX3_lawyers 8 (some .long)) 1 0 iL [rv x0] D Hs h rr := by
  refine CM.of (lv := [(0, rv x0)]) (plainFor_of_name (by decide)) hl9 (by simp [lv_args, rv_cat, cat_i, cat_l, cat_f, cat_d]) (by simp [lg_sl, rv_cat, cat_i, cat_l, cat_f, cat_d]) ?_
  intro p e R s m args below meth c H ls C hH hl hin
  exact b_X3_lawyers C x0 _ H [] _ _ ls hH (fun _ q => nomatch q) (lv_sub hl [0] rfl) hrun

/-! Massclaim.lying()J -/
def f_X1_lying_10  : Nat → Int64 → Nat → Hp → Rt Int64
  | 0, _, _, _ => none
  | n + 1, x1, x3, h => gd (kC h x3 = 19) <| bd (f_J16_hasNext x3 h) fun v1 h2 => if v1 = 0 then
  (some (.inl x1, h2))
  else
  (gd (kC h2 x3 = 19) <| bd (f_J16_next x3 h2) fun v4 h5 => gd (v4 = 0 ∨ kC h5 v4 = 5) <| gd (kC h5 v4 = 5) <| bd (f_X5_lies v4 h5) fun v9 h10 => vl (x1 + (((kL h5 417 v4) + (kL h5 418 v4)) + v9)) fun v11 => f_X1_lying_10 n v11 x3 h10)
def f_X1_lying  (x0 : Nat) (h : Hp) : Rt Int64 :=
  gd (kC h x0 = 1) <| gd (kC h (kR h 0 x0) = 2) <| bd (f_X2_iterator (kR h 0 x0) h) fun v13 h14 => f_X1_lying_10 FU (0 : Int64) v13 h14
theorem b_X1_lying_10 {rr : (Int64 ⊕ Ex) × Hp}  (C : CX p l R s m args meth c D Hs cX1_lying "Massclaim" 5 (some .long) [] 5 87)  : ∀ (n : Nat) (x1 : Int64) (x3 : Nat) (h : Hp) (H : Heap) (locs : List Loc) (cells slots : Nat) (ls : Array Slot), HP D Hs h H → LO Hs locs → lv_has ls 5 [(1, .long x1), (3, rv x3)] → f_X1_lying_10 n x1 x3 h = some rr → W p l e R s m args below meth c H locs cells slots (ZM D Hs iL rr below args s) (F0 m 10 ls []) := by
  obtain ⟨⟨hx, hb, hml, hown, hts⟩, -⟩ := id C
  have hl9 := C.2.1.2.2.1
  intro n
  induction n with
  | zero =>
    intro x1 x3 h H locs cells slots ls hH hL hl hrun
    cases (show (none : Option _) = some rr from hrun)
  | succ n ih =>
    intro x1 x3 h H locs cells slots ls hH hL hl hrun
    rw [f_X1_lying_10] at hrun
    refine V_aload_n (pc := 10) hx hb dX1_lying_10 rfl (lv_at hl 1 rfl) ?_
    obtain ⟨c3, hrun⟩ := gd_some hrun
    refine V_bd5 (pc := 11) C hL rfl hrun (fun rr1 e1 => Z_runF (rest := []) C hH (m_J16_hasNext hl9 e1) rfl wF_X1_212_J16 c3 (by decide) rfl ⟨by decide, by decide⟩ rfl (Nat.le_of_ble_eq_true rfl) hl.1 dX1_lying_11) (fun v1 h2 H locs cells slots hH hL hrun => ?_)
    refine lv_if_eq (tgt := 53) (pc := 16) hx hb dX1_lying_16 (by decide) (fun c_ => ?_) (fun c_ => ?_)
    · have hrun := ite_t hrun c_
      refine lv_lload_n (pc := 53) hx hb dX1_lying_53 rfl (lv_at hl 0 rfl) ?_
      exact V_lret (pc := 54) C hH hL hrun dX1_lying_54
    · have hrun := ite_f hrun c_
      refine V_aload_n (pc := 19) hx hb dX1_lying_19 rfl (lv_at hl 1 rfl) ?_
      obtain ⟨c6, hrun⟩ := gd_some hrun
      refine V_bd5 (pc := 20) C hL rfl hrun (fun rr1 e1 => Z_runF (rest := []) C hH (m_J16_next hl9 e1) rfl wF_X1_217_J16 c6 (by decide) rfl ⟨by decide, by decide⟩ rfl (Nat.le_of_ble_eq_true rfl) hl.1 dX1_lying_20) (fun v4 h5 H locs cells slots hH hL hrun => ?_)
      obtain ⟨c7, hrun⟩ := gd_some hrun
      refine V_castX (pc := 25) (ci := 4) C hH rfl (by decide) q376 dX1_lying_25 c7 ?_
      refine V_astore (i := 4) (lv' := [(4, rv v4), (1, .long x1), (3, rv x3)]) (pc := 28) hx hb dX1_lying_28 hl (by decide) (by simp [rv_cat, cat_i, cat_l, cat_f, cat_d]) (fun ls hl => ?_)
      refine lv_lload_n (pc := 30) hx hb dX1_lying_30 rfl (lv_at hl 1 rfl) ?_
      refine V_aload (pc := 31) hx hb dX1_lying_31 (lv_at hl 0 rfl) ?_
      obtain ⟨c8, hrun⟩ := gd_some hrun
      refine V_getNL (pc := 33) C hH fn_X1_191 dX1_lying_33 c8 rfl ?_
      refine V_aload (pc := 36) hx hb dX1_lying_36 (lv_at hl 0 rfl) ?_
      refine V_getNL (pc := 38) C hH fn_X1_269 dX1_lying_38 c8 rfl ?_
      refine lv_ladd (pc := 41) hx hb dX1_lying_41 ?_
      refine V_aload (pc := 42) hx hb dX1_lying_42 (lv_at hl 0 rfl) ?_
      refine V_bd (pc := 44) C hL rfl hrun (fun rr1 e1 => Z_runV (rest := [.long ((kL h5 417 v4) + (kL h5 418 v4)), .long x1]) C hH (m_X5_lies hl9 e1) wV_X1_194 c8 rfl (by decide) rfl rfl ⟨by decide, by decide⟩ rfl (Nat.le_of_ble_eq_true rfl) hl.1 dX1_lying_44) (fun v9 h10 H locs cells slots hH hL hrun => ?_)
      refine lv_ladd (pc := 47) hx hb dX1_lying_47 ?_
      refine lv_ladd (pc := 48) hx hb dX1_lying_48 ?_
      refine lv_topl (fun v11 ev11 => ?_)
      have hrun := vl_at hrun v11 ev11
      refine lv_lstore_n (i := 1) (lv' := [(1, .long v11), (4, rv v4), (3, rv x3)]) (pc := 49) hx hb dX1_lying_49 rfl hl (by decide) rfl (fun ls hl => ?_)
      refine lv_goto (tgt := 10) (pc := 50) hx hb dX1_lying_50 (by decide) ?_
      exact ih v11 x3 h10 H locs cells slots ls hH hL (lv_sub hl [0, 2] rfl) hrun

theorem b_X1_lying {rr : (Int64 ⊕ Ex) × Hp}  (C : CX p l R s m args meth c D Hs cX1_lying "Massclaim" 5 (some .long) [] 5 87)  : ∀ (x0 : Nat) (h : Hp) (H : Heap) (locs : List Loc) (cells slots : Nat) (ls : Array Slot), HP D Hs h H → LO Hs locs → lv_has ls 5 [(0, rv x0)] → f_X1_lying x0 h = some rr → W p l e R s m args below meth c H locs cells slots (ZM D Hs iL rr below args s) (F0 m 0 ls []) := by
  obtain ⟨⟨hx, hb, hml, hown, hts⟩, -⟩ := id C
  have hl9 := C.2.1.2.2.1
  intro x0 h H locs cells slots ls hH hL hl hrun
  unfold f_X1_lying at hrun
  refine lv_lconst (v := (0 : Int64)) (pc := 0) hx hb dX1_lying_0 (by decide) ?_
  refine lv_lstore_n (i := 1) (lv' := [(1, .long (0 : Int64)), (0, rv x0)]) (pc := 1) hx hb dX1_lying_1 rfl hl (by decide) (by simp [rv_cat, cat_i, cat_l, cat_f, cat_d]) (fun ls hl => ?_)
  refine V_aload_n (pc := 2) hx hb dX1_lying_2 rfl (lv_at hl 1 rfl) ?_
  obtain ⟨c12, hrun⟩ := gd_some hrun
  refine V_getR (pc := 3) C hH fr_X1_42 dX1_lying_3 c12 rfl ?_
  obtain ⟨c15, hrun⟩ := gd_some hrun
  refine V_bd (pc := 6) C hL rfl hrun (fun rr1 e1 => Z_runV (rest := []) C hH (m_X2_iterator hl9 e1) wV_X1_208 c15 rfl (by decide) rfl rfl ⟨by decide, by decide⟩ rfl (Nat.le_of_ble_eq_true rfl) hl.1 dX1_lying_6) (fun v13 h14 H locs cells slots hH hL hrun => ?_)
  refine V_astore_n (i := 3) (lv' := [(3, rv v13), (1, .long (0 : Int64)), (0, rv x0)]) (pc := 9) hx hb dX1_lying_9 rfl hl (by decide) rfl (fun ls hl => ?_)
  exact b_X1_lying_10 C FU (0 : Int64) v13 h14 H locs cells slots ls hH hL (lv_sub hl [1, 0] rfl) hrun

theorem m_X1_lying {l : Launch} {D : va_G} {Hs : Heap} {h : Hp} {rr : (Int64 ⊕ Ex) × Hp} (hl9 : l.stackTraces = false) {x0 : Nat} (hrun : f_X1_lying x0 h = some rr) : CM l yX1_lying (ws_ yX1_lying cX1_lying 5 (some .long)) 5 87 iL [rv x0] D Hs h rr := by
  refine CM.of (lv := [(0, rv x0)]) (plainFor_of_name (by decide)) hl9 (by simp [lv_args, rv_cat, cat_i, cat_l, cat_f, cat_d]) (by simp [lg_sl, rv_cat, cat_i, cat_l, cat_f, cat_d]) ?_
  intro p e R s m args below meth c H ls C hH hl hin
  exact b_X1_lying C x0 _ H [] _ _ ls hH (fun _ q => nomatch q) (lv_sub hl [0] rfl) hrun

/-! java/lang/Math.abs(J)J -/
def f_J10_abs_12  (y0 : Int64) (h : Hp) : Rt Int64 :=
  some (.inl y0, h)
def f_J10_abs  (x0 : Int64) (h : Hp) : Rt Int64 :=
  if (0 : Int64) ≤ x0 then
  (f_J10_abs_12 x0 h)
  else
  (f_J10_abs_12 (-x0) h)
theorem b_J10_abs_12 {rr : (Int64 ⊕ Ex) × Hp}  (C : CX p l R s m args meth c D Hs cJ10_abs "java/lang/Math" 2 (some .long) [] 1 0)  : ∀ (y0 : Int64) (h : Hp) (H : Heap) (locs : List Loc) (cells slots : Nat) (ls : Array Slot), HP D Hs h H → LO Hs locs → lv_has ls 2 [] → f_J10_abs_12 y0 h = some rr → W p l e R s m args below meth c H locs cells slots (ZM D Hs iL rr below args s) (F0 m 12 ls [.long y0]) := by
  obtain ⟨⟨hx, hb, hml, hown, hts⟩, -⟩ := id C
  have hl9 := C.2.1.2.2.1
  intro y0 h H locs cells slots ls hH hL hl hrun
  unfold f_J10_abs_12 at hrun
  exact V_lret (pc := 12) C hH hL hrun dJ10_abs_12

theorem b_J10_abs {rr : (Int64 ⊕ Ex) × Hp}  (C : CX p l R s m args meth c D Hs cJ10_abs "java/lang/Math" 2 (some .long) [] 1 0)  : ∀ (x0 : Int64) (h : Hp) (H : Heap) (locs : List Loc) (cells slots : Nat) (ls : Array Slot), HP D Hs h H → LO Hs locs → lv_has ls 2 [(0, .long x0)] → f_J10_abs x0 h = some rr → W p l e R s m args below meth c H locs cells slots (ZM D Hs iL rr below args s) (F0 m 0 ls []) := by
  obtain ⟨⟨hx, hb, hml, hown, hts⟩, -⟩ := id C
  have hl9 := C.2.1.2.2.1
  intro x0 h H locs cells slots ls hH hL hl hrun
  unfold f_J10_abs at hrun
  refine lv_lload_n (pc := 0) hx hb dJ10_abs_0 rfl (lv_at hl 0 rfl) ?_
  refine lv_lconst (v := (0 : Int64)) (pc := 1) hx hb dJ10_abs_1 (by decide) ?_
  refine V_lcmp_ge (tgt := 11) (pc := 2) hx hb dJ10_abs_2 dJ10_abs_3 (by decide) (fun c_ => ?_) (fun c_ => ?_)
  · have hrun := ite_t hrun c_
    refine lv_lload_n (pc := 11) hx hb dJ10_abs_11 rfl (lv_at hl 0 rfl) ?_
    exact b_J10_abs_12 C x0 h H locs cells slots ls hH hL (lv_sub hl [] rfl) hrun
  · have hrun := ite_f hrun c_
    refine lv_lload_n (pc := 6) hx hb dJ10_abs_6 rfl (lv_at hl 0 rfl) ?_
    refine lv_lneg (pc := 7) hx hb dJ10_abs_7 ?_
    refine lv_goto (tgt := 12) (pc := 8) hx hb dJ10_abs_8 (by decide) ?_
    exact b_J10_abs_12 C (-x0) h H locs cells slots ls hH hL (lv_sub hl [] rfl) hrun

theorem m_J10_abs {l : Launch} {D : va_G} {Hs : Heap} {h : Hp} {rr : (Int64 ⊕ Ex) × Hp} (hl9 : l.stackTraces = false) {x0 : Int64} (hrun : f_J10_abs x0 h = some rr) : CM l yJ10_abs (ws_ yJ10_abs cJ10_abs 2 (some .long)) 1 0 iL [.long x0] D Hs h rr := by
  refine CM.of (lv := [(0, .long x0)]) (by decide +kernel) hl9 (by simp [lv_args, rv_cat, cat_i, cat_l, cat_f, cat_d]) (by simp [lg_sl, rv_cat, cat_i, cat_l, cat_f, cat_d]) ?_
  intro p e R s m args below meth c H ls C hH hl hin
  exact b_J10_abs C x0 _ H [] _ _ ls hH (fun _ q => nomatch q) (lv_sub hl [0] rfl) hrun

/-! Massclaim.differs()J -/
def f_X1_differs_69 (k10 : Nat → Int64 → Nat → Hp → Rt Int64) (x0 : Nat) (x3 : Nat) (y0 : Int64) (y1 : Int64) (h : Hp) : Rt Int64 :=
  vl (y0 + y1) fun v1 => k10 x0 v1 x3 h
def f_X1_differs_10  : Nat → Nat → Int64 → Nat → Hp → Rt Int64
  | 0, _, _, _, _ => none
  | n + 1, x0, x1, x3, h => gd (kC h x3 = 19) <| bd (f_J16_hasNext x3 h) fun v2 h3 => if v2 = 0 then
  (some (.inl x1, h3))
  else
  (gd (kC h3 x3 = 19) <| bd (f_J16_next x3 h3) fun v5 h6 => gd (v5 = 0 ∨ kC h6 v5 = 12) <| gd (kC h6 v5 = 12) <| if (kI h6 1104 v5) = 0 then
  (bd (f_X12_value v5 h6) fun v10 h11 => gd (kC h11 x0 = 1) <| bd (f_X1_part (v10.toInt64) ((kI h11 16 x0).toInt64) (100 : Int64) h11) fun v13 h14 => gd (kC h14 v5 = 12) <| bd (f_J10_abs (v13 - (kL h14 1106 v5)) h14) fun v16 h17 => f_X1_differs_69 (f_X1_differs_10 n) x0 x3 x1 v16 h17)
  else
  (f_X1_differs_69 (f_X1_differs_10 n) x0 x3 x1 (0 : Int64) h6))
def f_X1_differs  (x0 : Nat) (h : Hp) : Rt Int64 :=
  gd (kC h x0 = 1) <| gd (kC h (kR h 3 x0) = 2) <| bd (f_X2_iterator (kR h 3 x0) h) fun v19 h20 => f_X1_differs_10 FU x0 (0 : Int64) v19 h20
theorem b_X1_differs_69 {rr : (Int64 ⊕ Ex) × Hp} {k10 : Nat → Int64 → Nat → Hp → Rt Int64} (C : CX p l R s m args meth c D Hs cX1_differs "Massclaim" 5 (some .long) [] 4 81) (K10 : ∀ (x0 : Nat) (x1 : Int64) (x3 : Nat) (h : Hp) (H : Heap) (locs : List Loc) (cells slots : Nat) (ls : Array Slot), HP D Hs h H → LO Hs locs → lv_has ls 5 [(0, rv x0), (1, .long x1), (3, rv x3)] → k10 x0 x1 x3 h = some rr → W p l e R s m args below meth c H locs cells slots (ZM D Hs iL rr below args s) (F0 m 10 ls [])) : ∀ (x0 : Nat) (x3 : Nat) (y0 : Int64) (y1 : Int64) (h : Hp) (H : Heap) (locs : List Loc) (cells slots : Nat) (ls : Array Slot), HP D Hs h H → LO Hs locs → lv_has ls 5 [(0, rv x0), (3, rv x3)] → f_X1_differs_69 k10 x0 x3 y0 y1 h = some rr → W p l e R s m args below meth c H locs cells slots (ZM D Hs iL rr below args s) (F0 m 69 ls [.long y1, .long y0]) := by
  obtain ⟨⟨hx, hb, hml, hown, hts⟩, -⟩ := id C
  have hl9 := C.2.1.2.2.1
  intro x0 x3 y0 y1 h H locs cells slots ls hH hL hl hrun
  unfold f_X1_differs_69 at hrun
  refine lv_ladd (pc := 69) hx hb dX1_differs_69 ?_
  refine lv_topl (fun v1 ev1 => ?_)
  have hrun := vl_at hrun v1 ev1
  refine lv_lstore_n (i := 1) (lv' := [(1, .long v1), (0, rv x0), (3, rv x3)]) (pc := 70) hx hb dX1_differs_70 rfl hl (by decide) (by simp [rv_cat, cat_i, cat_l, cat_f, cat_d]) (fun ls hl => ?_)
  refine lv_goto (tgt := 10) (pc := 71) hx hb dX1_differs_71 (by decide) ?_
  exact K10 x0 v1 x3 h H locs cells slots ls hH hL (lv_sub hl [1, 0, 2] rfl) hrun

theorem b_X1_differs_10 {rr : (Int64 ⊕ Ex) × Hp}  (C : CX p l R s m args meth c D Hs cX1_differs "Massclaim" 5 (some .long) [] 4 81)  : ∀ (n : Nat) (x0 : Nat) (x1 : Int64) (x3 : Nat) (h : Hp) (H : Heap) (locs : List Loc) (cells slots : Nat) (ls : Array Slot), HP D Hs h H → LO Hs locs → lv_has ls 5 [(0, rv x0), (1, .long x1), (3, rv x3)] → f_X1_differs_10 n x0 x1 x3 h = some rr → W p l e R s m args below meth c H locs cells slots (ZM D Hs iL rr below args s) (F0 m 10 ls []) := by
  obtain ⟨⟨hx, hb, hml, hown, hts⟩, -⟩ := id C
  have hl9 := C.2.1.2.2.1
  intro n
  induction n with
  | zero =>
    intro x0 x1 x3 h H locs cells slots ls hH hL hl hrun
    cases (show (none : Option _) = some rr from hrun)
  | succ n ih =>
    intro x0 x1 x3 h H locs cells slots ls hH hL hl hrun
    rw [f_X1_differs_10] at hrun
    refine V_aload_n (pc := 10) hx hb dX1_differs_10 rfl (lv_at hl 2 rfl) ?_
    obtain ⟨c4, hrun⟩ := gd_some hrun
    refine V_bd5 (pc := 11) C hL rfl hrun (fun rr1 e1 => Z_runF (rest := []) C hH (m_J16_hasNext hl9 e1) rfl wF_X1_212_J16 c4 (by decide) rfl ⟨by decide, by decide⟩ rfl (Nat.le_of_ble_eq_true rfl) hl.1 dX1_differs_11) (fun v2 h3 H locs cells slots hH hL hrun => ?_)
    refine lv_if_eq (tgt := 74) (pc := 16) hx hb dX1_differs_16 (by decide) (fun c_ => ?_) (fun c_ => ?_)
    · have hrun := ite_t hrun c_
      refine lv_lload_n (pc := 74) hx hb dX1_differs_74 rfl (lv_at hl 1 rfl) ?_
      exact V_lret (pc := 75) C hH hL hrun dX1_differs_75
    · have hrun := ite_f hrun c_
      refine V_aload_n (pc := 19) hx hb dX1_differs_19 rfl (lv_at hl 2 rfl) ?_
      obtain ⟨c7, hrun⟩ := gd_some hrun
      refine V_bd5 (pc := 20) C hL rfl hrun (fun rr1 e1 => Z_runF (rest := []) C hH (m_J16_next hl9 e1) rfl wF_X1_217_J16 c7 (by decide) rfl ⟨by decide, by decide⟩ rfl (Nat.le_of_ble_eq_true rfl) hl.1 dX1_differs_20) (fun v5 h6 H locs cells slots hH hL hrun => ?_)
      obtain ⟨c8, hrun⟩ := gd_some hrun
      refine V_castX (pc := 25) (ci := 11) C hH rfl (by decide) q403 dX1_differs_25 c8 ?_
      refine V_astore (i := 4) (lv' := [(4, rv v5), (0, rv x0), (1, .long x1), (3, rv x3)]) (pc := 28) hx hb dX1_differs_28 hl (by decide) (by simp [rv_cat, cat_i, cat_l, cat_f, cat_d]) (fun ls hl => ?_)
      refine lv_lload_n (pc := 30) hx hb dX1_differs_30 rfl (lv_at hl 2 rfl) ?_
      refine V_aload (pc := 31) hx hb dX1_differs_31 (lv_at hl 0 rfl) ?_
      obtain ⟨c9, hrun⟩ := gd_some hrun
      refine V_getNI (pc := 33) C hH fn_X1_157 dX1_differs_33 c9 rfl ?_
      refine lv_if_ne (tgt := 68) (pc := 36) hx hb dX1_differs_36 (by decide) (fun c_ => ?_) (fun c_ => ?_)
      · have hrun := ite_f hrun c_
        refine lv_lconst (v := (0 : Int64)) (pc := 68) hx hb dX1_differs_68 (by decide) ?_
        exact b_X1_differs_69 C ih x0 x3 x1 (0 : Int64) h6 H locs cells slots ls hH hL (lv_sub hl [1, 3] rfl) hrun
      · have hrun := ite_t hrun c_
        refine V_aload (pc := 39) hx hb dX1_differs_39 (lv_at hl 0 rfl) ?_
        refine V_bd (pc := 41) C hL rfl hrun (fun rr1 e1 => Z_runV (rest := [.long x1]) C hH (m_X12_value hl9 e1) wV_X1_437 c9 rfl (by decide) rfl rfl ⟨by decide, by decide⟩ rfl (Nat.le_of_ble_eq_true rfl) hl.1 dX1_differs_41) (fun v10 h11 H locs cells slots hH hL hrun => ?_)
        refine lv_i2l (pc := 44) hx hb dX1_differs_44 rfl ?_
        refine V_aload_n (pc := 45) hx hb dX1_differs_45 rfl (lv_at hl 1 rfl) ?_
        obtain ⟨c12, hrun⟩ := gd_some hrun
        refine V_getI (pc := 46) C hH fr_X1_108 dX1_differs_46 c12 rfl ?_
        refine lv_i2l (pc := 49) hx hb dX1_differs_49 rfl ?_
        refine lv_ldc2 (pc := 50) hx hb hown (hts _ q404) dX1_differs_50 ?_
        refine V_bd (pc := 53) C hL rfl hrun (fun rr1 e1 => Z_runS (rest := [.long x1]) C hH (m_X1_part hl9 e1) wS_X1_347 rfl ⟨by decide, by decide⟩ rfl (Nat.le_of_ble_eq_true rfl) hl.1 dX1_differs_53) (fun v13 h14 H locs cells slots hH hL hrun => ?_)
        refine V_aload (pc := 56) hx hb dX1_differs_56 (lv_at hl 0 rfl) ?_
        obtain ⟨c15, hrun⟩ := gd_some hrun
        refine V_getNL (pc := 58) C hH fn_X1_440 dX1_differs_58 c15 rfl ?_
        refine lv_lsub (pc := 61) hx hb dX1_differs_61 ?_
        refine V_bd (pc := 62) C hL rfl hrun (fun rr1 e1 => Z_runS (rest := [.long x1]) C hH (m_J10_abs hl9 e1) wS_X1_496 rfl ⟨by decide, by decide⟩ rfl (Nat.le_of_ble_eq_true rfl) hl.1 dX1_differs_62) (fun v16 h17 H locs cells slots hH hL hrun => ?_)
        refine lv_goto (tgt := 69) (pc := 65) hx hb dX1_differs_65 (by decide) ?_
        exact b_X1_differs_69 C ih x0 x3 x1 v16 h17 H locs cells slots ls hH hL (lv_sub hl [1, 3] rfl) hrun

theorem b_X1_differs {rr : (Int64 ⊕ Ex) × Hp}  (C : CX p l R s m args meth c D Hs cX1_differs "Massclaim" 5 (some .long) [] 4 81)  : ∀ (x0 : Nat) (h : Hp) (H : Heap) (locs : List Loc) (cells slots : Nat) (ls : Array Slot), HP D Hs h H → LO Hs locs → lv_has ls 5 [(0, rv x0)] → f_X1_differs x0 h = some rr → W p l e R s m args below meth c H locs cells slots (ZM D Hs iL rr below args s) (F0 m 0 ls []) := by
  obtain ⟨⟨hx, hb, hml, hown, hts⟩, -⟩ := id C
  have hl9 := C.2.1.2.2.1
  intro x0 h H locs cells slots ls hH hL hl hrun
  unfold f_X1_differs at hrun
  refine lv_lconst (v := (0 : Int64)) (pc := 0) hx hb dX1_differs_0 (by decide) ?_
  refine lv_lstore_n (i := 1) (lv' := [(1, .long (0 : Int64)), (0, rv x0)]) (pc := 1) hx hb dX1_differs_1 rfl hl (by decide) (by simp [rv_cat, cat_i, cat_l, cat_f, cat_d]) (fun ls hl => ?_)
  refine V_aload_n (pc := 2) hx hb dX1_differs_2 rfl (lv_at hl 1 rfl) ?_
  obtain ⟨c18, hrun⟩ := gd_some hrun
  refine V_getR (pc := 3) C hH fr_X1_52 dX1_differs_3 c18 rfl ?_
  obtain ⟨c21, hrun⟩ := gd_some hrun
  refine V_bd (pc := 6) C hL rfl hrun (fun rr1 e1 => Z_runV (rest := []) C hH (m_X2_iterator hl9 e1) wV_X1_208 c21 rfl (by decide) rfl rfl ⟨by decide, by decide⟩ rfl (Nat.le_of_ble_eq_true rfl) hl.1 dX1_differs_6) (fun v19 h20 H locs cells slots hH hL hrun => ?_)
  refine V_astore_n (i := 3) (lv' := [(3, rv v19), (1, .long (0 : Int64)), (0, rv x0)]) (pc := 9) hx hb dX1_differs_9 rfl hl (by decide) rfl (fun ls hl => ?_)
  exact b_X1_differs_10 C FU x0 (0 : Int64) v19 h20 H locs cells slots ls hH hL (lv_sub hl [2, 1, 0] rfl) hrun

theorem m_X1_differs {l : Launch} {D : va_G} {Hs : Heap} {h : Hp} {rr : (Int64 ⊕ Ex) × Hp} (hl9 : l.stackTraces = false) {x0 : Nat} (hrun : f_X1_differs x0 h = some rr) : CM l yX1_differs (ws_ yX1_differs cX1_differs 5 (some .long)) 4 81 iL [rv x0] D Hs h rr := by
  refine CM.of (lv := [(0, rv x0)]) (plainFor_of_name (by decide)) hl9 (by simp [lv_args, rv_cat, cat_i, cat_l, cat_f, cat_d]) (by simp [lg_sl, rv_cat, cat_i, cat_l, cat_f, cat_d]) ?_
  intro p e R s m args below meth c H ls C hH hl hin
  exact b_X1_differs C x0 _ H [] _ _ ls hH (fun _ q => nomatch q) (lv_sub hl [0] rfl) hrun

/-! Massclaim.fundAt(I)J -/
def f_X1_fundAt_179  (y0 : Int64) (h : Hp) : Rt Int64 :=
  some (.inl y0, h)
def f_X1_fundAt  (x0 : Nat) (x1 : Int32) (h : Hp) : Rt Int64 :=
  bd (f_X1_isIn (x1.toInt64) (0 : Int64) (11 : Int64) h) fun v1 h2 => bd (f_X1_requireArgument v1 h2) fun _ h4 => if x1 = (0 : Int32) then
  (gd (kC h4 x0 = 1) <| f_X1_fundAt_179 (kL h4 17 x0) h4)
  else
  if x1 = (1 : Int32) then
  (gd (kC h4 x0 = 1) <| bd (f_X1_paidIn x0 h4) fun v6 h7 => f_X1_fundAt_179 v6 h7)
  else
  if x1 = (2 : Int32) then
  (gd (kC h4 x0 = 1) <| gd (kC h4 (kR h4 8 x0) = 3) <| f_X1_fundAt_179 (kL h4 200 (kR h4 8 x0)) h4)
  else
  if x1 = (3 : Int32) then
  (gd (kC h4 x0 = 1) <| gd (kC h4 (kR h4 8 x0) = 3) <| bd (f_X3_lawyers (kR h4 8 x0) h4) fun v12 h13 => f_X1_fundAt_179 v12 h13)
  else
  if x1 = (4 : Int32) then
  (gd (kC h4 x0 = 1) <| gd (kC h4 (kR h4 8 x0) = 3) <| f_X1_fundAt_179 (kL h4 202 (kR h4 8 x0)) h4)
  else
  if x1 = (5 : Int32) then
  (gd (kC h4 x0 = 1) <| gd (kC h4 (kR h4 8 x0) = 3) <| f_X1_fundAt_179 (kL h4 203 (kR h4 8 x0)) h4)
  else
  if x1 = (6 : Int32) then
  (gd (kC h4 x0 = 1) <| bd (f_X1_lying x0 h4) fun v19 h20 => f_X1_fundAt_179 v19 h20)
  else
  if x1 = (7 : Int32) then
  (gd (kC h4 x0 = 1) <| gd (kC h4 (kR h4 8 x0) = 3) <| f_X1_fundAt_179 (kL h4 204 (kR h4 8 x0)) h4)
  else
  if x1 = (8 : Int32) then
  (gd (kC h4 x0 = 1) <| gd (kC h4 (kR h4 8 x0) = 3) <| f_X1_fundAt_179 (kL h4 205 (kR h4 8 x0)) h4)
  else
  if x1 = (9 : Int32) then
  (gd (kC h4 x0 = 1) <| bd (f_X1_due x0 (kI h4 16 x0) h4) fun v27 h28 => f_X1_fundAt_179 v27 h28)
  else
  if x1 = (10 : Int32) then
  (gd (kC h4 x0 = 1) <| bd (f_X1_reserve x0 (kI h4 16 x0) h4) fun v30 h31 => f_X1_fundAt_179 v30 h31)
  else
  (gd (kC h4 x0 = 1) <| bd (f_X1_differs x0 h4) fun v32 h33 => f_X1_fundAt_179 v32 h33)
theorem b_X1_fundAt_179 {rr : (Int64 ⊕ Ex) × Hp}  (C : CX p l R s m args meth c D Hs cX1_fundAt "Massclaim" 2 (some .long) [] 7 111)  : ∀ (y0 : Int64) (h : Hp) (H : Heap) (locs : List Loc) (cells slots : Nat) (ls : Array Slot), HP D Hs h H → LO Hs locs → lv_has ls 2 [] → f_X1_fundAt_179 y0 h = some rr → W p l e R s m args below meth c H locs cells slots (ZM D Hs iL rr below args s) (F0 m 179 ls [.long y0]) := by
  obtain ⟨⟨hx, hb, hml, hown, hts⟩, -⟩ := id C
  have hl9 := C.2.1.2.2.1
  intro y0 h H locs cells slots ls hH hL hl hrun
  unfold f_X1_fundAt_179 at hrun
  exact V_lret (pc := 179) C hH hL hrun dX1_fundAt_179

theorem b_X1_fundAt {rr : (Int64 ⊕ Ex) × Hp}  (C : CX p l R s m args meth c D Hs cX1_fundAt "Massclaim" 2 (some .long) [] 7 111)  : ∀ (x0 : Nat) (x1 : Int32) (h : Hp) (H : Heap) (locs : List Loc) (cells slots : Nat) (ls : Array Slot), HP D Hs h H → LO Hs locs → lv_has ls 2 [(0, rv x0), (1, .int x1)] → f_X1_fundAt x0 x1 h = some rr → W p l e R s m args below meth c H locs cells slots (ZM D Hs iL rr below args s) (F0 m 0 ls []) := by
  obtain ⟨⟨hx, hb, hml, hown, hts⟩, -⟩ := id C
  have hl9 := C.2.1.2.2.1
  intro x0 x1 h H locs cells slots ls hH hL hl hrun
  unfold f_X1_fundAt at hrun
  refine lv_iload_n (pc := 0) hx hb dX1_fundAt_0 rfl (lv_at hl 1 rfl) ?_
  refine lv_i2l (pc := 1) hx hb dX1_fundAt_1 rfl ?_
  refine lv_lconst (v := (0 : Int64)) (pc := 2) hx hb dX1_fundAt_2 (by decide) ?_
  refine lv_ldc2 (pc := 3) hx hb hown (hts _ q1795) dX1_fundAt_3 ?_
  refine V_bd (pc := 6) C hL rfl hrun (fun rr1 e1 => Z_runS (rest := []) C hH (m_X1_isIn hl9 e1) wS_X1_127 rfl ⟨by decide, by decide⟩ rfl (Nat.le_of_ble_eq_true rfl) hl.1 dX1_fundAt_6) (fun v1 h2 H locs cells slots hH hL hrun => ?_)
  refine V_bd (pc := 9) C hL rfl hrun (fun rr1 e1 => Z_runS (rest := []) C hH (m_X1_requireArgument hl9 e1) wS_X1_131 rfl ⟨by decide, by decide⟩ rfl (Nat.le_of_ble_eq_true rfl) hl.1 dX1_fundAt_9) (fun _ h4 H locs cells slots hH hL hrun => ?_)
  refine lv_iload_n (pc := 12) hx hb dX1_fundAt_12 rfl (lv_at hl 1 rfl) ?_
  by_cases n0 : x1 = (0 : Int32)
  · have hrun := ite_t hrun n0
    refine lv_tableIn (pc := 13) (off := 59) (tgt := 72) hx hb dX1_fundAt_13 (by rw [n0]; decide) (by rw [n0]; decide) (by rw [n0]; decide) (by decide) ?_
    refine V_aload_n (pc := 72) hx hb dX1_fundAt_72 rfl (lv_at hl 0 rfl) ?_
    obtain ⟨c5, hrun⟩ := gd_some hrun
    refine V_getL (pc := 73) C hH fr_X1_111 dX1_fundAt_73 c5 rfl ?_
    refine lv_goto (tgt := 179) (pc := 76) hx hb dX1_fundAt_76 (by decide) ?_
    exact b_X1_fundAt_179 C (kL h4 17 x0) h4 H locs cells slots ls hH hL (lv_sub hl [] rfl) hrun
  have hrun := ite_f hrun n0
  by_cases n1 : x1 = (1 : Int32)
  · have hrun := ite_t hrun n1
    refine lv_tableIn (pc := 13) (off := 66) (tgt := 79) hx hb dX1_fundAt_13 (by rw [n1]; decide) (by rw [n1]; decide) (by rw [n1]; decide) (by decide) ?_
    refine V_aload_n (pc := 79) hx hb dX1_fundAt_79 rfl (lv_at hl 0 rfl) ?_
    obtain ⟨c8, hrun⟩ := gd_some hrun
    refine V_bd (pc := 80) C hL rfl hrun (fun rr1 e1 => Z_runV (rest := []) C hH (m_X1_paidIn hl9 e1) wV_X1_502 c8 rfl (by decide) rfl rfl ⟨by decide, by decide⟩ rfl (Nat.le_of_ble_eq_true rfl) hl.1 dX1_fundAt_80) (fun v6 h7 H locs cells slots hH hL hrun => ?_)
    refine lv_goto (tgt := 179) (pc := 83) hx hb dX1_fundAt_83 (by decide) ?_
    exact b_X1_fundAt_179 C v6 h7 H locs cells slots ls hH hL (lv_sub hl [] rfl) hrun
  have hrun := ite_f hrun n1
  by_cases n2 : x1 = (2 : Int32)
  · have hrun := ite_t hrun n2
    refine lv_tableIn (pc := 13) (off := 73) (tgt := 86) hx hb dX1_fundAt_13 (by rw [n2]; decide) (by rw [n2]; decide) (by rw [n2]; decide) (by decide) ?_
    refine V_aload_n (pc := 86) hx hb dX1_fundAt_86 rfl (lv_at hl 0 rfl) ?_
    obtain ⟨c9, hrun⟩ := gd_some hrun
    refine V_getR (pc := 87) C hH fr_X1_74 dX1_fundAt_87 c9 rfl ?_
    obtain ⟨c10, hrun⟩ := gd_some hrun
    refine V_getNL (pc := 90) C hH fn_X1_505 dX1_fundAt_90 c10 rfl ?_
    refine lv_goto (tgt := 179) (pc := 93) hx hb dX1_fundAt_93 (by decide) ?_
    exact b_X1_fundAt_179 C (kL h4 200 (kR h4 8 x0)) h4 H locs cells slots ls hH hL (lv_sub hl [] rfl) hrun
  have hrun := ite_f hrun n2
  by_cases n3 : x1 = (3 : Int32)
  · have hrun := ite_t hrun n3
    refine lv_tableIn (pc := 13) (off := 83) (tgt := 96) hx hb dX1_fundAt_13 (by rw [n3]; decide) (by rw [n3]; decide) (by rw [n3]; decide) (by decide) ?_
    refine V_aload_n (pc := 96) hx hb dX1_fundAt_96 rfl (lv_at hl 0 rfl) ?_
    obtain ⟨c11, hrun⟩ := gd_some hrun
    refine V_getR (pc := 97) C hH fr_X1_74 dX1_fundAt_97 c11 rfl ?_
    obtain ⟨c14, hrun⟩ := gd_some hrun
    refine V_bd (pc := 100) C hL rfl hrun (fun rr1 e1 => Z_runV (rest := []) C hH (m_X3_lawyers hl9 e1) wV_X1_508 c14 rfl (by decide) rfl rfl ⟨by decide, by decide⟩ rfl (Nat.le_of_ble_eq_true rfl) hl.1 dX1_fundAt_100) (fun v12 h13 H locs cells slots hH hL hrun => ?_)
    refine lv_goto (tgt := 179) (pc := 103) hx hb dX1_fundAt_103 (by decide) ?_
    exact b_X1_fundAt_179 C v12 h13 H locs cells slots ls hH hL (lv_sub hl [] rfl) hrun
  have hrun := ite_f hrun n3
  by_cases n4 : x1 = (4 : Int32)
  · have hrun := ite_t hrun n4
    refine lv_tableIn (pc := 13) (off := 93) (tgt := 106) hx hb dX1_fundAt_13 (by rw [n4]; decide) (by rw [n4]; decide) (by rw [n4]; decide) (by decide) ?_
    refine V_aload_n (pc := 106) hx hb dX1_fundAt_106 rfl (lv_at hl 0 rfl) ?_
    obtain ⟨c15, hrun⟩ := gd_some hrun
    refine V_getR (pc := 107) C hH fr_X1_74 dX1_fundAt_107 c15 rfl ?_
    obtain ⟨c16, hrun⟩ := gd_some hrun
    refine V_getNL (pc := 110) C hH fn_X1_510 dX1_fundAt_110 c16 rfl ?_
    refine lv_goto (tgt := 179) (pc := 113) hx hb dX1_fundAt_113 (by decide) ?_
    exact b_X1_fundAt_179 C (kL h4 202 (kR h4 8 x0)) h4 H locs cells slots ls hH hL (lv_sub hl [] rfl) hrun
  have hrun := ite_f hrun n4
  by_cases n5 : x1 = (5 : Int32)
  · have hrun := ite_t hrun n5
    refine lv_tableIn (pc := 13) (off := 103) (tgt := 116) hx hb dX1_fundAt_13 (by rw [n5]; decide) (by rw [n5]; decide) (by rw [n5]; decide) (by decide) ?_
    refine V_aload_n (pc := 116) hx hb dX1_fundAt_116 rfl (lv_at hl 0 rfl) ?_
    obtain ⟨c17, hrun⟩ := gd_some hrun
    refine V_getR (pc := 117) C hH fr_X1_74 dX1_fundAt_117 c17 rfl ?_
    obtain ⟨c18, hrun⟩ := gd_some hrun
    refine V_getNL (pc := 120) C hH fn_X1_512 dX1_fundAt_120 c18 rfl ?_
    refine lv_goto (tgt := 179) (pc := 123) hx hb dX1_fundAt_123 (by decide) ?_
    exact b_X1_fundAt_179 C (kL h4 203 (kR h4 8 x0)) h4 H locs cells slots ls hH hL (lv_sub hl [] rfl) hrun
  have hrun := ite_f hrun n5
  by_cases n6 : x1 = (6 : Int32)
  · have hrun := ite_t hrun n6
    refine lv_tableIn (pc := 13) (off := 113) (tgt := 126) hx hb dX1_fundAt_13 (by rw [n6]; decide) (by rw [n6]; decide) (by rw [n6]; decide) (by decide) ?_
    refine V_aload_n (pc := 126) hx hb dX1_fundAt_126 rfl (lv_at hl 0 rfl) ?_
    obtain ⟨c21, hrun⟩ := gd_some hrun
    refine V_bd (pc := 127) C hL rfl hrun (fun rr1 e1 => Z_runV (rest := []) C hH (m_X1_lying hl9 e1) wV_X1_514 c21 rfl (by decide) rfl rfl ⟨by decide, by decide⟩ rfl (Nat.le_of_ble_eq_true rfl) hl.1 dX1_fundAt_127) (fun v19 h20 H locs cells slots hH hL hrun => ?_)
    refine lv_goto (tgt := 179) (pc := 130) hx hb dX1_fundAt_130 (by decide) ?_
    exact b_X1_fundAt_179 C v19 h20 H locs cells slots ls hH hL (lv_sub hl [] rfl) hrun
  have hrun := ite_f hrun n6
  by_cases n7 : x1 = (7 : Int32)
  · have hrun := ite_t hrun n7
    refine lv_tableIn (pc := 13) (off := 120) (tgt := 133) hx hb dX1_fundAt_13 (by rw [n7]; decide) (by rw [n7]; decide) (by rw [n7]; decide) (by decide) ?_
    refine V_aload_n (pc := 133) hx hb dX1_fundAt_133 rfl (lv_at hl 0 rfl) ?_
    obtain ⟨c22, hrun⟩ := gd_some hrun
    refine V_getR (pc := 134) C hH fr_X1_74 dX1_fundAt_134 c22 rfl ?_
    obtain ⟨c23, hrun⟩ := gd_some hrun
    refine V_getNL (pc := 137) C hH fn_X1_491 dX1_fundAt_137 c23 rfl ?_
    refine lv_goto (tgt := 179) (pc := 140) hx hb dX1_fundAt_140 (by decide) ?_
    exact b_X1_fundAt_179 C (kL h4 204 (kR h4 8 x0)) h4 H locs cells slots ls hH hL (lv_sub hl [] rfl) hrun
  have hrun := ite_f hrun n7
  by_cases n8 : x1 = (8 : Int32)
  · have hrun := ite_t hrun n8
    refine lv_tableIn (pc := 13) (off := 130) (tgt := 143) hx hb dX1_fundAt_13 (by rw [n8]; decide) (by rw [n8]; decide) (by rw [n8]; decide) (by decide) ?_
    refine V_aload_n (pc := 143) hx hb dX1_fundAt_143 rfl (lv_at hl 0 rfl) ?_
    obtain ⟨c24, hrun⟩ := gd_some hrun
    refine V_getR (pc := 144) C hH fr_X1_74 dX1_fundAt_144 c24 rfl ?_
    obtain ⟨c25, hrun⟩ := gd_some hrun
    refine V_getNL (pc := 147) C hH fn_X1_494 dX1_fundAt_147 c25 rfl ?_
    refine lv_goto (tgt := 179) (pc := 150) hx hb dX1_fundAt_150 (by decide) ?_
    exact b_X1_fundAt_179 C (kL h4 205 (kR h4 8 x0)) h4 H locs cells slots ls hH hL (lv_sub hl [] rfl) hrun
  have hrun := ite_f hrun n8
  by_cases n9 : x1 = (9 : Int32)
  · have hrun := ite_t hrun n9
    refine lv_tableIn (pc := 13) (off := 140) (tgt := 153) hx hb dX1_fundAt_13 (by rw [n9]; decide) (by rw [n9]; decide) (by rw [n9]; decide) (by decide) ?_
    refine V_aload_n (pc := 153) hx hb dX1_fundAt_153 rfl (lv_at hl 0 rfl) ?_
    refine V_aload_n (pc := 154) hx hb dX1_fundAt_154 rfl (lv_at hl 0 rfl) ?_
    obtain ⟨c26, hrun⟩ := gd_some hrun
    refine V_getI (pc := 155) C hH fr_X1_108 dX1_fundAt_155 c26 rfl ?_
    refine V_bd (pc := 158) C hL rfl hrun (fun rr1 e1 => Z_runV (rest := []) C hH (m_X1_due hl9 e1) wV_X1_471 c26 rfl (by decide) rfl rfl ⟨by decide, by decide⟩ rfl (Nat.le_of_ble_eq_true rfl) hl.1 dX1_fundAt_158) (fun v27 h28 H locs cells slots hH hL hrun => ?_)
    refine lv_goto (tgt := 179) (pc := 161) hx hb dX1_fundAt_161 (by decide) ?_
    exact b_X1_fundAt_179 C v27 h28 H locs cells slots ls hH hL (lv_sub hl [] rfl) hrun
  have hrun := ite_f hrun n9
  by_cases n10 : x1 = (10 : Int32)
  · have hrun := ite_t hrun n10
    refine lv_tableIn (pc := 13) (off := 151) (tgt := 164) hx hb dX1_fundAt_13 (by rw [n10]; decide) (by rw [n10]; decide) (by rw [n10]; decide) (by decide) ?_
    refine V_aload_n (pc := 164) hx hb dX1_fundAt_164 rfl (lv_at hl 0 rfl) ?_
    refine V_aload_n (pc := 165) hx hb dX1_fundAt_165 rfl (lv_at hl 0 rfl) ?_
    obtain ⟨c29, hrun⟩ := gd_some hrun
    refine V_getI (pc := 166) C hH fr_X1_108 dX1_fundAt_166 c29 rfl ?_
    refine V_bd (pc := 169) C hL rfl hrun (fun rr1 e1 => Z_runV (rest := []) C hH (m_X1_reserve hl9 e1) wV_X1_472 c29 rfl (by decide) rfl rfl ⟨by decide, by decide⟩ rfl (Nat.le_of_ble_eq_true rfl) hl.1 dX1_fundAt_169) (fun v30 h31 H locs cells slots hH hL hrun => ?_)
    refine lv_goto (tgt := 179) (pc := 172) hx hb dX1_fundAt_172 (by decide) ?_
    exact b_X1_fundAt_179 C v30 h31 H locs cells slots ls hH hL (lv_sub hl [] rfl) hrun
  have hrun := ite_f hrun n10
  refine lv_tableOut (pc := 13) (tgt := 175) hx hb dX1_fundAt_13 (sw_out [0, 1, 2, 3, 4, 5, 6, 7, 8, 9, 10] (by decide) (by decide) ⟨by decide, by decide⟩ (List.forall_mem_cons.mpr ⟨sw_ne (v := (0 : Int32)) (by decide) n0, (List.forall_mem_cons.mpr ⟨sw_ne (v := (1 : Int32)) (by decide) n1, (List.forall_mem_cons.mpr ⟨sw_ne (v := (2 : Int32)) (by decide) n2, (List.forall_mem_cons.mpr ⟨sw_ne (v := (3 : Int32)) (by decide) n3, (List.forall_mem_cons.mpr ⟨sw_ne (v := (4 : Int32)) (by decide) n4, (List.forall_mem_cons.mpr ⟨sw_ne (v := (5 : Int32)) (by decide) n5, (List.forall_mem_cons.mpr ⟨sw_ne (v := (6 : Int32)) (by decide) n6, (List.forall_mem_cons.mpr ⟨sw_ne (v := (7 : Int32)) (by decide) n7, (List.forall_mem_cons.mpr ⟨sw_ne (v := (8 : Int32)) (by decide) n8, (List.forall_mem_cons.mpr ⟨sw_ne (v := (9 : Int32)) (by decide) n9, (List.forall_mem_cons.mpr ⟨sw_ne (v := (10 : Int32)) (by decide) n10, (fun _ z => nomatch z)⟩)⟩)⟩)⟩)⟩)⟩)⟩)⟩)⟩)⟩)⟩)) (by decide) ?_
  refine V_aload_n (pc := 175) hx hb dX1_fundAt_175 rfl (lv_at hl 0 rfl) ?_
  obtain ⟨c34, hrun⟩ := gd_some hrun
  refine V_bd (pc := 176) C hL rfl hrun (fun rr1 e1 => Z_runV (rest := []) C hH (m_X1_differs hl9 e1) wV_X1_517 c34 rfl (by decide) rfl rfl ⟨by decide, by decide⟩ rfl (Nat.le_of_ble_eq_true rfl) hl.1 dX1_fundAt_176) (fun v32 h33 H locs cells slots hH hL hrun => ?_)
  exact b_X1_fundAt_179 C v32 h33 H locs cells slots ls hH hL (lv_sub hl [] rfl) hrun

theorem m_X1_fundAt {l : Launch} {D : va_G} {Hs : Heap} {h : Hp} {rr : (Int64 ⊕ Ex) × Hp} (hl9 : l.stackTraces = false) {x0 : Nat} {x1 : Int32} (hrun : f_X1_fundAt x0 x1 h = some rr) : CM l yX1_fundAt (ws_ yX1_fundAt cX1_fundAt 2 (some .long)) 7 111 iL [rv x0, .int x1] D Hs h rr := by
  refine CM.of (lv := [(0, rv x0), (1, .int x1)]) (plainFor_of_name (by decide)) hl9 (by simp [lv_args, rv_cat, cat_i, cat_l, cat_f, cat_d]) (by simp [lg_sl, rv_cat, cat_i, cat_l, cat_f, cat_d]) ?_
  intro p e R s m args below meth c H ls C hH hl hin
  exact b_X1_fundAt C x0 x1 _ H [] _ _ ls hH (fun _ q => nomatch q) (lv_sub hl [0, 1] rfl) hrun

/-! MassclaimLaw.fundAt(LMassclaim;I[J)I -/
def f_X0_fundAt_11  (y0 : Nat) (h : Hp) : Rt Int32 :=
  some (.inl (1 : Int32), h)
def f_X0_fundAt  (x0 : Nat) (x1 : Int32) (x2 : Nat) (h : Hp) : Rt Int32 :=
  gd (kC h x0 = 1) <| bdH (f_X1_fundAt x0 x1 h)
  (fun v1 h2 => gd (kC h2 x2 = 102 ∧ ixo (0 : Int32) (kN h2 x2)) <| vl (tL h2 x2 ((0 : Int32)).toNatClampNeg v1) fun h5 => some (.inl (0 : Int32), h5))
  (fun ex6 h7 => if ex6.1 = 902 then
  (f_X0_fundAt_11 ex6.2 h7)
  else
  none)
theorem b_X0_fundAt_11 {rr : (Int32 ⊕ Ex) × Hp}  (C : CX p l R s m args meth c D Hs cX0_fundAt "MassclaimLaw" 4 (some .int) [(0, 8, 11, 13)] 8 132)  : ∀ (y0 : Nat) (h : Hp) (H : Heap) (locs : List Loc) (cells slots : Nat) (ls : Array Slot), HP D Hs h H → LO Hs locs → lv_has ls 4 [] → f_X0_fundAt_11 y0 h = some rr → W p l e R s m args below meth c H locs cells slots (ZM D Hs iI rr below args s) (F0 m 11 ls [rv y0]) := by
  obtain ⟨⟨hx, hb, hml, hown, hts⟩, -⟩ := id C
  have hl9 := C.2.1.2.2.1
  intro y0 h H locs cells slots ls hH hL hl hrun
  unfold f_X0_fundAt_11 at hrun
  refine V_astore_n (i := 3) (lv' := [(3, rv y0)]) (pc := 11) hx hb dX0_fundAt_11 rfl hl (by decide) rfl (fun ls hl => ?_)
  refine lv_iconst (v := (1 : Int32)) (pc := 12) hx hb dX0_fundAt_12 (by decide) ?_
  exact V_iret (pc := 13) C hH hL hrun dX0_fundAt_13

theorem b_X0_fundAt {rr : (Int32 ⊕ Ex) × Hp}  (C : CX p l R s m args meth c D Hs cX0_fundAt "MassclaimLaw" 4 (some .int) [(0, 8, 11, 13)] 8 132)  : ∀ (x0 : Nat) (x1 : Int32) (x2 : Nat) (h : Hp) (H : Heap) (locs : List Loc) (cells slots : Nat) (ls : Array Slot), HP D Hs h H → LO Hs locs → lv_has ls 4 [(0, rv x0), (1, .int x1), (2, rv x2)] → f_X0_fundAt x0 x1 x2 h = some rr → W p l e R s m args below meth c H locs cells slots (ZM D Hs iI rr below args s) (F0 m 0 ls []) := by
  obtain ⟨⟨hx, hb, hml, hown, hts⟩, -⟩ := id C
  have hl9 := C.2.1.2.2.1
  intro x0 x1 x2 h H locs cells slots ls hH hL hl hrun
  unfold f_X0_fundAt at hrun
  refine V_aload_n (pc := 0) hx hb dX0_fundAt_0 rfl (lv_at hl 2 rfl) ?_
  refine lv_iconst (v := (0 : Int32)) (pc := 1) hx hb dX0_fundAt_1 (by decide) ?_
  refine V_aload_n (pc := 2) hx hb dX0_fundAt_2 rfl (lv_at hl 0 rfl) ?_
  refine lv_iload_n (pc := 3) hx hb dX0_fundAt_3 rfl (lv_at hl 1 rfl) ?_
  obtain ⟨c3, hrun⟩ := gd_some hrun
  refine V_bdH (pc := 4) hL hrun (fun rr1 e1 => Z_runV (rest := [.int (0 : Int32), rv x2]) C hH (m_X1_fundAt hl9 e1) wV_X0_147 c3 rfl (by decide) rfl rfl ⟨by decide, by decide⟩ rfl (by simp [csum, rv_cat, cat_i, cat_l, cat_f, cat_d]) hl.1 dX0_fundAt_4) (fun v1 h2 H locs cells slots hH hL hrun => ?_) (fun x_ q_ ce_ h7 H locs cells slots hH hL hrun hc_ hv_ hcl_ => ?_)
  · obtain ⟨c4, hrun⟩ := gd_some hrun
    refine V_last (pc := 7) C hH hL dX0_fundAt_7 c4 hrun (fun h5 H locs hH hL hrun => ?_)
    refine lv_goto (tgt := 14) (pc := 8) hx hb dX0_fundAt_8 (by decide) ?_
    refine lv_iconst (v := (0 : Int32)) (pc := 14) hx hb dX0_fundAt_14 (by decide) ?_
    exact V_iret (pc := 15) C hH hL hrun dX0_fundAt_15
  · by_cases n902 : x_ = 902
    · subst n902
      have hrun := ite_t hrun rfl
      refine vx_catch (E := "java/lang/IllegalArgumentException") (name := "java/lang/IllegalArgumentException") hown (tableOf []) ⟨0, 8, 11, 13⟩ (tableOf []) (by rw [C.2.1.2.2.2.2]; rfl) (fun z hz => nomatch hz) (by decide) (by decide) (hts _ q449) (va_Nw.use rfl (C.2.1.2.2.2.1.2.1 _ q463 rfl)) hc_ hv_ hcl_ ?_
      exact b_X0_fundAt_11 C (q_ + 1) h7 H locs cells slots ls hH hL (lv_sub hl [] rfl) hrun
    have hrun := ite_f hrun n902
    cases hrun

theorem m_X0_fundAt {l : Launch} {D : va_G} {Hs : Heap} {h : Hp} {rr : (Int32 ⊕ Ex) × Hp} (hl9 : l.stackTraces = false) {x0 : Nat} {x1 : Int32} {x2 : Nat} (hrun : f_X0_fundAt x0 x1 x2 h = some rr) : CM l yX0_fundAt (wsW_ yX0_fundAt cX0_fundAt 4 (some .int) [(0, 8, 11, 13)]) 8 132 iI [rv x0, .int x1, rv x2] D Hs h rr := by
  refine CM.ofH (lv := [(0, rv x0), (1, .int x1), (2, rv x2)]) (plainFor_of_name (by decide)) hl9 (by simp [lv_args, rv_cat, cat_i, cat_l, cat_f, cat_d]) (by simp [lg_sl, rv_cat, cat_i, cat_l, cat_f, cat_d]) ?_
  intro p e R s m args below meth c H ls C hH hl hin
  exact b_X0_fundAt C x0 x1 x2 _ H [] _ _ ls hH (fun _ q => nomatch q) (lv_sub hl [0, 1, 2] rfl) hrun

/-! MassclaimModel.delivered()J -/
def f_X4_delivered_4  : Nat → Nat → Int64 → Int32 → Hp → Rt Int64
  | 0, _, _, _, _ => none
  | n + 1, x0, x1, x3, h => gd (kC h x0 = 4) <| gd (kC h (kR h 302 x0) = 18) <| bd (f_J2_size (kR h 302 x0) h) fun v2 h3 => if v2 ≤ x3 then
  (some (.inl x1, h3))
  else
  (gd (kC h3 x0 = 4) <| gd (kC h3 (kR h3 302 x0) = 18) <| bd (f_J2_get (kR h3 302 x0) x3 h3) fun v6 h7 => gd (v6 = 0 ∨ kC h7 v6 = 6) <| gd (kC h7 v6 = 6) <| vl (x1 + (kL h7 518 v6)) fun v11 => vl (x3 + (1 : Int32)) fun v12 => f_X4_delivered_4 n x0 v11 v12 h7)
def f_X4_delivered  (x0 : Nat) (h : Hp) : Rt Int64 :=
  f_X4_delivered_4 FU x0 (0 : Int64) (0 : Int32) h
theorem b_X4_delivered_4 {rr : (Int64 ⊕ Ex) × Hp}  (C : CX p l R s m args meth c D Hs cX4_delivered "MassclaimModel" 4 (some .long) [] 4 64)  : ∀ (n : Nat) (x0 : Nat) (x1 : Int64) (x3 : Int32) (h : Hp) (H : Heap) (locs : List Loc) (cells slots : Nat) (ls : Array Slot), HP D Hs h H → LO Hs locs → lv_has ls 4 [(0, rv x0), (1, .long x1), (3, .int x3)] → f_X4_delivered_4 n x0 x1 x3 h = some rr → W p l e R s m args below meth c H locs cells slots (ZM D Hs iL rr below args s) (F0 m 4 ls []) := by
  obtain ⟨⟨hx, hb, hml, hown, hts⟩, -⟩ := id C
  have hl9 := C.2.1.2.2.1
  intro n
  induction n with
  | zero =>
    intro x0 x1 x3 h H locs cells slots ls hH hL hl hrun
    cases (show (none : Option _) = some rr from hrun)
  | succ n ih =>
    intro x0 x1 x3 h H locs cells slots ls hH hL hl hrun
    rw [f_X4_delivered_4] at hrun
    refine lv_iload_n (pc := 4) hx hb dX4_delivered_4 rfl (lv_at hl 2 rfl) ?_
    refine V_aload_n (pc := 5) hx hb dX4_delivered_5 rfl (lv_at hl 0 rfl) ?_
    obtain ⟨c1, hrun⟩ := gd_some hrun
    refine V_getR (pc := 6) C hH fr_X4_16 dX4_delivered_6 c1 rfl ?_
    obtain ⟨c4, hrun⟩ := gd_some hrun
    refine V_bd (pc := 9) C hL rfl hrun (fun rr1 e1 => Z_runV (rest := [.int x3]) C hH (m_J2_size hl9 e1) wV_X4_94 c4 rfl (by decide) rfl rfl ⟨by decide, by decide⟩ rfl (Nat.le_of_ble_eq_true rfl) hl.1 dX4_delivered_9) (fun v2 h3 H locs cells slots hH hL hrun => ?_)
    refine lv_icmp_ge (tgt := 38) (pc := 12) hx hb dX4_delivered_12 (by decide) (fun c_ => ?_) (fun c_ => ?_)
    · have hrun := ite_t hrun c_
      refine lv_lload_n (pc := 38) hx hb dX4_delivered_38 rfl (lv_at hl 1 rfl) ?_
      exact V_lret (pc := 39) C hH hL hrun dX4_delivered_39
    · have hrun := ite_f hrun c_
      refine lv_lload_n (pc := 15) hx hb dX4_delivered_15 rfl (lv_at hl 1 rfl) ?_
      refine V_aload_n (pc := 16) hx hb dX4_delivered_16 rfl (lv_at hl 0 rfl) ?_
      obtain ⟨c5, hrun⟩ := gd_some hrun
      refine V_getR (pc := 17) C hH fr_X4_16 dX4_delivered_17 c5 rfl ?_
      refine lv_iload_n (pc := 20) hx hb dX4_delivered_20 rfl (lv_at hl 2 rfl) ?_
      obtain ⟨c8, hrun⟩ := gd_some hrun
      refine V_bd (pc := 21) C hL rfl hrun (fun rr1 e1 => Z_runV (rest := [.long x1]) C hH (m_J2_get hl9 e1) wV_X4_108 c8 rfl (by decide) rfl rfl ⟨by decide, by decide⟩ rfl (Nat.le_of_ble_eq_true rfl) hl.1 dX4_delivered_21) (fun v6 h7 H locs cells slots hH hL hrun => ?_)
      obtain ⟨c9, hrun⟩ := gd_some hrun
      refine V_castX (pc := 24) (ci := 5) C hH rfl (by decide) q1946 dX4_delivered_24 c9 ?_
      obtain ⟨c10, hrun⟩ := gd_some hrun
      refine V_getL (pc := 27) C hH fr_X4_147 dX4_delivered_27 c10 rfl ?_
      refine lv_ladd (pc := 30) hx hb dX4_delivered_30 ?_
      refine lv_topl (fun v11 ev11 => ?_)
      have hrun := vl_at hrun v11 ev11
      refine lv_lstore_n (i := 1) (lv' := [(1, .long v11), (0, rv x0), (3, .int x3)]) (pc := 31) hx hb dX4_delivered_31 rfl hl (by decide) (by simp [rv_cat, cat_i, cat_l, cat_f, cat_d]) (fun ls hl => ?_)
      obtain ⟨v12, ev12⟩ : ∃ y : Int32, y = x3 + (1 : Int32) := ⟨_, rfl⟩
      have hrun := vl_at hrun v12 ev12
      refine lv_iinc (v := v12) (lv' := [(3, .int v12), (1, .long v11), (0, rv x0)]) (pc := 32) hx hb dX4_delivered_32 hl (k := 2) rfl (by rw [ev12]; rfl) (by decide) (by first | rfl | simp [rv_cat, cat_i, cat_l, cat_f, cat_d]) (fun ls hl => ?_)
      refine lv_goto (tgt := 4) (pc := 35) hx hb dX4_delivered_35 (by decide) ?_
      exact ih x0 v11 v12 h7 H locs cells slots ls hH hL (lv_sub hl [2, 1, 0] rfl) hrun

theorem b_X4_delivered {rr : (Int64 ⊕ Ex) × Hp}  (C : CX p l R s m args meth c D Hs cX4_delivered "MassclaimModel" 4 (some .long) [] 4 64)  : ∀ (x0 : Nat) (h : Hp) (H : Heap) (locs : List Loc) (cells slots : Nat) (ls : Array Slot), HP D Hs h H → LO Hs locs → lv_has ls 4 [(0, rv x0)] → f_X4_delivered x0 h = some rr → W p l e R s m args below meth c H locs cells slots (ZM D Hs iL rr below args s) (F0 m 0 ls []) := by
  obtain ⟨⟨hx, hb, hml, hown, hts⟩, -⟩ := id C
  have hl9 := C.2.1.2.2.1
  intro x0 h H locs cells slots ls hH hL hl hrun
  unfold f_X4_delivered at hrun
  refine lv_lconst (v := (0 : Int64)) (pc := 0) hx hb dX4_delivered_0 (by decide) ?_
  refine lv_lstore_n (i := 1) (lv' := [(1, .long (0 : Int64)), (0, rv x0)]) (pc := 1) hx hb dX4_delivered_1 rfl hl (by decide) (by simp [rv_cat, cat_i, cat_l, cat_f, cat_d]) (fun ls hl => ?_)
  refine lv_iconst (v := (0 : Int32)) (pc := 2) hx hb dX4_delivered_2 (by decide) ?_
  refine lv_istore_n (i := 3) (lv' := [(3, .int (0 : Int32)), (1, .long (0 : Int64)), (0, rv x0)]) (pc := 3) hx hb dX4_delivered_3 rfl hl (by decide) rfl (fun ls hl => ?_)
  exact b_X4_delivered_4 C FU x0 (0 : Int64) (0 : Int32) h H locs cells slots ls hH hL (lv_sub hl [2, 1, 0] rfl) hrun

theorem m_X4_delivered {l : Launch} {D : va_G} {Hs : Heap} {h : Hp} {rr : (Int64 ⊕ Ex) × Hp} (hl9 : l.stackTraces = false) {x0 : Nat} (hrun : f_X4_delivered x0 h = some rr) : CM l yX4_delivered (ws_ yX4_delivered cX4_delivered 4 (some .long)) 4 64 iL [rv x0] D Hs h rr := by
  refine CM.of (lv := [(0, rv x0)]) (plainFor_of_name (by decide)) hl9 (by simp [lv_args, rv_cat, cat_i, cat_l, cat_f, cat_d]) (by simp [lg_sl, rv_cat, cat_i, cat_l, cat_f, cat_d]) ?_
  intro p e R s m args below meth c H ls C hH hl hin
  exact b_X4_delivered C x0 _ H [] _ _ ls hH (fun _ q => nomatch q) (lv_sub hl [0] rfl) hrun

/-! MassclaimModel.lies()J -/
def f_X4_lies_4  : Nat → Nat → Int64 → Int32 → Hp → Rt Int64
  | 0, _, _, _, _ => none
  | n + 1, x0, x1, x3, h => gd (kC h x0 = 4) <| gd (kC h (kR h 302 x0) = 18) <| bd (f_J2_size (kR h 302 x0) h) fun v2 h3 => if v2 ≤ x3 then
  (some (.inl x1, h3))
  else
  (gd (kC h3 x0 = 4) <| gd (kC h3 (kR h3 302 x0) = 18) <| bd (f_J2_get (kR h3 302 x0) x3 h3) fun v6 h7 => gd (v6 = 0 ∨ kC h7 v6 = 6) <| gd (kC h7 v6 = 6) <| gd (kC h7 x0 = 4) <| gd (kC h7 (kR h7 302 x0) = 18) <| bd (f_J2_get (kR h7 302 x0) x3 h7) fun v12 h13 => gd (v12 = 0 ∨ kC h13 v12 = 6) <| gd (kC h13 v12 = 6) <| gd (kC h13 x0 = 4) <| gd (kC h13 (kR h13 302 x0) = 18) <| bd (f_J2_get (kR h13 302 x0) x3 h13) fun v18 h19 => gd (v18 = 0 ∨ kC h19 v18 = 6) <| bd (f_X4_yearly v18 h19) fun v22 h23 => vl (x1 + (((kL h7 519 v6) + (kL h13 520 v12)) + v22)) fun v24 => vl (x3 + (1 : Int32)) fun v25 => f_X4_lies_4 n x0 v24 v25 h23)
def f_X4_lies  (x0 : Nat) (h : Hp) : Rt Int64 :=
  f_X4_lies_4 FU x0 (0 : Int64) (0 : Int32) h
theorem b_X4_lies_4 {rr : (Int64 ⊕ Ex) × Hp}  (C : CX p l R s m args meth c D Hs cX4_lies "MassclaimModel" 4 (some .long) [] 5 87)  : ∀ (n : Nat) (x0 : Nat) (x1 : Int64) (x3 : Int32) (h : Hp) (H : Heap) (locs : List Loc) (cells slots : Nat) (ls : Array Slot), HP D Hs h H → LO Hs locs → lv_has ls 4 [(0, rv x0), (1, .long x1), (3, .int x3)] → f_X4_lies_4 n x0 x1 x3 h = some rr → W p l e R s m args below meth c H locs cells slots (ZM D Hs iL rr below args s) (F0 m 4 ls []) := by
  obtain ⟨⟨hx, hb, hml, hown, hts⟩, -⟩ := id C
  have hl9 := C.2.1.2.2.1
  intro n
  induction n with
  | zero =>
    intro x0 x1 x3 h H locs cells slots ls hH hL hl hrun
    cases (show (none : Option _) = some rr from hrun)
  | succ n ih =>
    intro x0 x1 x3 h H locs cells slots ls hH hL hl hrun
    rw [f_X4_lies_4] at hrun
    refine lv_iload_n (pc := 4) hx hb dX4_lies_4 rfl (lv_at hl 2 rfl) ?_
    refine V_aload_n (pc := 5) hx hb dX4_lies_5 rfl (lv_at hl 0 rfl) ?_
    obtain ⟨c1, hrun⟩ := gd_some hrun
    refine V_getR (pc := 6) C hH fr_X4_16 dX4_lies_6 c1 rfl ?_
    obtain ⟨c4, hrun⟩ := gd_some hrun
    refine V_bd (pc := 9) C hL rfl hrun (fun rr1 e1 => Z_runV (rest := [.int x3]) C hH (m_J2_size hl9 e1) wV_X4_94 c4 rfl (by decide) rfl rfl ⟨by decide, by decide⟩ rfl (Nat.le_of_ble_eq_true rfl) hl.1 dX4_lies_9) (fun v2 h3 H locs cells slots hH hL hrun => ?_)
    refine lv_icmp_ge (tgt := 68) (pc := 12) hx hb dX4_lies_12 (by decide) (fun c_ => ?_) (fun c_ => ?_)
    · have hrun := ite_t hrun c_
      refine lv_lload_n (pc := 68) hx hb dX4_lies_68 rfl (lv_at hl 1 rfl) ?_
      exact V_lret (pc := 69) C hH hL hrun dX4_lies_69
    · have hrun := ite_f hrun c_
      refine lv_lload_n (pc := 15) hx hb dX4_lies_15 rfl (lv_at hl 1 rfl) ?_
      refine V_aload_n (pc := 16) hx hb dX4_lies_16 rfl (lv_at hl 0 rfl) ?_
      obtain ⟨c5, hrun⟩ := gd_some hrun
      refine V_getR (pc := 17) C hH fr_X4_16 dX4_lies_17 c5 rfl ?_
      refine lv_iload_n (pc := 20) hx hb dX4_lies_20 rfl (lv_at hl 2 rfl) ?_
      obtain ⟨c8, hrun⟩ := gd_some hrun
      refine V_bd (pc := 21) C hL rfl hrun (fun rr1 e1 => Z_runV (rest := [.long x1]) C hH (m_J2_get hl9 e1) wV_X4_108 c8 rfl (by decide) rfl rfl ⟨by decide, by decide⟩ rfl (Nat.le_of_ble_eq_true rfl) hl.1 dX4_lies_21) (fun v6 h7 H locs cells slots hH hL hrun => ?_)
      obtain ⟨c9, hrun⟩ := gd_some hrun
      refine V_castX (pc := 24) (ci := 5) C hH rfl (by decide) q1946 dX4_lies_24 c9 ?_
      obtain ⟨c10, hrun⟩ := gd_some hrun
      refine V_getL (pc := 27) C hH fr_X4_140 dX4_lies_27 c10 rfl ?_
      refine V_aload_n (pc := 30) hx hb dX4_lies_30 rfl (lv_at hl 0 rfl) ?_
      obtain ⟨c11, hrun⟩ := gd_some hrun
      refine V_getR (pc := 31) C hH fr_X4_16 dX4_lies_31 c11 rfl ?_
      refine lv_iload_n (pc := 34) hx hb dX4_lies_34 rfl (lv_at hl 2 rfl) ?_
      obtain ⟨c14, hrun⟩ := gd_some hrun
      refine V_bd (pc := 35) C hL rfl hrun (fun rr1 e1 => Z_runV (rest := [.long (kL h7 519 v6), .long x1]) C hH (m_J2_get hl9 e1) wV_X4_108 c14 rfl (by decide) rfl rfl ⟨by decide, by decide⟩ rfl (Nat.le_of_ble_eq_true rfl) hl.1 dX4_lies_35) (fun v12 h13 H locs cells slots hH hL hrun => ?_)
      obtain ⟨c15, hrun⟩ := gd_some hrun
      refine V_castX (pc := 38) (ci := 5) C hH rfl (by decide) q1946 dX4_lies_38 c15 ?_
      obtain ⟨c16, hrun⟩ := gd_some hrun
      refine V_getL (pc := 41) C hH fr_X4_267 dX4_lies_41 c16 rfl ?_
      refine lv_ladd (pc := 44) hx hb dX4_lies_44 ?_
      refine V_aload_n (pc := 45) hx hb dX4_lies_45 rfl (lv_at hl 0 rfl) ?_
      obtain ⟨c17, hrun⟩ := gd_some hrun
      refine V_getR (pc := 46) C hH fr_X4_16 dX4_lies_46 c17 rfl ?_
      refine lv_iload_n (pc := 49) hx hb dX4_lies_49 rfl (lv_at hl 2 rfl) ?_
      obtain ⟨c20, hrun⟩ := gd_some hrun
      refine V_bd (pc := 50) C hL rfl hrun (fun rr1 e1 => Z_runV (rest := [.long ((kL h7 519 v6) + (kL h13 520 v12)), .long x1]) C hH (m_J2_get hl9 e1) wV_X4_108 c20 rfl (by decide) rfl rfl ⟨by decide, by decide⟩ rfl (Nat.le_of_ble_eq_true rfl) hl.1 dX4_lies_50) (fun v18 h19 H locs cells slots hH hL hrun => ?_)
      obtain ⟨c21, hrun⟩ := gd_some hrun
      refine V_castX (pc := 53) (ci := 5) C hH rfl (by decide) q1946 dX4_lies_53 c21 ?_
      refine V_bd (pc := 56) C hL rfl hrun (fun rr1 e1 => Z_runS (rest := [.long ((kL h7 519 v6) + (kL h13 520 v12)), .long x1]) C hH (m_X4_yearly hl9 e1) wS_X4_202 rfl ⟨by decide, by decide⟩ rfl (Nat.le_of_ble_eq_true rfl) hl.1 dX4_lies_56) (fun v22 h23 H locs cells slots hH hL hrun => ?_)
      refine lv_ladd (pc := 59) hx hb dX4_lies_59 ?_
      refine lv_ladd (pc := 60) hx hb dX4_lies_60 ?_
      refine lv_topl (fun v24 ev24 => ?_)
      have hrun := vl_at hrun v24 ev24
      refine lv_lstore_n (i := 1) (lv' := [(1, .long v24), (0, rv x0), (3, .int x3)]) (pc := 61) hx hb dX4_lies_61 rfl hl (by decide) (by simp [rv_cat, cat_i, cat_l, cat_f, cat_d]) (fun ls hl => ?_)
      obtain ⟨v25, ev25⟩ : ∃ y : Int32, y = x3 + (1 : Int32) := ⟨_, rfl⟩
      have hrun := vl_at hrun v25 ev25
      refine lv_iinc (v := v25) (lv' := [(3, .int v25), (1, .long v24), (0, rv x0)]) (pc := 62) hx hb dX4_lies_62 hl (k := 2) rfl (by rw [ev25]; rfl) (by decide) (by first | rfl | simp [rv_cat, cat_i, cat_l, cat_f, cat_d]) (fun ls hl => ?_)
      refine lv_goto (tgt := 4) (pc := 65) hx hb dX4_lies_65 (by decide) ?_
      exact ih x0 v24 v25 h23 H locs cells slots ls hH hL (lv_sub hl [2, 1, 0] rfl) hrun

theorem b_X4_lies {rr : (Int64 ⊕ Ex) × Hp}  (C : CX p l R s m args meth c D Hs cX4_lies "MassclaimModel" 4 (some .long) [] 5 87)  : ∀ (x0 : Nat) (h : Hp) (H : Heap) (locs : List Loc) (cells slots : Nat) (ls : Array Slot), HP D Hs h H → LO Hs locs → lv_has ls 4 [(0, rv x0)] → f_X4_lies x0 h = some rr → W p l e R s m args below meth c H locs cells slots (ZM D Hs iL rr below args s) (F0 m 0 ls []) := by
  obtain ⟨⟨hx, hb, hml, hown, hts⟩, -⟩ := id C
  have hl9 := C.2.1.2.2.1
  intro x0 h H locs cells slots ls hH hL hl hrun
  unfold f_X4_lies at hrun
  refine lv_lconst (v := (0 : Int64)) (pc := 0) hx hb dX4_lies_0 (by decide) ?_
  refine lv_lstore_n (i := 1) (lv' := [(1, .long (0 : Int64)), (0, rv x0)]) (pc := 1) hx hb dX4_lies_1 rfl hl (by decide) (by simp [rv_cat, cat_i, cat_l, cat_f, cat_d]) (fun ls hl => ?_)
  refine lv_iconst (v := (0 : Int32)) (pc := 2) hx hb dX4_lies_2 (by decide) ?_
  refine lv_istore_n (i := 3) (lv' := [(3, .int (0 : Int32)), (1, .long (0 : Int64)), (0, rv x0)]) (pc := 3) hx hb dX4_lies_3 rfl hl (by decide) rfl (fun ls hl => ?_)
  exact b_X4_lies_4 C FU x0 (0 : Int64) (0 : Int32) h H locs cells slots ls hH hL (lv_sub hl [2, 1, 0] rfl) hrun

theorem m_X4_lies {l : Launch} {D : va_G} {Hs : Heap} {h : Hp} {rr : (Int64 ⊕ Ex) × Hp} (hl9 : l.stackTraces = false) {x0 : Nat} (hrun : f_X4_lies x0 h = some rr) : CM l yX4_lies (ws_ yX4_lies cX4_lies 4 (some .long)) 5 87 iL [rv x0] D Hs h rr := by
  refine CM.of (lv := [(0, rv x0)]) (plainFor_of_name (by decide)) hl9 (by simp [lv_args, rv_cat, cat_i, cat_l, cat_f, cat_d]) (by simp [lg_sl, rv_cat, cat_i, cat_l, cat_f, cat_d]) ?_
  intro p e R s m args below meth c H ls C hH hl hin
  exact b_X4_lies C x0 _ H [] _ _ ls hH (fun _ q => nomatch q) (lv_sub hl [0] rfl) hrun

/-! MassclaimModel.apart()J -/
def f_X4_apart_66 (k4 : Nat → Int64 → Int32 → Hp → Rt Int64) (x0 : Nat) (x3 : Int32) (y0 : Int64) (y1 : Int64) (h : Hp) : Rt Int64 :=
  vl (y0 + y1) fun v1 => vl (x3 + (1 : Int32)) fun v2 => k4 x0 v1 v2 h
def f_X4_apart_4  : Nat → Nat → Int64 → Int32 → Hp → Rt Int64
  | 0, _, _, _, _ => none
  | n + 1, x0, x1, x3, h => gd (kC h x0 = 4) <| gd (kC h (kR h 320 x0) = 18) <| bd (f_J2_size (kR h 320 x0) h) fun v4 h5 => if v4 ≤ x3 then
  (some (.inl x1, h5))
  else
  (gd (kC h5 x0 = 4) <| gd (kC h5 (kR h5 320 x0) = 18) <| bd (f_J2_get (kR h5 320 x0) x3 h5) fun v8 h9 => gd (v8 = 0 ∨ kC h9 v8 = 13) <| gd (kC h9 v8 = 13) <| if (kI h9 1203 v8) = 0 then
  (gd (kC h9 x0 = 4) <| bd (f_X4_value x0 v8 h9) fun v13 h14 => gd (kC h14 x0 = 4) <| gd (kC h14 v8 = 13) <| bd (f_J10_abs (((v13 * ((kI h14 319 x0).toInt64)) / (100 : Int64)) - (kL h14 1208 v8)) h14) fun v18 h19 => f_X4_apart_66 (f_X4_apart_4 n) x0 x3 x1 v18 h19)
  else
  (f_X4_apart_66 (f_X4_apart_4 n) x0 x3 x1 (0 : Int64) h9))
def f_X4_apart  (x0 : Nat) (h : Hp) : Rt Int64 :=
  f_X4_apart_4 FU x0 (0 : Int64) (0 : Int32) h
theorem b_X4_apart_66 {rr : (Int64 ⊕ Ex) × Hp} {k4 : Nat → Int64 → Int32 → Hp → Rt Int64} (C : CX p l R s m args meth c D Hs cX4_apart "MassclaimModel" 5 (some .long) [] 4 72) (K4 : ∀ (x0 : Nat) (x1 : Int64) (x3 : Int32) (h : Hp) (H : Heap) (locs : List Loc) (cells slots : Nat) (ls : Array Slot), HP D Hs h H → LO Hs locs → lv_has ls 5 [(0, rv x0), (1, .long x1), (3, .int x3)] → k4 x0 x1 x3 h = some rr → W p l e R s m args below meth c H locs cells slots (ZM D Hs iL rr below args s) (F0 m 4 ls [])) : ∀ (x0 : Nat) (x3 : Int32) (y0 : Int64) (y1 : Int64) (h : Hp) (H : Heap) (locs : List Loc) (cells slots : Nat) (ls : Array Slot), HP D Hs h H → LO Hs locs → lv_has ls 5 [(0, rv x0), (3, .int x3)] → f_X4_apart_66 k4 x0 x3 y0 y1 h = some rr → W p l e R s m args below meth c H locs cells slots (ZM D Hs iL rr below args s) (F0 m 66 ls [.long y1, .long y0]) := by
  obtain ⟨⟨hx, hb, hml, hown, hts⟩, -⟩ := id C
  have hl9 := C.2.1.2.2.1
  intro x0 x3 y0 y1 h H locs cells slots ls hH hL hl hrun
  unfold f_X4_apart_66 at hrun
  refine lv_ladd (pc := 66) hx hb dX4_apart_66 ?_
  refine lv_topl (fun v1 ev1 => ?_)
  have hrun := vl_at hrun v1 ev1
  refine lv_lstore_n (i := 1) (lv' := [(1, .long v1), (0, rv x0), (3, .int x3)]) (pc := 67) hx hb dX4_apart_67 rfl hl (by decide) (by simp [rv_cat, cat_i, cat_l, cat_f, cat_d]) (fun ls hl => ?_)
  obtain ⟨v2, ev2⟩ : ∃ y : Int32, y = x3 + (1 : Int32) := ⟨_, rfl⟩
  have hrun := vl_at hrun v2 ev2
  refine lv_iinc (v := v2) (lv' := [(3, .int v2), (1, .long v1), (0, rv x0)]) (pc := 68) hx hb dX4_apart_68 hl (k := 2) rfl (by rw [ev2]; rfl) (by decide) (by first | rfl | simp [rv_cat, cat_i, cat_l, cat_f, cat_d]) (fun ls hl => ?_)
  refine lv_goto (tgt := 4) (pc := 71) hx hb dX4_apart_71 (by decide) ?_
  exact K4 x0 v1 v2 h H locs cells slots ls hH hL (lv_sub hl [2, 1, 0] rfl) hrun

theorem b_X4_apart_4 {rr : (Int64 ⊕ Ex) × Hp}  (C : CX p l R s m args meth c D Hs cX4_apart "MassclaimModel" 5 (some .long) [] 4 72)  : ∀ (n : Nat) (x0 : Nat) (x1 : Int64) (x3 : Int32) (h : Hp) (H : Heap) (locs : List Loc) (cells slots : Nat) (ls : Array Slot), HP D Hs h H → LO Hs locs → lv_has ls 5 [(0, rv x0), (1, .long x1), (3, .int x3)] → f_X4_apart_4 n x0 x1 x3 h = some rr → W p l e R s m args below meth c H locs cells slots (ZM D Hs iL rr below args s) (F0 m 4 ls []) := by
  obtain ⟨⟨hx, hb, hml, hown, hts⟩, -⟩ := id C
  have hl9 := C.2.1.2.2.1
  intro n
  induction n with
  | zero =>
    intro x0 x1 x3 h H locs cells slots ls hH hL hl hrun
    cases (show (none : Option _) = some rr from hrun)
  | succ n ih =>
    intro x0 x1 x3 h H locs cells slots ls hH hL hl hrun
    rw [f_X4_apart_4] at hrun
    refine lv_iload_n (pc := 4) hx hb dX4_apart_4 rfl (lv_at hl 2 rfl) ?_
    refine V_aload_n (pc := 5) hx hb dX4_apart_5 rfl (lv_at hl 0 rfl) ?_
    obtain ⟨c3, hrun⟩ := gd_some hrun
    refine V_getR (pc := 6) C hH fr_X4_30 dX4_apart_6 c3 rfl ?_
    obtain ⟨c6, hrun⟩ := gd_some hrun
    refine V_bd (pc := 9) C hL rfl hrun (fun rr1 e1 => Z_runV (rest := [.int x3]) C hH (m_J2_size hl9 e1) wV_X4_94 c6 rfl (by decide) rfl rfl ⟨by decide, by decide⟩ rfl (Nat.le_of_ble_eq_true rfl) hl.1 dX4_apart_9) (fun v4 h5 H locs cells slots hH hL hrun => ?_)
    refine lv_icmp_ge (tgt := 74) (pc := 12) hx hb dX4_apart_12 (by decide) (fun c_ => ?_) (fun c_ => ?_)
    · have hrun := ite_t hrun c_
      refine lv_lload_n (pc := 74) hx hb dX4_apart_74 rfl (lv_at hl 1 rfl) ?_
      exact V_lret (pc := 75) C hH hL hrun dX4_apart_75
    · have hrun := ite_f hrun c_
      refine V_aload_n (pc := 15) hx hb dX4_apart_15 rfl (lv_at hl 0 rfl) ?_
      obtain ⟨c7, hrun⟩ := gd_some hrun
      refine V_getR (pc := 16) C hH fr_X4_30 dX4_apart_16 c7 rfl ?_
      refine lv_iload_n (pc := 19) hx hb dX4_apart_19 rfl (lv_at hl 2 rfl) ?_
      obtain ⟨c10, hrun⟩ := gd_some hrun
      refine V_bd (pc := 20) C hL rfl hrun (fun rr1 e1 => Z_runV (rest := []) C hH (m_J2_get hl9 e1) wV_X4_108 c10 rfl (by decide) rfl rfl ⟨by decide, by decide⟩ rfl (Nat.le_of_ble_eq_true rfl) hl.1 dX4_apart_20) (fun v8 h9 H locs cells slots hH hL hrun => ?_)
      obtain ⟨c11, hrun⟩ := gd_some hrun
      refine V_castX (pc := 23) (ci := 12) C hH rfl (by decide) q1955 dX4_apart_23 c11 ?_
      refine V_astore (i := 4) (lv' := [(4, rv v8), (0, rv x0), (1, .long x1), (3, .int x3)]) (pc := 26) hx hb dX4_apart_26 hl (by decide) rfl (fun ls hl => ?_)
      refine lv_lload_n (pc := 28) hx hb dX4_apart_28 rfl (lv_at hl 2 rfl) ?_
      refine V_aload (pc := 29) hx hb dX4_apart_29 (lv_at hl 0 rfl) ?_
      obtain ⟨c12, hrun⟩ := gd_some hrun
      refine V_getI (pc := 31) C hH fr_X4_126 dX4_apart_31 c12 rfl ?_
      refine lv_if_ne (tgt := 65) (pc := 34) hx hb dX4_apart_34 (by decide) (fun c_ => ?_) (fun c_ => ?_)
      · have hrun := ite_f hrun c_
        refine lv_lconst (v := (0 : Int64)) (pc := 65) hx hb dX4_apart_65 (by decide) ?_
        exact b_X4_apart_66 C ih x0 x3 x1 (0 : Int64) h9 H locs cells slots ls hH hL (lv_sub hl [1, 3] rfl) hrun
      · have hrun := ite_t hrun c_
        refine V_aload_n (pc := 37) hx hb dX4_apart_37 rfl (lv_at hl 1 rfl) ?_
        refine V_aload (pc := 38) hx hb dX4_apart_38 (lv_at hl 0 rfl) ?_
        obtain ⟨c15, hrun⟩ := gd_some hrun
        refine V_bd (pc := 40) C hL rfl hrun (fun rr1 e1 => Z_runV (rest := [.long x1]) C hH (m_X4_value hl9 e1) wV_X4_402 c15 rfl (by decide) rfl rfl ⟨by decide, by decide⟩ rfl (Nat.le_of_ble_eq_true rfl) hl.1 dX4_apart_40) (fun v13 h14 H locs cells slots hH hL hrun => ?_)
        refine V_aload_n (pc := 43) hx hb dX4_apart_43 rfl (lv_at hl 1 rfl) ?_
        obtain ⟨c16, hrun⟩ := gd_some hrun
        refine V_getI (pc := 44) C hH fr_X4_73 dX4_apart_44 c16 rfl ?_
        refine lv_i2l (pc := 47) hx hb dX4_apart_47 rfl ?_
        refine lv_lmul (pc := 48) hx hb dX4_apart_48 ?_
        refine lv_ldc2 (pc := 49) hx hb hown (hts _ q2205) dX4_apart_49 ?_
        refine lv_ldiv (pc := 52) hx hb dX4_apart_52 (by decide) ?_
        refine V_aload (pc := 53) hx hb dX4_apart_53 (lv_at hl 0 rfl) ?_
        obtain ⟨c17, hrun⟩ := gd_some hrun
        refine V_getL (pc := 55) C hH fr_X4_406 dX4_apart_55 c17 rfl ?_
        refine lv_lsub (pc := 58) hx hb dX4_apart_58 ?_
        refine V_bd (pc := 59) C hL rfl hrun (fun rr1 e1 => Z_runS (rest := [.long x1]) C hH (m_J10_abs hl9 e1) wS_X4_475 rfl ⟨by decide, by decide⟩ rfl (Nat.le_of_ble_eq_true rfl) hl.1 dX4_apart_59) (fun v18 h19 H locs cells slots hH hL hrun => ?_)
        refine lv_goto (tgt := 66) (pc := 62) hx hb dX4_apart_62 (by decide) ?_
        exact b_X4_apart_66 C ih x0 x3 x1 v18 h19 H locs cells slots ls hH hL (lv_sub hl [1, 3] rfl) hrun

theorem b_X4_apart {rr : (Int64 ⊕ Ex) × Hp}  (C : CX p l R s m args meth c D Hs cX4_apart "MassclaimModel" 5 (some .long) [] 4 72)  : ∀ (x0 : Nat) (h : Hp) (H : Heap) (locs : List Loc) (cells slots : Nat) (ls : Array Slot), HP D Hs h H → LO Hs locs → lv_has ls 5 [(0, rv x0)] → f_X4_apart x0 h = some rr → W p l e R s m args below meth c H locs cells slots (ZM D Hs iL rr below args s) (F0 m 0 ls []) := by
  obtain ⟨⟨hx, hb, hml, hown, hts⟩, -⟩ := id C
  have hl9 := C.2.1.2.2.1
  intro x0 h H locs cells slots ls hH hL hl hrun
  unfold f_X4_apart at hrun
  refine lv_lconst (v := (0 : Int64)) (pc := 0) hx hb dX4_apart_0 (by decide) ?_
  refine lv_lstore_n (i := 1) (lv' := [(1, .long (0 : Int64)), (0, rv x0)]) (pc := 1) hx hb dX4_apart_1 rfl hl (by decide) (by simp [rv_cat, cat_i, cat_l, cat_f, cat_d]) (fun ls hl => ?_)
  refine lv_iconst (v := (0 : Int32)) (pc := 2) hx hb dX4_apart_2 (by decide) ?_
  refine lv_istore_n (i := 3) (lv' := [(3, .int (0 : Int32)), (1, .long (0 : Int64)), (0, rv x0)]) (pc := 3) hx hb dX4_apart_3 rfl hl (by decide) rfl (fun ls hl => ?_)
  exact b_X4_apart_4 C FU x0 (0 : Int64) (0 : Int32) h H locs cells slots ls hH hL (lv_sub hl [2, 1, 0] rfl) hrun

theorem m_X4_apart {l : Launch} {D : va_G} {Hs : Heap} {h : Hp} {rr : (Int64 ⊕ Ex) × Hp} (hl9 : l.stackTraces = false) {x0 : Nat} (hrun : f_X4_apart x0 h = some rr) : CM l yX4_apart (ws_ yX4_apart cX4_apart 5 (some .long)) 4 72 iL [rv x0] D Hs h rr := by
  refine CM.of (lv := [(0, rv x0)]) (plainFor_of_name (by decide)) hl9 (by simp [lv_args, rv_cat, cat_i, cat_l, cat_f, cat_d]) (by simp [lg_sl, rv_cat, cat_i, cat_l, cat_f, cat_d]) ?_
  intro p e R s m args below meth c H ls C hH hl hin
  exact b_X4_apart C x0 _ H [] _ _ ls hH (fun _ q => nomatch q) (lv_sub hl [0] rfl) hrun

/-! MassclaimModel.fundAt(I)J -/
def f_X4_fundAt_100  : Nat → Nat → Int64 → Int32 → Hp → Rt Int64
  | 0, _, _, _, _ => none
  | n + 1, x0, x2, x4, h => if (6 : Int32) ≤ x4 then
  (some (.inl x2, h))
  else
  (gd (kC h x0 = 4) <| gd (kC h (kR h 325 x0) = 102 ∧ ixo x4 (kN h (kR h 325 x0))) <| vl (x2 + (jL h (kR h 325 x0) (x4).toNatClampNeg)) fun v3 => vl (x4 + (1 : Int32)) fun v4 => f_X4_fundAt_100 n x0 v3 v4 h)
def f_X4_fundAt  (x0 : Nat) (x1 : Int32) (h : Hp) : Rt Int64 :=
  bd (f_X4_isWithin (x1.toInt64) (0 : Int64) (11 : Int64) h) fun v5 h6 => gd (kC h6 x0 = 4) <| bd (f_X4_isGood x0 v5 (1 : Int32) h6) fun v7 h8 => if v7 = 0 then
  (some (.inl (0 : Int64), h8))
  else
  (if x1 = (0 : Int32) then
  (gd (kC h8 x0 = 4) <| some (.inl (kL h8 322 x0), h8))
  else
  if x1 = (1 : Int32) then
  (gd (kC h8 x0 = 4) <| some (.inl (kL h8 323 x0), h8))
  else
  if x1 = (2 : Int32) then
  (gd (kC h8 x0 = 4) <| some (.inl (kL h8 324 x0), h8))
  else
  if x1 = (3 : Int32) then
  (f_X4_fundAt_100 FU x0 (0 : Int64) (0 : Int32) h8)
  else
  if x1 = (4 : Int32) then
  (gd (kC h8 x0 = 4) <| some (.inl (kL h8 326 x0), h8))
  else
  if x1 = (5 : Int32) then
  (gd (kC h8 x0 = 4) <| bd (f_X4_delivered x0 h8) fun v14 h15 => some (.inl v14, h15))
  else
  if x1 = (6 : Int32) then
  (gd (kC h8 x0 = 4) <| bd (f_X4_lies x0 h8) fun v17 h18 => some (.inl v17, h18))
  else
  if x1 = (7 : Int32) then
  (gd (kC h8 x0 = 4) <| some (.inl (kL h8 327 x0), h8))
  else
  if x1 = (8 : Int32) then
  (gd (kC h8 x0 = 4) <| some (.inl (kL h8 328 x0), h8))
  else
  if x1 = (9 : Int32) then
  (gd (kC h8 x0 = 4) <| bd (f_X4_allDue x0 (kI h8 319 x0) h8) fun v23 h24 => some (.inl v23, h24))
  else
  if x1 = (10 : Int32) then
  (gd (kC h8 x0 = 4) <| bd (f_X4_reserve x0 (kI h8 319 x0) h8) fun v26 h27 => some (.inl v26, h27))
  else
  (gd (kC h8 x0 = 4) <| bd (f_X4_apart x0 h8) fun v28 h29 => some (.inl v28, h29)))
theorem b_X4_fundAt_100 {rr : (Int64 ⊕ Ex) × Hp}  (C : CX p l R s m args meth c D Hs cX4_fundAt "MassclaimModel" 5 (some .long) [] 6 118)  : ∀ (n : Nat) (x0 : Nat) (x2 : Int64) (x4 : Int32) (h : Hp) (H : Heap) (locs : List Loc) (cells slots : Nat) (ls : Array Slot), HP D Hs h H → LO Hs locs → lv_has ls 5 [(0, rv x0), (2, .long x2), (4, .int x4)] → f_X4_fundAt_100 n x0 x2 x4 h = some rr → W p l e R s m args below meth c H locs cells slots (ZM D Hs iL rr below args s) (F0 m 100 ls []) := by
  obtain ⟨⟨hx, hb, hml, hown, hts⟩, -⟩ := id C
  have hl9 := C.2.1.2.2.1
  intro n
  induction n with
  | zero =>
    intro x0 x2 x4 h H locs cells slots ls hH hL hl hrun
    cases (show (none : Option _) = some rr from hrun)
  | succ n ih =>
    intro x0 x2 x4 h H locs cells slots ls hH hL hl hrun
    rw [f_X4_fundAt_100] at hrun
    refine lv_iload (pc := 100) hx hb dX4_fundAt_100 (lv_at hl 2 rfl) ?_
    refine lv_bipush (v := (6 : Int32)) (pc := 102) hx hb dX4_fundAt_102 (by decide) ?_
    refine lv_icmp_ge (tgt := 123) (pc := 104) hx hb dX4_fundAt_104 (by decide) (fun c_ => ?_) (fun c_ => ?_)
    · have hrun := ite_t hrun c_
      refine lv_lload_n (pc := 123) hx hb dX4_fundAt_123 rfl (lv_at hl 1 rfl) ?_
      exact V_lret (pc := 124) C hH hL hrun dX4_fundAt_124
    · have hrun := ite_f hrun c_
      refine lv_lload_n (pc := 107) hx hb dX4_fundAt_107 rfl (lv_at hl 1 rfl) ?_
      refine V_aload_n (pc := 108) hx hb dX4_fundAt_108 rfl (lv_at hl 0 rfl) ?_
      obtain ⟨c1, hrun⟩ := gd_some hrun
      refine V_getR (pc := 109) C hH fr_X4_36 dX4_fundAt_109 c1 rfl ?_
      refine lv_iload (pc := 112) hx hb dX4_fundAt_112 (lv_at hl 2 rfl) ?_
      obtain ⟨c2, hrun⟩ := gd_some hrun
      refine V_lald (pc := 114) C hH dX4_fundAt_114 c2 ?_
      refine lv_ladd (pc := 115) hx hb dX4_fundAt_115 ?_
      refine lv_topl (fun v3 ev3 => ?_)
      have hrun := vl_at hrun v3 ev3
      refine lv_lstore_n (i := 2) (lv' := [(2, .long v3), (0, rv x0), (4, .int x4)]) (pc := 116) hx hb dX4_fundAt_116 rfl hl (by decide) rfl (fun ls hl => ?_)
      obtain ⟨v4, ev4⟩ : ∃ y : Int32, y = x4 + (1 : Int32) := ⟨_, rfl⟩
      have hrun := vl_at hrun v4 ev4
      refine lv_iinc (v := v4) (lv' := [(4, .int v4), (2, .long v3), (0, rv x0)]) (pc := 117) hx hb dX4_fundAt_117 hl (k := 2) rfl (by rw [ev4]; rfl) (by decide) (by first | rfl | simp [rv_cat, cat_i, cat_l, cat_f, cat_d]) (fun ls hl => ?_)
      refine lv_goto (tgt := 100) (pc := 120) hx hb dX4_fundAt_120 (by decide) ?_
      exact ih x0 v3 v4 h H locs cells slots ls hH hL (lv_sub hl [2, 1, 0] rfl) hrun

theorem b_X4_fundAt {rr : (Int64 ⊕ Ex) × Hp}  (C : CX p l R s m args meth c D Hs cX4_fundAt "MassclaimModel" 5 (some .long) [] 6 118)  : ∀ (x0 : Nat) (x1 : Int32) (h : Hp) (H : Heap) (locs : List Loc) (cells slots : Nat) (ls : Array Slot), HP D Hs h H → LO Hs locs → lv_has ls 5 [(0, rv x0), (1, .int x1)] → f_X4_fundAt x0 x1 h = some rr → W p l e R s m args below meth c H locs cells slots (ZM D Hs iL rr below args s) (F0 m 0 ls []) := by
  obtain ⟨⟨hx, hb, hml, hown, hts⟩, -⟩ := id C
  have hl9 := C.2.1.2.2.1
  intro x0 x1 h H locs cells slots ls hH hL hl hrun
  unfold f_X4_fundAt at hrun
  refine V_aload_n (pc := 0) hx hb dX4_fundAt_0 rfl (lv_at hl 0 rfl) ?_
  refine lv_iload_n (pc := 1) hx hb dX4_fundAt_1 rfl (lv_at hl 1 rfl) ?_
  refine lv_i2l (pc := 2) hx hb dX4_fundAt_2 rfl ?_
  refine lv_lconst (v := (0 : Int64)) (pc := 3) hx hb dX4_fundAt_3 (by decide) ?_
  refine lv_ldc2 (pc := 4) hx hb hown (hts _ q2506) dX4_fundAt_4 ?_
  refine V_bd (pc := 7) C hL rfl hrun (fun rr1 e1 => Z_runS (rest := [rv x0]) C hH (m_X4_isWithin hl9 e1) wS_X4_100 rfl ⟨by decide, by decide⟩ rfl (by simp [csum, rv_cat, cat_i, cat_l, cat_f, cat_d]) hl.1 dX4_fundAt_7) (fun v5 h6 H locs cells slots hH hL hrun => ?_)
  refine lv_iconst (v := (1 : Int32)) (pc := 10) hx hb dX4_fundAt_10 (by decide) ?_
  obtain ⟨c9, hrun⟩ := gd_some hrun
  refine V_bd (pc := 11) C hL rfl hrun (fun rr1 e1 => Z_runV (rest := []) C hH (m_X4_isGood hl9 e1) wV_X4_104 c9 rfl (by decide) rfl rfl ⟨by decide, by decide⟩ rfl (Nat.le_of_ble_eq_true rfl) hl.1 dX4_fundAt_11) (fun v7 h8 H locs cells slots hH hL hrun => ?_)
  refine lv_if_ne (tgt := 19) (pc := 14) hx hb dX4_fundAt_14 (by decide) (fun c_ => ?_) (fun c_ => ?_)
  · have hrun := ite_f hrun c_
    refine lv_iload_n (pc := 19) hx hb dX4_fundAt_19 rfl (lv_at hl 1 rfl) ?_
    by_cases n0 : x1 = (0 : Int32)
    · have hrun := ite_t hrun n0
      refine lv_tableIn (pc := 20) (off := 60) (tgt := 80) hx hb dX4_fundAt_20 (by rw [n0]; decide) (by rw [n0]; decide) (by rw [n0]; decide) (by decide) ?_
      refine V_aload_n (pc := 80) hx hb dX4_fundAt_80 rfl (lv_at hl 0 rfl) ?_
      obtain ⟨c10, hrun⟩ := gd_some hrun
      refine V_getL (pc := 81) C hH fr_X4_76 dX4_fundAt_81 c10 rfl ?_
      exact V_lret (pc := 84) C hH hL hrun dX4_fundAt_84
    have hrun := ite_f hrun n0
    by_cases n1 : x1 = (1 : Int32)
    · have hrun := ite_t hrun n1
      refine lv_tableIn (pc := 20) (off := 65) (tgt := 85) hx hb dX4_fundAt_20 (by rw [n1]; decide) (by rw [n1]; decide) (by rw [n1]; decide) (by decide) ?_
      refine V_aload_n (pc := 85) hx hb dX4_fundAt_85 rfl (lv_at hl 0 rfl) ?_
      obtain ⟨c11, hrun⟩ := gd_some hrun
      refine V_getL (pc := 86) C hH fr_X4_79 dX4_fundAt_86 c11 rfl ?_
      exact V_lret (pc := 89) C hH hL hrun dX4_fundAt_89
    have hrun := ite_f hrun n1
    by_cases n2 : x1 = (2 : Int32)
    · have hrun := ite_t hrun n2
      refine lv_tableIn (pc := 20) (off := 70) (tgt := 90) hx hb dX4_fundAt_20 (by rw [n2]; decide) (by rw [n2]; decide) (by rw [n2]; decide) (by decide) ?_
      refine V_aload_n (pc := 90) hx hb dX4_fundAt_90 rfl (lv_at hl 0 rfl) ?_
      obtain ⟨c12, hrun⟩ := gd_some hrun
      refine V_getL (pc := 91) C hH fr_X4_82 dX4_fundAt_91 c12 rfl ?_
      exact V_lret (pc := 94) C hH hL hrun dX4_fundAt_94
    have hrun := ite_f hrun n2
    by_cases n3 : x1 = (3 : Int32)
    · have hrun := ite_t hrun n3
      refine lv_tableIn (pc := 20) (off := 75) (tgt := 95) hx hb dX4_fundAt_20 (by rw [n3]; decide) (by rw [n3]; decide) (by rw [n3]; decide) (by decide) ?_
      refine lv_lconst (v := (0 : Int64)) (pc := 95) hx hb dX4_fundAt_95 (by decide) ?_
      refine lv_lstore_n (i := 2) (lv' := [(2, .long (0 : Int64)), (0, rv x0), (1, .int x1)]) (pc := 96) hx hb dX4_fundAt_96 rfl hl (by decide) rfl (fun ls hl => ?_)
      refine lv_iconst (v := (0 : Int32)) (pc := 97) hx hb dX4_fundAt_97 (by decide) ?_
      refine lv_istore (i := 4) (lv' := [(4, .int (0 : Int32)), (2, .long (0 : Int64)), (0, rv x0), (1, .int x1)]) (pc := 98) hx hb dX4_fundAt_98 hl (by decide) rfl (fun ls hl => ?_)
      exact b_X4_fundAt_100 C FU x0 (0 : Int64) (0 : Int32) h8 H locs cells slots ls hH hL (lv_sub hl [2, 1, 0] rfl) hrun
    have hrun := ite_f hrun n3
    by_cases n4 : x1 = (4 : Int32)
    · have hrun := ite_t hrun n4
      refine lv_tableIn (pc := 20) (off := 105) (tgt := 125) hx hb dX4_fundAt_20 (by rw [n4]; decide) (by rw [n4]; decide) (by rw [n4]; decide) (by decide) ?_
      refine V_aload_n (pc := 125) hx hb dX4_fundAt_125 rfl (lv_at hl 0 rfl) ?_
      obtain ⟨c13, hrun⟩ := gd_some hrun
      refine V_getL (pc := 126) C hH fr_X4_85 dX4_fundAt_126 c13 rfl ?_
      exact V_lret (pc := 129) C hH hL hrun dX4_fundAt_129
    have hrun := ite_f hrun n4
    by_cases n5 : x1 = (5 : Int32)
    · have hrun := ite_t hrun n5
      refine lv_tableIn (pc := 20) (off := 110) (tgt := 130) hx hb dX4_fundAt_20 (by rw [n5]; decide) (by rw [n5]; decide) (by rw [n5]; decide) (by decide) ?_
      refine V_aload_n (pc := 130) hx hb dX4_fundAt_130 rfl (lv_at hl 0 rfl) ?_
      obtain ⟨c16, hrun⟩ := gd_some hrun
      refine V_bd (pc := 131) C hL rfl hrun (fun rr1 e1 => Z_runV (rest := []) C hH (m_X4_delivered hl9 e1) wV_X4_467 c16 rfl (by decide) rfl rfl ⟨by decide, by decide⟩ rfl (Nat.le_of_ble_eq_true rfl) hl.1 dX4_fundAt_131) (fun v14 h15 H locs cells slots hH hL hrun => ?_)
      exact V_lret (pc := 134) C hH hL hrun dX4_fundAt_134
    have hrun := ite_f hrun n5
    by_cases n6 : x1 = (6 : Int32)
    · have hrun := ite_t hrun n6
      refine lv_tableIn (pc := 20) (off := 115) (tgt := 135) hx hb dX4_fundAt_20 (by rw [n6]; decide) (by rw [n6]; decide) (by rw [n6]; decide) (by decide) ?_
      refine V_aload_n (pc := 135) hx hb dX4_fundAt_135 rfl (lv_at hl 0 rfl) ?_
      obtain ⟨c19, hrun⟩ := gd_some hrun
      refine V_bd (pc := 136) C hL rfl hrun (fun rr1 e1 => Z_runV (rest := []) C hH (m_X4_lies hl9 e1) wV_X4_469 c19 rfl (by decide) rfl rfl ⟨by decide, by decide⟩ rfl (Nat.le_of_ble_eq_true rfl) hl.1 dX4_fundAt_136) (fun v17 h18 H locs cells slots hH hL hrun => ?_)
      exact V_lret (pc := 139) C hH hL hrun dX4_fundAt_139
    have hrun := ite_f hrun n6
    by_cases n7 : x1 = (7 : Int32)
    · have hrun := ite_t hrun n7
      refine lv_tableIn (pc := 20) (off := 120) (tgt := 140) hx hb dX4_fundAt_20 (by rw [n7]; decide) (by rw [n7]; decide) (by rw [n7]; decide) (by decide) ?_
      refine V_aload_n (pc := 140) hx hb dX4_fundAt_140 rfl (lv_at hl 0 rfl) ?_
      obtain ⟨c20, hrun⟩ := gd_some hrun
      refine V_getL (pc := 141) C hH fr_X4_88 dX4_fundAt_141 c20 rfl ?_
      exact V_lret (pc := 144) C hH hL hrun dX4_fundAt_144
    have hrun := ite_f hrun n7
    by_cases n8 : x1 = (8 : Int32)
    · have hrun := ite_t hrun n8
      refine lv_tableIn (pc := 20) (off := 125) (tgt := 145) hx hb dX4_fundAt_20 (by rw [n8]; decide) (by rw [n8]; decide) (by rw [n8]; decide) (by decide) ?_
      refine V_aload_n (pc := 145) hx hb dX4_fundAt_145 rfl (lv_at hl 0 rfl) ?_
      obtain ⟨c21, hrun⟩ := gd_some hrun
      refine V_getL (pc := 146) C hH fr_X4_91 dX4_fundAt_146 c21 rfl ?_
      exact V_lret (pc := 149) C hH hL hrun dX4_fundAt_149
    have hrun := ite_f hrun n8
    by_cases n9 : x1 = (9 : Int32)
    · have hrun := ite_t hrun n9
      refine lv_tableIn (pc := 20) (off := 130) (tgt := 150) hx hb dX4_fundAt_20 (by rw [n9]; decide) (by rw [n9]; decide) (by rw [n9]; decide) (by decide) ?_
      refine V_aload_n (pc := 150) hx hb dX4_fundAt_150 rfl (lv_at hl 0 rfl) ?_
      refine V_aload_n (pc := 151) hx hb dX4_fundAt_151 rfl (lv_at hl 0 rfl) ?_
      obtain ⟨c22, hrun⟩ := gd_some hrun
      refine V_getI (pc := 152) C hH fr_X4_73 dX4_fundAt_152 c22 rfl ?_
      refine V_bd (pc := 155) C hL rfl hrun (fun rr1 e1 => Z_runV (rest := []) C hH (m_X4_allDue hl9 e1) wV_X4_429 c22 rfl (by decide) rfl rfl ⟨by decide, by decide⟩ rfl (Nat.le_of_ble_eq_true rfl) hl.1 dX4_fundAt_155) (fun v23 h24 H locs cells slots hH hL hrun => ?_)
      exact V_lret (pc := 158) C hH hL hrun dX4_fundAt_158
    have hrun := ite_f hrun n9
    by_cases n10 : x1 = (10 : Int32)
    · have hrun := ite_t hrun n10
      refine lv_tableIn (pc := 20) (off := 139) (tgt := 159) hx hb dX4_fundAt_20 (by rw [n10]; decide) (by rw [n10]; decide) (by rw [n10]; decide) (by decide) ?_
      refine V_aload_n (pc := 159) hx hb dX4_fundAt_159 rfl (lv_at hl 0 rfl) ?_
      refine V_aload_n (pc := 160) hx hb dX4_fundAt_160 rfl (lv_at hl 0 rfl) ?_
      obtain ⟨c25, hrun⟩ := gd_some hrun
      refine V_getI (pc := 161) C hH fr_X4_73 dX4_fundAt_161 c25 rfl ?_
      refine V_bd (pc := 164) C hL rfl hrun (fun rr1 e1 => Z_runV (rest := []) C hH (m_X4_reserve hl9 e1) wV_X4_433 c25 rfl (by decide) rfl rfl ⟨by decide, by decide⟩ rfl (Nat.le_of_ble_eq_true rfl) hl.1 dX4_fundAt_164) (fun v26 h27 H locs cells slots hH hL hrun => ?_)
      exact V_lret (pc := 167) C hH hL hrun dX4_fundAt_167
    have hrun := ite_f hrun n10
    refine lv_tableOut (pc := 20) (tgt := 168) hx hb dX4_fundAt_20 (sw_out [0, 1, 2, 3, 4, 5, 6, 7, 8, 9, 10] (by decide) (by decide) ⟨by decide, by decide⟩ (List.forall_mem_cons.mpr ⟨sw_ne (v := (0 : Int32)) (by decide) n0, (List.forall_mem_cons.mpr ⟨sw_ne (v := (1 : Int32)) (by decide) n1, (List.forall_mem_cons.mpr ⟨sw_ne (v := (2 : Int32)) (by decide) n2, (List.forall_mem_cons.mpr ⟨sw_ne (v := (3 : Int32)) (by decide) n3, (List.forall_mem_cons.mpr ⟨sw_ne (v := (4 : Int32)) (by decide) n4, (List.forall_mem_cons.mpr ⟨sw_ne (v := (5 : Int32)) (by decide) n5, (List.forall_mem_cons.mpr ⟨sw_ne (v := (6 : Int32)) (by decide) n6, (List.forall_mem_cons.mpr ⟨sw_ne (v := (7 : Int32)) (by decide) n7, (List.forall_mem_cons.mpr ⟨sw_ne (v := (8 : Int32)) (by decide) n8, (List.forall_mem_cons.mpr ⟨sw_ne (v := (9 : Int32)) (by decide) n9, (List.forall_mem_cons.mpr ⟨sw_ne (v := (10 : Int32)) (by decide) n10, (fun _ z => nomatch z)⟩)⟩)⟩)⟩)⟩)⟩)⟩)⟩)⟩)⟩)⟩)) (by decide) ?_
    refine V_aload_n (pc := 168) hx hb dX4_fundAt_168 rfl (lv_at hl 0 rfl) ?_
    obtain ⟨c30, hrun⟩ := gd_some hrun
    refine V_bd (pc := 169) C hL rfl hrun (fun rr1 e1 => Z_runV (rest := []) C hH (m_X4_apart hl9 e1) wV_X4_472 c30 rfl (by decide) rfl rfl ⟨by decide, by decide⟩ rfl (Nat.le_of_ble_eq_true rfl) hl.1 dX4_fundAt_169) (fun v28 h29 H locs cells slots hH hL hrun => ?_)
    exact V_lret (pc := 172) C hH hL hrun dX4_fundAt_172
  · have hrun := ite_t hrun c_
    refine lv_lconst (v := (0 : Int64)) (pc := 17) hx hb dX4_fundAt_17 (by decide) ?_
    exact V_lret (pc := 18) C hH hL hrun dX4_fundAt_18

theorem m_X4_fundAt {l : Launch} {D : va_G} {Hs : Heap} {h : Hp} {rr : (Int64 ⊕ Ex) × Hp} (hl9 : l.stackTraces = false) {x0 : Nat} {x1 : Int32} (hrun : f_X4_fundAt x0 x1 h = some rr) : CM l yX4_fundAt (ws_ yX4_fundAt cX4_fundAt 5 (some .long)) 6 118 iL [rv x0, .int x1] D Hs h rr := by
  refine CM.of (lv := [(0, rv x0), (1, .int x1)]) (plainFor_of_name (by decide)) hl9 (by simp [lv_args, rv_cat, cat_i, cat_l, cat_f, cat_d]) (by simp [lg_sl, rv_cat, cat_i, cat_l, cat_f, cat_d]) ?_
  intro p e R s m args below meth c H ls C hH hl hin
  exact b_X4_fundAt C x0 x1 _ H [] _ _ ls hH (fun _ q => nomatch q) (lv_sub hl [0, 1] rfl) hrun

/-! Massclaim.lawyerAt(I)J -/
def f_X1_lawyerAt  (x0 : Nat) (x1 : Int32) (h : Hp) : Rt Int64 :=
  bd (f_X1_isLawyer x1 h) fun v1 h2 => bd (f_X1_requireArgument v1 h2) fun _ h4 => gd (kC h4 x0 = 1) <| gd (kC h4 (kR h4 8 x0) = 3) <| gd (kC h4 (kR h4 201 (kR h4 8 x0)) = 102 ∧ ixo x1 (kN h4 (kR h4 201 (kR h4 8 x0)))) <| some (.inl (jL h4 (kR h4 201 (kR h4 8 x0)) (x1).toNatClampNeg), h4)
theorem b_X1_lawyerAt {rr : (Int64 ⊕ Ex) × Hp}  (C : CX p l R s m args meth c D Hs cX1_lawyerAt "Massclaim" 2 (some .long) [] 7 110)  : ∀ (x0 : Nat) (x1 : Int32) (h : Hp) (H : Heap) (locs : List Loc) (cells slots : Nat) (ls : Array Slot), HP D Hs h H → LO Hs locs → lv_has ls 2 [(0, rv x0), (1, .int x1)] → f_X1_lawyerAt x0 x1 h = some rr → W p l e R s m args below meth c H locs cells slots (ZM D Hs iL rr below args s) (F0 m 0 ls []) := by
  obtain ⟨⟨hx, hb, hml, hown, hts⟩, -⟩ := id C
  have hl9 := C.2.1.2.2.1
  intro x0 x1 h H locs cells slots ls hH hL hl hrun
  unfold f_X1_lawyerAt at hrun
  refine lv_iload_n (pc := 0) hx hb dX1_lawyerAt_0 rfl (lv_at hl 1 rfl) ?_
  refine V_bd (pc := 1) C hL rfl hrun (fun rr1 e1 => Z_runS (rest := []) C hH (m_X1_isLawyer hl9 e1) wS_X1_418 rfl ⟨by decide, by decide⟩ rfl (Nat.le_of_ble_eq_true rfl) hl.1 dX1_lawyerAt_1) (fun v1 h2 H locs cells slots hH hL hrun => ?_)
  refine V_bd (pc := 4) C hL rfl hrun (fun rr1 e1 => Z_runS (rest := []) C hH (m_X1_requireArgument hl9 e1) wS_X1_131 rfl ⟨by decide, by decide⟩ rfl (Nat.le_of_ble_eq_true rfl) hl.1 dX1_lawyerAt_4) (fun _ h4 H locs cells slots hH hL hrun => ?_)
  refine V_aload_n (pc := 7) hx hb dX1_lawyerAt_7 rfl (lv_at hl 0 rfl) ?_
  obtain ⟨c5, hrun⟩ := gd_some hrun
  refine V_getR (pc := 8) C hH fr_X1_74 dX1_lawyerAt_8 c5 rfl ?_
  obtain ⟨c6, hrun⟩ := gd_some hrun
  refine V_getNR (pc := 11) C hH fn_X1_520 dX1_lawyerAt_11 c6 rfl ?_
  refine lv_iload_n (pc := 14) hx hb dX1_lawyerAt_14 rfl (lv_at hl 1 rfl) ?_
  obtain ⟨c7, hrun⟩ := gd_some hrun
  refine V_lald (pc := 15) C hH dX1_lawyerAt_15 c7 ?_
  exact V_lret (pc := 16) C hH hL hrun dX1_lawyerAt_16

theorem m_X1_lawyerAt {l : Launch} {D : va_G} {Hs : Heap} {h : Hp} {rr : (Int64 ⊕ Ex) × Hp} (hl9 : l.stackTraces = false) {x0 : Nat} {x1 : Int32} (hrun : f_X1_lawyerAt x0 x1 h = some rr) : CM l yX1_lawyerAt (ws_ yX1_lawyerAt cX1_lawyerAt 2 (some .long)) 7 110 iL [rv x0, .int x1] D Hs h rr := by
  refine CM.of (lv := [(0, rv x0), (1, .int x1)]) (plainFor_of_name (by decide)) hl9 (by simp [lv_args, rv_cat, cat_i, cat_l, cat_f, cat_d]) (by simp [lg_sl, rv_cat, cat_i, cat_l, cat_f, cat_d]) ?_
  intro p e R s m args below meth c H ls C hH hl hin
  exact b_X1_lawyerAt C x0 x1 _ H [] _ _ ls hH (fun _ q => nomatch q) (lv_sub hl [0, 1] rfl) hrun

/-! MassclaimLaw.lawyerAt(LMassclaim;I[J)I -/
def f_X0_lawyerAt_11  (y0 : Nat) (h : Hp) : Rt Int32 :=
  some (.inl (1 : Int32), h)
def f_X0_lawyerAt  (x0 : Nat) (x1 : Int32) (x2 : Nat) (h : Hp) : Rt Int32 :=
  gd (kC h x0 = 1) <| bdH (f_X1_lawyerAt x0 x1 h)
  (fun v1 h2 => gd (kC h2 x2 = 102 ∧ ixo (0 : Int32) (kN h2 x2)) <| vl (tL h2 x2 ((0 : Int32)).toNatClampNeg v1) fun h5 => some (.inl (0 : Int32), h5))
  (fun ex6 h7 => if ex6.1 = 902 then
  (f_X0_lawyerAt_11 ex6.2 h7)
  else
  none)
theorem b_X0_lawyerAt_11 {rr : (Int32 ⊕ Ex) × Hp}  (C : CX p l R s m args meth c D Hs cX0_lawyerAt "MassclaimLaw" 4 (some .int) [(0, 8, 11, 13)] 8 131)  : ∀ (y0 : Nat) (h : Hp) (H : Heap) (locs : List Loc) (cells slots : Nat) (ls : Array Slot), HP D Hs h H → LO Hs locs → lv_has ls 4 [] → f_X0_lawyerAt_11 y0 h = some rr → W p l e R s m args below meth c H locs cells slots (ZM D Hs iI rr below args s) (F0 m 11 ls [rv y0]) := by
  obtain ⟨⟨hx, hb, hml, hown, hts⟩, -⟩ := id C
  have hl9 := C.2.1.2.2.1
  intro y0 h H locs cells slots ls hH hL hl hrun
  unfold f_X0_lawyerAt_11 at hrun
  refine V_astore_n (i := 3) (lv' := [(3, rv y0)]) (pc := 11) hx hb dX0_lawyerAt_11 rfl hl (by decide) rfl (fun ls hl => ?_)
  refine lv_iconst (v := (1 : Int32)) (pc := 12) hx hb dX0_lawyerAt_12 (by decide) ?_
  exact V_iret (pc := 13) C hH hL hrun dX0_lawyerAt_13

theorem b_X0_lawyerAt {rr : (Int32 ⊕ Ex) × Hp}  (C : CX p l R s m args meth c D Hs cX0_lawyerAt "MassclaimLaw" 4 (some .int) [(0, 8, 11, 13)] 8 131)  : ∀ (x0 : Nat) (x1 : Int32) (x2 : Nat) (h : Hp) (H : Heap) (locs : List Loc) (cells slots : Nat) (ls : Array Slot), HP D Hs h H → LO Hs locs → lv_has ls 4 [(0, rv x0), (1, .int x1), (2, rv x2)] → f_X0_lawyerAt x0 x1 x2 h = some rr → W p l e R s m args below meth c H locs cells slots (ZM D Hs iI rr below args s) (F0 m 0 ls []) := by
  obtain ⟨⟨hx, hb, hml, hown, hts⟩, -⟩ := id C
  have hl9 := C.2.1.2.2.1
  intro x0 x1 x2 h H locs cells slots ls hH hL hl hrun
  unfold f_X0_lawyerAt at hrun
  refine V_aload_n (pc := 0) hx hb dX0_lawyerAt_0 rfl (lv_at hl 2 rfl) ?_
  refine lv_iconst (v := (0 : Int32)) (pc := 1) hx hb dX0_lawyerAt_1 (by decide) ?_
  refine V_aload_n (pc := 2) hx hb dX0_lawyerAt_2 rfl (lv_at hl 0 rfl) ?_
  refine lv_iload_n (pc := 3) hx hb dX0_lawyerAt_3 rfl (lv_at hl 1 rfl) ?_
  obtain ⟨c3, hrun⟩ := gd_some hrun
  refine V_bdH (pc := 4) hL hrun (fun rr1 e1 => Z_runV (rest := [.int (0 : Int32), rv x2]) C hH (m_X1_lawyerAt hl9 e1) wV_X0_150 c3 rfl (by decide) rfl rfl ⟨by decide, by decide⟩ rfl (by simp [csum, rv_cat, cat_i, cat_l, cat_f, cat_d]) hl.1 dX0_lawyerAt_4) (fun v1 h2 H locs cells slots hH hL hrun => ?_) (fun x_ q_ ce_ h7 H locs cells slots hH hL hrun hc_ hv_ hcl_ => ?_)
  · obtain ⟨c4, hrun⟩ := gd_some hrun
    refine V_last (pc := 7) C hH hL dX0_lawyerAt_7 c4 hrun (fun h5 H locs hH hL hrun => ?_)
    refine lv_goto (tgt := 14) (pc := 8) hx hb dX0_lawyerAt_8 (by decide) ?_
    refine lv_iconst (v := (0 : Int32)) (pc := 14) hx hb dX0_lawyerAt_14 (by decide) ?_
    exact V_iret (pc := 15) C hH hL hrun dX0_lawyerAt_15
  · by_cases n902 : x_ = 902
    · subst n902
      have hrun := ite_t hrun rfl
      refine vx_catch (E := "java/lang/IllegalArgumentException") (name := "java/lang/IllegalArgumentException") hown (tableOf []) ⟨0, 8, 11, 13⟩ (tableOf []) (by rw [C.2.1.2.2.2.2]; rfl) (fun z hz => nomatch hz) (by decide) (by decide) (hts _ q449) (va_Nw.use rfl (C.2.1.2.2.2.1.2.1 _ q463 rfl)) hc_ hv_ hcl_ ?_
      exact b_X0_lawyerAt_11 C (q_ + 1) h7 H locs cells slots ls hH hL (lv_sub hl [] rfl) hrun
    have hrun := ite_f hrun n902
    cases hrun

theorem m_X0_lawyerAt {l : Launch} {D : va_G} {Hs : Heap} {h : Hp} {rr : (Int32 ⊕ Ex) × Hp} (hl9 : l.stackTraces = false) {x0 : Nat} {x1 : Int32} {x2 : Nat} (hrun : f_X0_lawyerAt x0 x1 x2 h = some rr) : CM l yX0_lawyerAt (wsW_ yX0_lawyerAt cX0_lawyerAt 4 (some .int) [(0, 8, 11, 13)]) 8 131 iI [rv x0, .int x1, rv x2] D Hs h rr := by
  refine CM.ofH (lv := [(0, rv x0), (1, .int x1), (2, rv x2)]) (plainFor_of_name (by decide)) hl9 (by simp [lv_args, rv_cat, cat_i, cat_l, cat_f, cat_d]) (by simp [lg_sl, rv_cat, cat_i, cat_l, cat_f, cat_d]) ?_
  intro p e R s m args below meth c H ls C hH hl hin
  exact b_X0_lawyerAt C x0 x1 x2 _ H [] _ _ ls hH (fun _ q => nomatch q) (lv_sub hl [0, 1, 2] rfl) hrun
end WK16

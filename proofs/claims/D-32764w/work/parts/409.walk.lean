section WK9
variable {p : Program} {l : Launch} {e : Env} {R : Room} {s : State} {m : MethodId} {args : Array Value} {below : List Frame} {meth : Method} {c : Code} {D : va_G} {Hs : Heap} {F X : Nat}
/-! Massclaim.approve()I -/
def f_X1_approve_56  (x1 : Nat) (y0 : Nat) (y1 : Int32) (h : Hp) : Rt Int32 :=
  gd (kC h y0 = 10) <| vl (sI h 903 y0 y1) fun h2 => gd (kC h2 x1 = 11) <| some (.inl (kI h2 1000 x1), h2)
def f_X1_approve_31  (x0 : Nat) (y0 : Nat) (h : Hp) : Rt Int32 :=
  gd (kC h x0 = 1) <| gd (kC h y0 = 11) <| if (kI h 1000 y0) = (-3 : Int32) then
  (f_X1_approve_56 y0 (kR h 9 x0) (4 : Int32) h)
  else
  (gd (kC h (kR h 9 x0) = 10) <| f_X1_approve_56 y0 (kR h 9 x0) (kI h 903 (kR h 9 x0)) h)
def f_X1_approve_103  (x0 : Nat) (h : Hp) : Rt Int32 :=
  gd (kC h x0 = 1) <| gd (kC h (kR h 9 x0) = 10) <| some (.inl (kI h 903 (kR h 9 x0)), h)
def f_X1_approve_21  (x0 : Nat) (y0 : Int32) (h : Hp) : Rt Int32 :=
  bd (f_X1_requireState y0 h) fun _ h10 => gd (kC h10 x0 = 1) <| bdH (f_X1_looksAtDeal x0 h10)
  (fun _ h12 => gd (kC h12 x0 = 1) <| gd (kC h12 (kR h12 9 x0) = 10) <| vl (sI h12 903 (kR h12 9 x0) ((kI h12 903 (kR h12 9 x0)) + (1 : Int32))) fun h16 => gd (kC h16 x0 = 1) <| gd (kC h16 (kR h16 9 x0) = 10) <| vl (sI h16 904 (kR h16 9 x0) (kI h16 18 x0)) fun h19 => gd (kC h19 x0 = 1) <| gd (kC h19 (kR h19 9 x0) = 10) <| if (kI h19 903 (kR h19 9 x0)) = (3 : Int32) then
  (bd (f_X1_becomesFinal x0 h19) fun _ h23 => f_X1_approve_103 x0 h23)
  else
  (f_X1_approve_103 x0 h19))
  (fun ex24 h25 => if ex24.1 = 11 then
  (f_X1_approve_31 x0 ex24.2 h25)
  else
  none)
def f_X1_approve_16  (x0 : Nat) (h : Hp) : Rt Int32 :=
  f_X1_approve_21 x0 (1 : Int32) h
def f_X1_approve  (x0 : Nat) (h : Hp) : Rt Int32 :=
  gd (kC h x0 = 1) <| bd (f_X1_stage x0 h) fun v26 h27 => if v26 = (1 : Int32) then
  (f_X1_approve_16 x0 h27)
  else
  (gd (kC h27 x0 = 1) <| bd (f_X1_stage x0 h27) fun v29 h30 => if v29 = (2 : Int32) then
  (f_X1_approve_16 x0 h30)
  else
  (f_X1_approve_21 x0 (0 : Int32) h30))
theorem b_X1_approve_56 {rr : (Int32 ⊕ Ex) × Hp}  (C : CX p l R s m args meth c D Hs cX1_approve "Massclaim" 2 (some .int) [(24, 28, 31, 29)] 23 562)  : ∀ (x1 : Nat) (y0 : Nat) (y1 : Int32) (h : Hp) (H : Heap) (locs : List Loc) (cells slots : Nat) (ls : Array Slot), HP D Hs h H → LO Hs locs → lv_has ls 2 [(1, rv x1)] → f_X1_approve_56 x1 y0 y1 h = some rr → W p l e R s m args below meth c H locs cells slots (ZM D Hs iI rr below args s) (F0 m 56 ls [.int y1, rv y0]) := by
  obtain ⟨⟨hx, hb, hml, hown, hts⟩, -⟩ := id C
  have hl9 := C.2.1.2.2.1
  intro x1 y0 y1 h H locs cells slots ls hH hL hl hrun
  unfold f_X1_approve_56 at hrun
  obtain ⟨c1, hrun⟩ := gd_some hrun
  refine V_putNI (pc := 56) C hH hL fn_X1_118 dX1_approve_56 c1 (fok_i _) rfl hrun (fun h2 H locs hH hL hrun => ?_)
  refine V_aload_n (pc := 59) hx hb dX1_approve_59 rfl (lv_at hl 0 rfl) ?_
  obtain ⟨c3, hrun⟩ := gd_some hrun
  refine V_getNI (pc := 60) C hH fn_X1_403 dX1_approve_60 c3 rfl ?_
  exact V_iret (pc := 63) C hH hL hrun dX1_approve_63

theorem b_X1_approve_31 {rr : (Int32 ⊕ Ex) × Hp}  (C : CX p l R s m args meth c D Hs cX1_approve "Massclaim" 2 (some .int) [(24, 28, 31, 29)] 23 562)  : ∀ (x0 : Nat) (y0 : Nat) (h : Hp) (H : Heap) (locs : List Loc) (cells slots : Nat) (ls : Array Slot), HP D Hs h H → LO Hs locs → lv_has ls 2 [(0, rv x0)] → f_X1_approve_31 x0 y0 h = some rr → W p l e R s m args below meth c H locs cells slots (ZM D Hs iI rr below args s) (F0 m 31 ls [rv y0]) := by
  obtain ⟨⟨hx, hb, hml, hown, hts⟩, -⟩ := id C
  have hl9 := C.2.1.2.2.1
  intro x0 y0 h H locs cells slots ls hH hL hl hrun
  unfold f_X1_approve_31 at hrun
  refine V_astore_n (i := 1) (lv' := [(1, rv y0), (0, rv x0)]) (pc := 31) hx hb dX1_approve_31 rfl hl (by decide) (by simp [rv_cat, cat_i, cat_l, cat_f, cat_d]) (fun ls hl => ?_)
  refine V_aload_n (pc := 32) hx hb dX1_approve_32 rfl (lv_at hl 1 rfl) ?_
  obtain ⟨c4, hrun⟩ := gd_some hrun
  refine V_getR (pc := 33) C hH fr_X1_84 dX1_approve_33 c4 rfl ?_
  refine V_aload_n (pc := 36) hx hb dX1_approve_36 rfl (lv_at hl 0 rfl) ?_
  obtain ⟨c5, hrun⟩ := gd_some hrun
  refine V_getNI (pc := 37) C hH fn_X1_403 dX1_approve_37 c5 rfl ?_
  refine lv_bipush (v := (-3 : Int32)) (pc := 40) hx hb dX1_approve_40 (by decide) ?_
  refine lv_icmp_ne (tgt := 49) (pc := 42) hx hb dX1_approve_42 (by decide) (fun c_ => ?_) (fun c_ => ?_)
  · have hrun := ite_f hrun c_
    refine V_aload_n (pc := 49) hx hb dX1_approve_49 rfl (lv_at hl 1 rfl) ?_
    refine V_getR (pc := 50) C hH fr_X1_84 dX1_approve_50 c4 rfl ?_
    obtain ⟨c6, hrun⟩ := gd_some hrun
    refine V_getNI (pc := 53) C hH fn_X1_118 dX1_approve_53 c6 rfl ?_
    exact b_X1_approve_56 C y0 (kR h 9 x0) (kI h 903 (kR h 9 x0)) h H locs cells slots ls hH hL (lv_sub hl [0] rfl) hrun
  · have hrun := ite_t hrun c_
    refine lv_iconst (v := (4 : Int32)) (pc := 45) hx hb dX1_approve_45 (by decide) ?_
    refine lv_goto (tgt := 56) (pc := 46) hx hb dX1_approve_46 (by decide) ?_
    exact b_X1_approve_56 C y0 (kR h 9 x0) (4 : Int32) h H locs cells slots ls hH hL (lv_sub hl [0] rfl) hrun

theorem b_X1_approve_103 {rr : (Int32 ⊕ Ex) × Hp}  (C : CX p l R s m args meth c D Hs cX1_approve "Massclaim" 2 (some .int) [(24, 28, 31, 29)] 23 562)  : ∀ (x0 : Nat) (h : Hp) (H : Heap) (locs : List Loc) (cells slots : Nat) (ls : Array Slot), HP D Hs h H → LO Hs locs → lv_has ls 2 [(0, rv x0)] → f_X1_approve_103 x0 h = some rr → W p l e R s m args below meth c H locs cells slots (ZM D Hs iI rr below args s) (F0 m 103 ls []) := by
  obtain ⟨⟨hx, hb, hml, hown, hts⟩, -⟩ := id C
  have hl9 := C.2.1.2.2.1
  intro x0 h H locs cells slots ls hH hL hl hrun
  unfold f_X1_approve_103 at hrun
  refine V_aload_n (pc := 103) hx hb dX1_approve_103 rfl (lv_at hl 0 rfl) ?_
  obtain ⟨c7, hrun⟩ := gd_some hrun
  refine V_getR (pc := 104) C hH fr_X1_84 dX1_approve_104 c7 rfl ?_
  obtain ⟨c8, hrun⟩ := gd_some hrun
  refine V_getNI (pc := 107) C hH fn_X1_118 dX1_approve_107 c8 rfl ?_
  exact V_iret (pc := 110) C hH hL hrun dX1_approve_110

theorem b_X1_approve_21 {rr : (Int32 ⊕ Ex) × Hp}  (C : CX p l R s m args meth c D Hs cX1_approve "Massclaim" 2 (some .int) [(24, 28, 31, 29)] 23 562)  : ∀ (x0 : Nat) (y0 : Int32) (h : Hp) (H : Heap) (locs : List Loc) (cells slots : Nat) (ls : Array Slot), HP D Hs h H → LO Hs locs → lv_has ls 2 [(0, rv x0)] → f_X1_approve_21 x0 y0 h = some rr → W p l e R s m args below meth c H locs cells slots (ZM D Hs iI rr below args s) (F0 m 21 ls [.int y0]) := by
  obtain ⟨⟨hx, hb, hml, hown, hts⟩, -⟩ := id C
  have hl9 := C.2.1.2.2.1
  intro x0 y0 h H locs cells slots ls hH hL hl hrun
  unfold f_X1_approve_21 at hrun
  refine V_bd (pc := 21) C hL (by decide) hrun (fun rr1 e1 => Z_runS (rest := []) C hH (m_X1_requireState hl9 e1) wS_X1_182 rfl ⟨by decide, by decide⟩ rfl (Nat.le_of_ble_eq_true rfl) hl.1 dX1_approve_21) (fun _ h10 H locs cells slots hH hL hrun => ?_)
  refine V_aload_n (pc := 24) hx hb dX1_approve_24 rfl (lv_at hl 0 rfl) ?_
  obtain ⟨c13, hrun⟩ := gd_some hrun
  refine V_bdH (pc := 25) hL hrun (fun rr1 e1 => Z_runV (rest := []) C hH (m_X1_looksAtDeal hl9 e1) wV_X1_400 c13 rfl (by decide) rfl rfl ⟨by decide, by decide⟩ rfl (Nat.le_of_ble_eq_true rfl) hl.1 dX1_approve_25) (fun _ h12 H locs cells slots hH hL hrun => ?_) (fun x_ q_ ce_ h25 H locs cells slots hH hL hrun hc_ hv_ hcl_ => ?_)
  · refine lv_goto (tgt := 64) (pc := 28) hx hb dX1_approve_28 (by decide) ?_
    refine V_aload_n (pc := 64) hx hb dX1_approve_64 rfl (lv_at hl 0 rfl) ?_
    obtain ⟨c14, hrun⟩ := gd_some hrun
    refine V_getR (pc := 65) C hH fr_X1_84 dX1_approve_65 c14 rfl ?_
    refine lv_dup (pc := 68) hx hb dX1_approve_68 (rv_cat _) ?_
    obtain ⟨c15, hrun⟩ := gd_some hrun
    refine V_getNI (pc := 69) C hH fn_X1_118 dX1_approve_69 c15 rfl ?_
    refine lv_iconst (v := (1 : Int32)) (pc := 72) hx hb dX1_approve_72 (by decide) ?_
    refine lv_iadd (pc := 73) hx hb dX1_approve_73 ?_
    refine V_putNI (pc := 74) C hH hL fn_X1_118 dX1_approve_74 c15 (fok_i _) rfl hrun (fun h16 H locs hH hL hrun => ?_)
    refine V_aload_n (pc := 77) hx hb dX1_approve_77 rfl (lv_at hl 0 rfl) ?_
    obtain ⟨c17, hrun⟩ := gd_some hrun
    refine V_getR (pc := 78) C hH fr_X1_84 dX1_approve_78 c17 rfl ?_
    refine V_aload_n (pc := 81) hx hb dX1_approve_81 rfl (lv_at hl 0 rfl) ?_
    refine V_getI (pc := 82) C hH fr_X1_115 dX1_approve_82 c17 rfl ?_
    obtain ⟨c18, hrun⟩ := gd_some hrun
    refine V_putNI (pc := 85) C hH hL fn_X1_381 dX1_approve_85 c18 (fok_i _) rfl hrun (fun h19 H locs hH hL hrun => ?_)
    refine V_aload_n (pc := 88) hx hb dX1_approve_88 rfl (lv_at hl 0 rfl) ?_
    obtain ⟨c20, hrun⟩ := gd_some hrun
    refine V_getR (pc := 89) C hH fr_X1_84 dX1_approve_89 c20 rfl ?_
    obtain ⟨c21, hrun⟩ := gd_some hrun
    refine V_getNI (pc := 92) C hH fn_X1_118 dX1_approve_92 c21 rfl ?_
    refine lv_iconst (v := (3 : Int32)) (pc := 95) hx hb dX1_approve_95 (by decide) ?_
    refine lv_icmp_ne (tgt := 103) (pc := 96) hx hb dX1_approve_96 (by decide) (fun c_ => ?_) (fun c_ => ?_)
    · have hrun := ite_f hrun c_
      exact b_X1_approve_103 C x0 h19 H locs cells slots ls hH hL (lv_sub hl [0] rfl) hrun
    · have hrun := ite_t hrun c_
      refine V_aload_n (pc := 99) hx hb dX1_approve_99 rfl (lv_at hl 0 rfl) ?_
      refine V_bd (pc := 100) C hL (by decide) hrun (fun rr1 e1 => Z_runV (rest := []) C hH (m_X1_becomesFinal hl9 e1) wV_X1_406 c20 rfl (by decide) rfl rfl ⟨by decide, by decide⟩ rfl (Nat.le_of_ble_eq_true rfl) hl.1 dX1_approve_100) (fun _ h23 H locs cells slots hH hL hrun => ?_)
      exact b_X1_approve_103 C x0 h23 H locs cells slots ls hH hL (lv_sub hl [0] rfl) hrun
  · by_cases n11 : x_ = 11
    · subst n11
      have hrun := ite_t hrun rfl
      refine vx_catch (E := "Massclaim$Obstacle") (name := "Massclaim$Obstacle") hown (tableOf []) ⟨24, 28, 31, 29⟩ (tableOf []) (by rw [C.2.1.2.2.2.2]; rfl) (fun z hz => nomatch hz) (by decide) (by decide) (hts _ q1428) (va_Nw.use rfl (C.2.1.2.2.2.1.2.1 _ q1441 rfl)) hc_ hv_ hcl_ ?_
      exact b_X1_approve_31 C x0 (q_ + 1) h25 H locs cells slots ls hH hL (lv_sub hl [0] rfl) hrun
    have hrun := ite_f hrun n11
    cases hrun

theorem b_X1_approve_16 {rr : (Int32 ⊕ Ex) × Hp}  (C : CX p l R s m args meth c D Hs cX1_approve "Massclaim" 2 (some .int) [(24, 28, 31, 29)] 23 562)  : ∀ (x0 : Nat) (h : Hp) (H : Heap) (locs : List Loc) (cells slots : Nat) (ls : Array Slot), HP D Hs h H → LO Hs locs → lv_has ls 2 [(0, rv x0)] → f_X1_approve_16 x0 h = some rr → W p l e R s m args below meth c H locs cells slots (ZM D Hs iI rr below args s) (F0 m 16 ls []) := by
  obtain ⟨⟨hx, hb, hml, hown, hts⟩, -⟩ := id C
  have hl9 := C.2.1.2.2.1
  intro x0 h H locs cells slots ls hH hL hl hrun
  unfold f_X1_approve_16 at hrun
  refine lv_iconst (v := (1 : Int32)) (pc := 16) hx hb dX1_approve_16 (by decide) ?_
  refine lv_goto (tgt := 21) (pc := 17) hx hb dX1_approve_17 (by decide) ?_
  exact b_X1_approve_21 C x0 (1 : Int32) h H locs cells slots ls hH hL (lv_sub hl [0] rfl) hrun

theorem b_X1_approve {rr : (Int32 ⊕ Ex) × Hp}  (C : CX p l R s m args meth c D Hs cX1_approve "Massclaim" 2 (some .int) [(24, 28, 31, 29)] 23 562)  : ∀ (x0 : Nat) (h : Hp) (H : Heap) (locs : List Loc) (cells slots : Nat) (ls : Array Slot), HP D Hs h H → LO Hs locs → lv_has ls 2 [(0, rv x0)] → f_X1_approve x0 h = some rr → W p l e R s m args below meth c H locs cells slots (ZM D Hs iI rr below args s) (F0 m 0 ls []) := by
  obtain ⟨⟨hx, hb, hml, hown, hts⟩, -⟩ := id C
  have hl9 := C.2.1.2.2.1
  intro x0 h H locs cells slots ls hH hL hl hrun
  unfold f_X1_approve at hrun
  refine V_aload_n (pc := 0) hx hb dX1_approve_0 rfl (lv_at hl 0 rfl) ?_
  obtain ⟨c28, hrun⟩ := gd_some hrun
  refine V_bd (pc := 1) C hL (by decide) hrun (fun rr1 e1 => Z_runV (rest := []) C hH (m_X1_stage hl9 e1) wV_X1_123 c28 rfl (by decide) rfl rfl ⟨by decide, by decide⟩ rfl (Nat.le_of_ble_eq_true rfl) hl.1 dX1_approve_1) (fun v26 h27 H locs cells slots hH hL hrun => ?_)
  refine lv_iconst (v := (1 : Int32)) (pc := 4) hx hb dX1_approve_4 (by decide) ?_
  refine lv_icmp_eq (tgt := 16) (pc := 5) hx hb dX1_approve_5 (by decide) (fun c_ => ?_) (fun c_ => ?_)
  · have hrun := ite_t hrun c_
    exact b_X1_approve_16 C x0 h27 H locs cells slots ls hH hL (lv_sub hl [0] rfl) hrun
  · have hrun := ite_f hrun c_
    refine V_aload_n (pc := 8) hx hb dX1_approve_8 rfl (lv_at hl 0 rfl) ?_
    obtain ⟨c31, hrun⟩ := gd_some hrun
    refine V_bd (pc := 9) C hL (by decide) hrun (fun rr1 e1 => Z_runV (rest := []) C hH (m_X1_stage hl9 e1) wV_X1_123 c31 rfl (by decide) rfl rfl ⟨by decide, by decide⟩ rfl (Nat.le_of_ble_eq_true rfl) hl.1 dX1_approve_9) (fun v29 h30 H locs cells slots hH hL hrun => ?_)
    refine lv_iconst (v := (2 : Int32)) (pc := 12) hx hb dX1_approve_12 (by decide) ?_
    refine lv_icmp_ne (tgt := 20) (pc := 13) hx hb dX1_approve_13 (by decide) (fun c_ => ?_) (fun c_ => ?_)
    · have hrun := ite_f hrun c_
      refine lv_iconst (v := (0 : Int32)) (pc := 20) hx hb dX1_approve_20 (by decide) ?_
      exact b_X1_approve_21 C x0 (0 : Int32) h30 H locs cells slots ls hH hL (lv_sub hl [0] rfl) hrun
    · have hrun := ite_t hrun c_
      exact b_X1_approve_16 C x0 h30 H locs cells slots ls hH hL (lv_sub hl [0] rfl) hrun

theorem m_X1_approve {l : Launch} {D : va_G} {Hs : Heap} {h : Hp} {rr : (Int32 ⊕ Ex) × Hp} (hl9 : l.stackTraces = false) {x0 : Nat} (hrun : f_X1_approve x0 h = some rr) : CM l yX1_approve (wsW_ yX1_approve cX1_approve 2 (some .int) [(24, 28, 31, 29)]) 23 562 iI [rv x0] D Hs h rr := by
  refine CM.ofH (lv := [(0, rv x0)]) (plainFor_of_name (by decide)) hl9 (by simp [lv_args, rv_cat, cat_i, cat_l, cat_f, cat_d]) (by simp [lg_sl, rv_cat, cat_i, cat_l, cat_f, cat_d]) ?_
  intro p e R s m args below meth c H ls C hH hl hin
  exact b_X1_approve C x0 _ H [] _ _ ls hH (fun _ q => nomatch q) (lv_sub hl [0] rfl) hrun

/-! MassclaimLaw.approve(LMassclaim;[J)I -/
def f_X0_approve_11  (y0 : Nat) (h : Hp) : Rt Int32 :=
  some (.inl (1 : Int32), h)
def f_X0_approve  (x0 : Nat) (x1 : Nat) (h : Hp) : Rt Int32 :=
  gd (kC h x0 = 1) <| bdH (f_X1_approve x0 h)
  (fun v1 h2 => gd (kC h2 x1 = 102 ∧ ixo (0 : Int32) (kN h2 x1)) <| vl (tL h2 x1 ((0 : Int32)).toNatClampNeg (v1.toInt64)) fun h5 => some (.inl (0 : Int32), h5))
  (fun ex6 h7 => if ex6.1 = 903 then
  (f_X0_approve_11 ex6.2 h7)
  else
  none)
theorem b_X0_approve_11 {rr : (Int32 ⊕ Ex) × Hp}  (C : CX p l R s m args meth c D Hs cX0_approve "MassclaimLaw" 3 (some .int) [(0, 8, 11, 19)] 24 583)  : ∀ (y0 : Nat) (h : Hp) (H : Heap) (locs : List Loc) (cells slots : Nat) (ls : Array Slot), HP D Hs h H → LO Hs locs → lv_has ls 3 [] → f_X0_approve_11 y0 h = some rr → W p l e R s m args below meth c H locs cells slots (ZM D Hs iI rr below args s) (F0 m 11 ls [rv y0]) := by
  obtain ⟨⟨hx, hb, hml, hown, hts⟩, -⟩ := id C
  have hl9 := C.2.1.2.2.1
  intro y0 h H locs cells slots ls hH hL hl hrun
  unfold f_X0_approve_11 at hrun
  refine V_astore_n (i := 2) (lv' := [(2, rv y0)]) (pc := 11) hx hb dX0_approve_11 rfl hl (by decide) rfl (fun ls hl => ?_)
  refine lv_iconst (v := (1 : Int32)) (pc := 12) hx hb dX0_approve_12 (by decide) ?_
  exact V_iret (pc := 13) C hH hL hrun dX0_approve_13

theorem b_X0_approve {rr : (Int32 ⊕ Ex) × Hp}  (C : CX p l R s m args meth c D Hs cX0_approve "MassclaimLaw" 3 (some .int) [(0, 8, 11, 19)] 24 583)  : ∀ (x0 : Nat) (x1 : Nat) (h : Hp) (H : Heap) (locs : List Loc) (cells slots : Nat) (ls : Array Slot), HP D Hs h H → LO Hs locs → lv_has ls 3 [(0, rv x0), (1, rv x1)] → f_X0_approve x0 x1 h = some rr → W p l e R s m args below meth c H locs cells slots (ZM D Hs iI rr below args s) (F0 m 0 ls []) := by
  obtain ⟨⟨hx, hb, hml, hown, hts⟩, -⟩ := id C
  have hl9 := C.2.1.2.2.1
  intro x0 x1 h H locs cells slots ls hH hL hl hrun
  unfold f_X0_approve at hrun
  refine V_aload_n (pc := 0) hx hb dX0_approve_0 rfl (lv_at hl 1 rfl) ?_
  refine lv_iconst (v := (0 : Int32)) (pc := 1) hx hb dX0_approve_1 (by decide) ?_
  refine V_aload_n (pc := 2) hx hb dX0_approve_2 rfl (lv_at hl 0 rfl) ?_
  obtain ⟨c3, hrun⟩ := gd_some hrun
  refine V_bdH (pc := 3) hL hrun (fun rr1 e1 => Z_runVH (rest := [.int (0 : Int32), rv x1]) C hH (m_X1_approve hl9 e1) wVH_X0_87 c3 rfl (by decide) rfl rfl ⟨by decide, by decide⟩ rfl (by simp [csum, rv_cat, cat_i, cat_l, cat_f, cat_d]) hl.1 dX0_approve_3) (fun v1 h2 H locs cells slots hH hL hrun => ?_) (fun x_ q_ ce_ h7 H locs cells slots hH hL hrun hc_ hv_ hcl_ => ?_)
  · refine lv_i2l (pc := 6) hx hb dX0_approve_6 rfl ?_
    obtain ⟨c4, hrun⟩ := gd_some hrun
    refine V_last (pc := 7) C hH hL dX0_approve_7 c4 hrun (fun h5 H locs hH hL hrun => ?_)
    refine lv_goto (tgt := 14) (pc := 8) hx hb dX0_approve_8 (by decide) ?_
    refine lv_iconst (v := (0 : Int32)) (pc := 14) hx hb dX0_approve_14 (by decide) ?_
    exact V_iret (pc := 15) C hH hL hrun dX0_approve_15
  · by_cases n903 : x_ = 903
    · subst n903
      have hrun := ite_t hrun rfl
      refine vx_catch (E := "java/lang/IllegalStateException") (name := "java/lang/IllegalStateException") hown (tableOf []) ⟨0, 8, 11, 19⟩ (tableOf []) (by rw [C.2.1.2.2.2.2]; rfl) (fun z hz => nomatch hz) (by decide) (by decide) (hts _ q585) (va_Nw.use rfl (C.2.1.2.2.2.1.2.1 _ q702 rfl)) hc_ hv_ hcl_ ?_
      exact b_X0_approve_11 C (q_ + 1) h7 H locs cells slots ls hH hL (lv_sub hl [] rfl) hrun
    have hrun := ite_f hrun n903
    cases hrun

theorem m_X0_approve {l : Launch} {D : va_G} {Hs : Heap} {h : Hp} {rr : (Int32 ⊕ Ex) × Hp} (hl9 : l.stackTraces = false) {x0 : Nat} {x1 : Nat} (hrun : f_X0_approve x0 x1 h = some rr) : CM l yX0_approve (wsW_ yX0_approve cX0_approve 3 (some .int) [(0, 8, 11, 19)]) 24 583 iI [rv x0, rv x1] D Hs h rr := by
  refine CM.ofH (lv := [(0, rv x0), (1, rv x1)]) (plainFor_of_name (by decide)) hl9 (by simp [lv_args, rv_cat, cat_i, cat_l, cat_f, cat_d]) (by simp [lg_sl, rv_cat, cat_i, cat_l, cat_f, cat_d]) ?_
  intro p e R s m args below meth c H ls C hH hl hin
  exact b_X0_approve C x0 x1 _ H [] _ _ ls hH (fun _ q => nomatch q) (lv_sub hl [0, 1] rfl) hrun

/-! MassclaimModel.reach()I -/
def f_X4_reach_82  (y0 : Int32) (h : Hp) : Rt Int32 :=
  some (.inl y0, h)
def f_X4_reach_57 (k4 : Nat → Int32 → Int32 → Hp → Rt Int32) (x0 : Nat) (x2 : Int32) (y0 : Int32) (y1 : Int32) (h : Hp) : Rt Int32 :=
  vl (y0 + y1) fun v1 => vl (x2 + (1 : Int32)) fun v2 => k4 x0 v1 v2 h
def f_X4_reach_56 (k4 : Nat → Int32 → Int32 → Hp → Rt Int32) (x0 : Nat) (x2 : Int32) (y0 : Int32) (h : Hp) : Rt Int32 :=
  f_X4_reach_57 k4 x0 x2 y0 (0 : Int32) h
def f_X4_reach_4  : Nat → Nat → Int32 → Int32 → Hp → Rt Int32
  | 0, _, _, _, _ => none
  | n + 1, x0, x1, x2, h => gd (kC h x0 = 4) <| gd (kC h (kR h 302 x0) = 18) <| bd (f_J2_size (kR h 302 x0) h) fun v4 h5 => if v4 ≤ x2 then
  (if x1 = 0 then
  (f_X4_reach_82 (0 : Int32) h5)
  else
  (gd (kC h5 x0 = 4) <| bd (f_X4_allIn x0 h5) fun v7 h8 => gd (¬ v7 = 0) <| f_X4_reach_82 (((100 : Int32) * x1) / v7) h8))
  else
  (gd (kC h5 x0 = 4) <| gd (kC h5 (kR h5 302 x0) = 18) <| bd (f_J2_get (kR h5 302 x0) x2 h5) fun v12 h13 => gd (v12 = 0 ∨ kC h13 v12 = 6) <| gd (kC h13 x0 = 4) <| bd (f_X4_isIn x0 v12 h13) fun v16 h17 => if v16 = 0 then
  (f_X4_reach_56 (f_X4_reach_4 n) x0 x2 x1 h17)
  else
  (gd (kC h17 x0 = 4) <| gd (kC h17 (kR h17 302 x0) = 18) <| bd (f_J2_get (kR h17 302 x0) x2 h17) fun v20 h21 => gd (v20 = 0 ∨ kC h21 v20 = 6) <| gd (kC h21 v20 = 6) <| if (kI h21 509 v20) = (-1 : Int32) then
  (f_X4_reach_56 (f_X4_reach_4 n) x0 x2 x1 h21)
  else
  (f_X4_reach_57 (f_X4_reach_4 n) x0 x2 x1 (1 : Int32) h21)))
def f_X4_reach  (x0 : Nat) (h : Hp) : Rt Int32 :=
  f_X4_reach_4 FU x0 (0 : Int32) (0 : Int32) h
theorem b_X4_reach_82 {rr : (Int32 ⊕ Ex) × Hp}  (C : CX p l R s m args meth c D Hs cX4_reach "MassclaimModel" 3 (some .int) [] 5 86)  : ∀ (y0 : Int32) (h : Hp) (H : Heap) (locs : List Loc) (cells slots : Nat) (ls : Array Slot), HP D Hs h H → LO Hs locs → lv_has ls 3 [] → f_X4_reach_82 y0 h = some rr → W p l e R s m args below meth c H locs cells slots (ZM D Hs iI rr below args s) (F0 m 82 ls [.int y0]) := by
  obtain ⟨⟨hx, hb, hml, hown, hts⟩, -⟩ := id C
  have hl9 := C.2.1.2.2.1
  intro y0 h H locs cells slots ls hH hL hl hrun
  unfold f_X4_reach_82 at hrun
  exact V_iret (pc := 82) C hH hL hrun dX4_reach_82

theorem b_X4_reach_57 {rr : (Int32 ⊕ Ex) × Hp} {k4 : Nat → Int32 → Int32 → Hp → Rt Int32} (C : CX p l R s m args meth c D Hs cX4_reach "MassclaimModel" 3 (some .int) [] 5 86) (K4 : ∀ (x0 : Nat) (x1 : Int32) (x2 : Int32) (h : Hp) (H : Heap) (locs : List Loc) (cells slots : Nat) (ls : Array Slot), HP D Hs h H → LO Hs locs → lv_has ls 3 [(0, rv x0), (1, .int x1), (2, .int x2)] → k4 x0 x1 x2 h = some rr → W p l e R s m args below meth c H locs cells slots (ZM D Hs iI rr below args s) (F0 m 4 ls [])) : ∀ (x0 : Nat) (x2 : Int32) (y0 : Int32) (y1 : Int32) (h : Hp) (H : Heap) (locs : List Loc) (cells slots : Nat) (ls : Array Slot), HP D Hs h H → LO Hs locs → lv_has ls 3 [(0, rv x0), (2, .int x2)] → f_X4_reach_57 k4 x0 x2 y0 y1 h = some rr → W p l e R s m args below meth c H locs cells slots (ZM D Hs iI rr below args s) (F0 m 57 ls [.int y1, .int y0]) := by
  obtain ⟨⟨hx, hb, hml, hown, hts⟩, -⟩ := id C
  have hl9 := C.2.1.2.2.1
  intro x0 x2 y0 y1 h H locs cells slots ls hH hL hl hrun
  unfold f_X4_reach_57 at hrun
  refine lv_iadd (pc := 57) hx hb dX4_reach_57 ?_
  refine lv_topi (fun v1 ev1 => ?_)
  have hrun := vl_at hrun v1 ev1
  refine lv_istore_n (i := 1) (lv' := [(1, .int v1), (0, rv x0), (2, .int x2)]) (pc := 58) hx hb dX4_reach_58 rfl hl (by decide) (by simp [rv_cat, cat_i, cat_l, cat_f, cat_d]) (fun ls hl => ?_)
  obtain ⟨v2, ev2⟩ : ∃ y : Int32, y = x2 + (1 : Int32) := ⟨_, rfl⟩
  have hrun := vl_at hrun v2 ev2
  refine lv_iinc (v := v2) (lv' := [(2, .int v2), (1, .int v1), (0, rv x0)]) (pc := 59) hx hb dX4_reach_59 hl (k := 2) rfl (by rw [ev2]; rfl) (by decide) (by first | rfl | simp [rv_cat, cat_i, cat_l, cat_f, cat_d]) (fun ls hl => ?_)
  refine lv_goto (tgt := 4) (pc := 62) hx hb dX4_reach_62 (by decide) ?_
  exact K4 x0 v1 v2 h H locs cells slots ls hH hL (lv_sub hl [2, 1, 0] rfl) hrun

theorem b_X4_reach_56 {rr : (Int32 ⊕ Ex) × Hp} {k4 : Nat → Int32 → Int32 → Hp → Rt Int32} (C : CX p l R s m args meth c D Hs cX4_reach "MassclaimModel" 3 (some .int) [] 5 86) (K4 : ∀ (x0 : Nat) (x1 : Int32) (x2 : Int32) (h : Hp) (H : Heap) (locs : List Loc) (cells slots : Nat) (ls : Array Slot), HP D Hs h H → LO Hs locs → lv_has ls 3 [(0, rv x0), (1, .int x1), (2, .int x2)] → k4 x0 x1 x2 h = some rr → W p l e R s m args below meth c H locs cells slots (ZM D Hs iI rr below args s) (F0 m 4 ls [])) : ∀ (x0 : Nat) (x2 : Int32) (y0 : Int32) (h : Hp) (H : Heap) (locs : List Loc) (cells slots : Nat) (ls : Array Slot), HP D Hs h H → LO Hs locs → lv_has ls 3 [(0, rv x0), (2, .int x2)] → f_X4_reach_56 k4 x0 x2 y0 h = some rr → W p l e R s m args below meth c H locs cells slots (ZM D Hs iI rr below args s) (F0 m 56 ls [.int y0]) := by
  obtain ⟨⟨hx, hb, hml, hown, hts⟩, -⟩ := id C
  have hl9 := C.2.1.2.2.1
  intro x0 x2 y0 h H locs cells slots ls hH hL hl hrun
  unfold f_X4_reach_56 at hrun
  refine lv_iconst (v := (0 : Int32)) (pc := 56) hx hb dX4_reach_56 (by decide) ?_
  exact b_X4_reach_57 C K4 x0 x2 y0 (0 : Int32) h H locs cells slots ls hH hL (lv_sub hl [0, 1] rfl) hrun

theorem b_X4_reach_4 {rr : (Int32 ⊕ Ex) × Hp}  (C : CX p l R s m args meth c D Hs cX4_reach "MassclaimModel" 3 (some .int) [] 5 86)  : ∀ (n : Nat) (x0 : Nat) (x1 : Int32) (x2 : Int32) (h : Hp) (H : Heap) (locs : List Loc) (cells slots : Nat) (ls : Array Slot), HP D Hs h H → LO Hs locs → lv_has ls 3 [(0, rv x0), (1, .int x1), (2, .int x2)] → f_X4_reach_4 n x0 x1 x2 h = some rr → W p l e R s m args below meth c H locs cells slots (ZM D Hs iI rr below args s) (F0 m 4 ls []) := by
  obtain ⟨⟨hx, hb, hml, hown, hts⟩, -⟩ := id C
  have hl9 := C.2.1.2.2.1
  intro n
  induction n with
  | zero =>
    intro x0 x1 x2 h H locs cells slots ls hH hL hl hrun
    cases (show (none : Option _) = some rr from hrun)
  | succ n ih =>
    intro x0 x1 x2 h H locs cells slots ls hH hL hl hrun
    rw [f_X4_reach_4] at hrun
    refine lv_iload_n (pc := 4) hx hb dX4_reach_4 rfl (lv_at hl 2 rfl) ?_
    refine V_aload_n (pc := 5) hx hb dX4_reach_5 rfl (lv_at hl 0 rfl) ?_
    obtain ⟨c3, hrun⟩ := gd_some hrun
    refine V_getR (pc := 6) C hH fr_X4_16 dX4_reach_6 c3 rfl ?_
    obtain ⟨c6, hrun⟩ := gd_some hrun
    refine V_bd (pc := 9) C hL rfl hrun (fun rr1 e1 => Z_runV (rest := [.int x2]) C hH (m_J2_size hl9 e1) wV_X4_94 c6 rfl (by decide) rfl rfl ⟨by decide, by decide⟩ rfl (Nat.le_of_ble_eq_true rfl) hl.1 dX4_reach_9) (fun v4 h5 H locs cells slots hH hL hrun => ?_)
    refine lv_icmp_ge (tgt := 65) (pc := 12) hx hb dX4_reach_12 (by decide) (fun c_ => ?_) (fun c_ => ?_)
    · have hrun := ite_t hrun c_
      refine lv_iload_n (pc := 65) hx hb dX4_reach_65 rfl (lv_at hl 1 rfl) ?_
      refine lv_if_ne (tgt := 73) (pc := 66) hx hb dX4_reach_66 (by decide) (fun c_ => ?_) (fun c_ => ?_)
      · have hrun := ite_f hrun c_
        refine lv_bipush (v := (100 : Int32)) (pc := 73) hx hb dX4_reach_73 (by decide) ?_
        refine lv_iload_n (pc := 75) hx hb dX4_reach_75 rfl (lv_at hl 1 rfl) ?_
        refine lv_imul (pc := 76) hx hb dX4_reach_76 ?_
        refine V_aload_n (pc := 77) hx hb dX4_reach_77 rfl (lv_at hl 0 rfl) ?_
        obtain ⟨c9, hrun⟩ := gd_some hrun
        refine V_bd (pc := 78) C hL rfl hrun (fun rr1 e1 => Z_runV (rest := [.int ((100 : Int32) * x1)]) C hH (m_X4_allIn hl9 e1) wV_X4_235 c9 rfl (by decide) rfl rfl ⟨by decide, by decide⟩ rfl (Nat.le_of_ble_eq_true rfl) hl.1 dX4_reach_78) (fun v7 h8 H locs cells slots hH hL hrun => ?_)
        obtain ⟨c10, hrun⟩ := gd_some hrun
        refine lv_idiv (pc := 81) hx hb dX4_reach_81 c10 ?_
        exact b_X4_reach_82 C (((100 : Int32) * x1) / v7) h8 H locs cells slots ls hH hL (lv_sub hl [] rfl) hrun
      · have hrun := ite_t hrun c_
        refine lv_iconst (v := (0 : Int32)) (pc := 69) hx hb dX4_reach_69 (by decide) ?_
        refine lv_goto (tgt := 82) (pc := 70) hx hb dX4_reach_70 (by decide) ?_
        exact b_X4_reach_82 C (0 : Int32) h5 H locs cells slots ls hH hL (lv_sub hl [] rfl) hrun
    · have hrun := ite_f hrun c_
      refine lv_iload_n (pc := 15) hx hb dX4_reach_15 rfl (lv_at hl 1 rfl) ?_
      refine V_aload_n (pc := 16) hx hb dX4_reach_16 rfl (lv_at hl 0 rfl) ?_
      refine V_aload_n (pc := 17) hx hb dX4_reach_17 rfl (lv_at hl 0 rfl) ?_
      obtain ⟨c11, hrun⟩ := gd_some hrun
      refine V_getR (pc := 18) C hH fr_X4_16 dX4_reach_18 c11 rfl ?_
      refine lv_iload_n (pc := 21) hx hb dX4_reach_21 rfl (lv_at hl 2 rfl) ?_
      obtain ⟨c14, hrun⟩ := gd_some hrun
      refine V_bd (pc := 22) C hL rfl hrun (fun rr1 e1 => Z_runV (rest := [rv x0, .int x1]) C hH (m_J2_get hl9 e1) wV_X4_108 c14 rfl (by decide) rfl rfl ⟨by decide, by decide⟩ rfl (by simp [csum, rv_cat, cat_i, cat_l, cat_f, cat_d]) hl.1 dX4_reach_22) (fun v12 h13 H locs cells slots hH hL hrun => ?_)
      obtain ⟨c15, hrun⟩ := gd_some hrun
      refine V_castX (pc := 25) (ci := 5) C hH rfl (by decide) q1946 dX4_reach_25 c15 ?_
      obtain ⟨c18, hrun⟩ := gd_some hrun
      refine V_bd (pc := 28) C hL rfl hrun (fun rr1 e1 => Z_runV (rest := [.int x1]) C hH (m_X4_isIn hl9 e1) wV_X4_120 c18 rfl (by decide) rfl rfl ⟨by decide, by decide⟩ rfl (Nat.le_of_ble_eq_true rfl) hl.1 dX4_reach_28) (fun v16 h17 H locs cells slots hH hL hrun => ?_)
      refine lv_if_eq (tgt := 56) (pc := 31) hx hb dX4_reach_31 (by decide) (fun c_ => ?_) (fun c_ => ?_)
      · have hrun := ite_t hrun c_
        exact b_X4_reach_56 C ih x0 x2 x1 h17 H locs cells slots ls hH hL (lv_sub hl [0, 2] rfl) hrun
      · have hrun := ite_f hrun c_
        refine V_aload_n (pc := 34) hx hb dX4_reach_34 rfl (lv_at hl 0 rfl) ?_
        obtain ⟨c19, hrun⟩ := gd_some hrun
        refine V_getR (pc := 35) C hH fr_X4_16 dX4_reach_35 c19 rfl ?_
        refine lv_iload_n (pc := 38) hx hb dX4_reach_38 rfl (lv_at hl 2 rfl) ?_
        obtain ⟨c22, hrun⟩ := gd_some hrun
        refine V_bd (pc := 39) C hL rfl hrun (fun rr1 e1 => Z_runV (rest := [.int x1]) C hH (m_J2_get hl9 e1) wV_X4_108 c22 rfl (by decide) rfl rfl ⟨by decide, by decide⟩ rfl (Nat.le_of_ble_eq_true rfl) hl.1 dX4_reach_39) (fun v20 h21 H locs cells slots hH hL hrun => ?_)
        obtain ⟨c23, hrun⟩ := gd_some hrun
        refine V_castX (pc := 42) (ci := 5) C hH rfl (by decide) q1946 dX4_reach_42 c23 ?_
        obtain ⟨c24, hrun⟩ := gd_some hrun
        refine V_getI (pc := 45) C hH fr_X4_245 dX4_reach_45 c24 rfl ?_
        refine lv_iconst (v := (-1 : Int32)) (pc := 48) hx hb dX4_reach_48 (by decide) ?_
        refine lv_icmp_eq (tgt := 56) (pc := 49) hx hb dX4_reach_49 (by decide) (fun c_ => ?_) (fun c_ => ?_)
        · have hrun := ite_t hrun c_
          exact b_X4_reach_56 C ih x0 x2 x1 h21 H locs cells slots ls hH hL (lv_sub hl [0, 2] rfl) hrun
        · have hrun := ite_f hrun c_
          refine lv_iconst (v := (1 : Int32)) (pc := 52) hx hb dX4_reach_52 (by decide) ?_
          refine lv_goto (tgt := 57) (pc := 53) hx hb dX4_reach_53 (by decide) ?_
          exact b_X4_reach_57 C ih x0 x2 x1 (1 : Int32) h21 H locs cells slots ls hH hL (lv_sub hl [0, 2] rfl) hrun

theorem b_X4_reach {rr : (Int32 ⊕ Ex) × Hp}  (C : CX p l R s m args meth c D Hs cX4_reach "MassclaimModel" 3 (some .int) [] 5 86)  : ∀ (x0 : Nat) (h : Hp) (H : Heap) (locs : List Loc) (cells slots : Nat) (ls : Array Slot), HP D Hs h H → LO Hs locs → lv_has ls 3 [(0, rv x0)] → f_X4_reach x0 h = some rr → W p l e R s m args below meth c H locs cells slots (ZM D Hs iI rr below args s) (F0 m 0 ls []) := by
  obtain ⟨⟨hx, hb, hml, hown, hts⟩, -⟩ := id C
  have hl9 := C.2.1.2.2.1
  intro x0 h H locs cells slots ls hH hL hl hrun
  unfold f_X4_reach at hrun
  refine lv_iconst (v := (0 : Int32)) (pc := 0) hx hb dX4_reach_0 (by decide) ?_
  refine lv_istore_n (i := 1) (lv' := [(1, .int (0 : Int32)), (0, rv x0)]) (pc := 1) hx hb dX4_reach_1 rfl hl (by decide) (by simp [rv_cat, cat_i, cat_l, cat_f, cat_d]) (fun ls hl => ?_)
  refine lv_iconst (v := (0 : Int32)) (pc := 2) hx hb dX4_reach_2 (by decide) ?_
  refine lv_istore_n (i := 2) (lv' := [(2, .int (0 : Int32)), (1, .int (0 : Int32)), (0, rv x0)]) (pc := 3) hx hb dX4_reach_3 rfl hl (by decide) rfl (fun ls hl => ?_)
  exact b_X4_reach_4 C FU x0 (0 : Int32) (0 : Int32) h H locs cells slots ls hH hL (lv_sub hl [2, 1, 0] rfl) hrun

theorem m_X4_reach {l : Launch} {D : va_G} {Hs : Heap} {h : Hp} {rr : (Int32 ⊕ Ex) × Hp} (hl9 : l.stackTraces = false) {x0 : Nat} (hrun : f_X4_reach x0 h = some rr) : CM l yX4_reach (ws_ yX4_reach cX4_reach 3 (some .int)) 5 86 iI [rv x0] D Hs h rr := by
  refine CM.of (lv := [(0, rv x0)]) (plainFor_of_name (by decide)) hl9 (by simp [lv_args, rv_cat, cat_i, cat_l, cat_f, cat_d]) (by simp [lg_sl, rv_cat, cat_i, cat_l, cat_f, cat_d]) ?_
  intro p e R s m args below meth c H ls C hH hl hin
  exact b_X4_reach C x0 _ H [] _ _ ls hH (fun _ q => nomatch q) (lv_sub hl [0] rfl) hrun

/-! MassclaimModel.isCarried(I)Z -/
def f_X4_isCarried_95  (y0 : Int32) (h : Hp) : Rt Int32 :=
  gd (b01 y0) <| some (.inl y0, h)
def f_X4_isCarried_90  (h : Hp) : Rt Int32 :=
  f_X4_isCarried_95 (1 : Int32) h
def f_X4_isCarried_76 (k7 : Nat → Int32 → Int32 → Int32 → Int32 → Hp → Rt Int32) (x0 : Nat) (x1 : Int32) (x2 : Int32) (x3 : Int32) (x4 : Int32) (h : Hp) : Rt Int32 :=
  vl (x4 + (1 : Int32)) fun v2 => k7 x0 x1 x2 x3 v2 h
def f_X4_isCarried_74 (k7 : Nat → Int32 → Int32 → Int32 → Int32 → Hp → Rt Int32) (x0 : Nat) (x1 : Int32) (x2 : Int32) (x4 : Int32) (y0 : Int32) (y1 : Int32) (h : Hp) : Rt Int32 :=
  vl (y0 + y1) fun v3 => f_X4_isCarried_76 k7 x0 x1 x2 v3 x4 h
def f_X4_isCarried_7  : Nat → Nat → Int32 → Int32 → Int32 → Int32 → Hp → Rt Int32
  | 0, _, _, _, _, _, _ => none
  | n + 1, x0, x1, x2, x3, x4, h => gd (kC h x0 = 4) <| gd (kC h (kR h 302 x0) = 18) <| bd (f_J2_size (kR h 302 x0) h) fun v5 h6 => if v5 ≤ x4 then
  (if x2 = 0 then
  (f_X4_isCarried_90  h6)
  else
  (if x3 ≤ 0 then
  (f_X4_isCarried_95 (0 : Int32) h6)
  else
  (f_X4_isCarried_90  h6)))
  else
  (gd (kC h6 x0 = 4) <| gd (kC h6 (kR h6 302 x0) = 18) <| bd (f_J2_get (kR h6 302 x0) x4 h6) fun v9 h10 => gd (v9 = 0 ∨ kC h10 v9 = 6) <| gd (kC h10 x0 = 4) <| bd (f_X4_subclassOf x0 v9 h10) fun v13 h14 => if v13 = x1 then
  (vl (x2 + (1 : Int32)) fun v16 => gd (kC h14 v9 = 6) <| if (kI h14 515 v9) = (1 : Int32) then
  (f_X4_isCarried_74 (f_X4_isCarried_7 n) x0 x1 v16 x4 x3 (1 : Int32) h14)
  else
  (if (kI h14 515 v9) = (2 : Int32) then
  (f_X4_isCarried_74 (f_X4_isCarried_7 n) x0 x1 v16 x4 x3 (-1 : Int32) h14)
  else
  (f_X4_isCarried_74 (f_X4_isCarried_7 n) x0 x1 v16 x4 x3 (0 : Int32) h14)))
  else
  (f_X4_isCarried_76 (f_X4_isCarried_7 n) x0 x1 x2 x3 x4 h14))
def f_X4_isCarried  (x0 : Nat) (x1 : Int32) (h : Hp) : Rt Int32 :=
  f_X4_isCarried_7 FU x0 x1 (0 : Int32) (0 : Int32) (0 : Int32) h
theorem b_X4_isCarried_95 {rr : (Int32 ⊕ Ex) × Hp}  (C : CX p l R s m args meth c D Hs cX4_isCarried "MassclaimModel" 6 (some .boolean) [] 5 87)  : ∀ (y0 : Int32) (h : Hp) (H : Heap) (locs : List Loc) (cells slots : Nat) (ls : Array Slot), HP D Hs h H → LO Hs locs → lv_has ls 6 [] → f_X4_isCarried_95 y0 h = some rr → W p l e R s m args below meth c H locs cells slots (ZM D Hs iI rr below args s) (F0 m 95 ls [.int y0]) := by
  obtain ⟨⟨hx, hb, hml, hown, hts⟩, -⟩ := id C
  have hl9 := C.2.1.2.2.1
  intro y0 h H locs cells slots ls hH hL hl hrun
  unfold f_X4_isCarried_95 at hrun
  obtain ⟨c1, hrun⟩ := gd_some hrun
  exact V_zret (pc := 95) C hH hL c1 hrun dX4_isCarried_95

theorem b_X4_isCarried_90 {rr : (Int32 ⊕ Ex) × Hp}  (C : CX p l R s m args meth c D Hs cX4_isCarried "MassclaimModel" 6 (some .boolean) [] 5 87)  : ∀ (h : Hp) (H : Heap) (locs : List Loc) (cells slots : Nat) (ls : Array Slot), HP D Hs h H → LO Hs locs → lv_has ls 6 [] → f_X4_isCarried_90 h = some rr → W p l e R s m args below meth c H locs cells slots (ZM D Hs iI rr below args s) (F0 m 90 ls []) := by
  obtain ⟨⟨hx, hb, hml, hown, hts⟩, -⟩ := id C
  have hl9 := C.2.1.2.2.1
  intro h H locs cells slots ls hH hL hl hrun
  unfold f_X4_isCarried_90 at hrun
  refine lv_iconst (v := (1 : Int32)) (pc := 90) hx hb dX4_isCarried_90 (by decide) ?_
  refine lv_goto (tgt := 95) (pc := 91) hx hb dX4_isCarried_91 (by decide) ?_
  exact b_X4_isCarried_95 C (1 : Int32) h H locs cells slots ls hH hL (lv_sub hl [] rfl) hrun

theorem b_X4_isCarried_76 {rr : (Int32 ⊕ Ex) × Hp} {k7 : Nat → Int32 → Int32 → Int32 → Int32 → Hp → Rt Int32} (C : CX p l R s m args meth c D Hs cX4_isCarried "MassclaimModel" 6 (some .boolean) [] 5 87) (K7 : ∀ (x0 : Nat) (x1 : Int32) (x2 : Int32) (x3 : Int32) (x4 : Int32) (h : Hp) (H : Heap) (locs : List Loc) (cells slots : Nat) (ls : Array Slot), HP D Hs h H → LO Hs locs → lv_has ls 6 [(0, rv x0), (1, .int x1), (2, .int x2), (3, .int x3), (4, .int x4)] → k7 x0 x1 x2 x3 x4 h = some rr → W p l e R s m args below meth c H locs cells slots (ZM D Hs iI rr below args s) (F0 m 7 ls [])) : ∀ (x0 : Nat) (x1 : Int32) (x2 : Int32) (x3 : Int32) (x4 : Int32) (h : Hp) (H : Heap) (locs : List Loc) (cells slots : Nat) (ls : Array Slot), HP D Hs h H → LO Hs locs → lv_has ls 6 [(0, rv x0), (1, .int x1), (2, .int x2), (3, .int x3), (4, .int x4)] → f_X4_isCarried_76 k7 x0 x1 x2 x3 x4 h = some rr → W p l e R s m args below meth c H locs cells slots (ZM D Hs iI rr below args s) (F0 m 76 ls []) := by
  obtain ⟨⟨hx, hb, hml, hown, hts⟩, -⟩ := id C
  have hl9 := C.2.1.2.2.1
  intro x0 x1 x2 x3 x4 h H locs cells slots ls hH hL hl hrun
  unfold f_X4_isCarried_76 at hrun
  obtain ⟨v2, ev2⟩ : ∃ y : Int32, y = x4 + (1 : Int32) := ⟨_, rfl⟩
  have hrun := vl_at hrun v2 ev2
  refine lv_iinc (v := v2) (lv' := [(4, .int v2), (0, rv x0), (1, .int x1), (2, .int x2), (3, .int x3)]) (pc := 76) hx hb dX4_isCarried_76 hl (k := 4) rfl (by rw [ev2]; rfl) (by decide) (by first | rfl | simp [rv_cat, cat_i, cat_l, cat_f, cat_d]) (fun ls hl => ?_)
  refine lv_goto (tgt := 7) (pc := 79) hx hb dX4_isCarried_79 (by decide) ?_
  exact K7 x0 x1 x2 x3 v2 h H locs cells slots ls hH hL (lv_sub hl [1, 2, 3, 4, 0] rfl) hrun

theorem b_X4_isCarried_74 {rr : (Int32 ⊕ Ex) × Hp} {k7 : Nat → Int32 → Int32 → Int32 → Int32 → Hp → Rt Int32} (C : CX p l R s m args meth c D Hs cX4_isCarried "MassclaimModel" 6 (some .boolean) [] 5 87) (K7 : ∀ (x0 : Nat) (x1 : Int32) (x2 : Int32) (x3 : Int32) (x4 : Int32) (h : Hp) (H : Heap) (locs : List Loc) (cells slots : Nat) (ls : Array Slot), HP D Hs h H → LO Hs locs → lv_has ls 6 [(0, rv x0), (1, .int x1), (2, .int x2), (3, .int x3), (4, .int x4)] → k7 x0 x1 x2 x3 x4 h = some rr → W p l e R s m args below meth c H locs cells slots (ZM D Hs iI rr below args s) (F0 m 7 ls [])) : ∀ (x0 : Nat) (x1 : Int32) (x2 : Int32) (x4 : Int32) (y0 : Int32) (y1 : Int32) (h : Hp) (H : Heap) (locs : List Loc) (cells slots : Nat) (ls : Array Slot), HP D Hs h H → LO Hs locs → lv_has ls 6 [(0, rv x0), (1, .int x1), (2, .int x2), (4, .int x4)] → f_X4_isCarried_74 k7 x0 x1 x2 x4 y0 y1 h = some rr → W p l e R s m args below meth c H locs cells slots (ZM D Hs iI rr below args s) (F0 m 74 ls [.int y1, .int y0]) := by
  obtain ⟨⟨hx, hb, hml, hown, hts⟩, -⟩ := id C
  have hl9 := C.2.1.2.2.1
  intro x0 x1 x2 x4 y0 y1 h H locs cells slots ls hH hL hl hrun
  unfold f_X4_isCarried_74 at hrun
  refine lv_iadd (pc := 74) hx hb dX4_isCarried_74 ?_
  refine lv_topi (fun v3 ev3 => ?_)
  have hrun := vl_at hrun v3 ev3
  refine lv_istore_n (i := 3) (lv' := [(3, .int v3), (0, rv x0), (1, .int x1), (2, .int x2), (4, .int x4)]) (pc := 75) hx hb dX4_isCarried_75 rfl hl (by decide) rfl (fun ls hl => ?_)
  exact b_X4_isCarried_76 C K7 x0 x1 x2 v3 x4 h H locs cells slots ls hH hL (lv_sub hl [1, 2, 3, 0, 4] rfl) hrun

theorem b_X4_isCarried_7 {rr : (Int32 ⊕ Ex) × Hp}  (C : CX p l R s m args meth c D Hs cX4_isCarried "MassclaimModel" 6 (some .boolean) [] 5 87)  : ∀ (n : Nat) (x0 : Nat) (x1 : Int32) (x2 : Int32) (x3 : Int32) (x4 : Int32) (h : Hp) (H : Heap) (locs : List Loc) (cells slots : Nat) (ls : Array Slot), HP D Hs h H → LO Hs locs → lv_has ls 6 [(0, rv x0), (1, .int x1), (2, .int x2), (3, .int x3), (4, .int x4)] → f_X4_isCarried_7 n x0 x1 x2 x3 x4 h = some rr → W p l e R s m args below meth c H locs cells slots (ZM D Hs iI rr below args s) (F0 m 7 ls []) := by
  obtain ⟨⟨hx, hb, hml, hown, hts⟩, -⟩ := id C
  have hl9 := C.2.1.2.2.1
  intro n
  induction n with
  | zero =>
    intro x0 x1 x2 x3 x4 h H locs cells slots ls hH hL hl hrun
    cases (show (none : Option _) = some rr from hrun)
  | succ n ih =>
    intro x0 x1 x2 x3 x4 h H locs cells slots ls hH hL hl hrun
    rw [f_X4_isCarried_7] at hrun
    refine lv_iload (pc := 7) hx hb dX4_isCarried_7 (lv_at hl 4 rfl) ?_
    refine V_aload_n (pc := 9) hx hb dX4_isCarried_9 rfl (lv_at hl 0 rfl) ?_
    obtain ⟨c4, hrun⟩ := gd_some hrun
    refine V_getR (pc := 10) C hH fr_X4_16 dX4_isCarried_10 c4 rfl ?_
    obtain ⟨c7, hrun⟩ := gd_some hrun
    refine V_bd (pc := 13) C hL rfl hrun (fun rr1 e1 => Z_runV (rest := [.int x4]) C hH (m_J2_size hl9 e1) wV_X4_94 c7 rfl (by decide) rfl rfl ⟨by decide, by decide⟩ rfl (Nat.le_of_ble_eq_true rfl) hl.1 dX4_isCarried_13) (fun v5 h6 H locs cells slots hH hL hrun => ?_)
    refine lv_icmp_ge (tgt := 82) (pc := 16) hx hb dX4_isCarried_16 (by decide) (fun c_ => ?_) (fun c_ => ?_)
    · have hrun := ite_t hrun c_
      refine lv_iload_n (pc := 82) hx hb dX4_isCarried_82 rfl (lv_at hl 2 rfl) ?_
      refine lv_if_eq (tgt := 90) (pc := 83) hx hb dX4_isCarried_83 (by decide) (fun c_ => ?_) (fun c_ => ?_)
      · have hrun := ite_t hrun c_
        exact b_X4_isCarried_90 C h6 H locs cells slots ls hH hL (lv_sub hl [] rfl) hrun
      · have hrun := ite_f hrun c_
        refine lv_iload_n (pc := 86) hx hb dX4_isCarried_86 rfl (lv_at hl 3 rfl) ?_
        refine lv_if_le (tgt := 94) (pc := 87) hx hb dX4_isCarried_87 (by decide) (fun c_ => ?_) (fun c_ => ?_)
        · have hrun := ite_t hrun c_
          refine lv_iconst (v := (0 : Int32)) (pc := 94) hx hb dX4_isCarried_94 (by decide) ?_
          exact b_X4_isCarried_95 C (0 : Int32) h6 H locs cells slots ls hH hL (lv_sub hl [] rfl) hrun
        · have hrun := ite_f hrun c_
          exact b_X4_isCarried_90 C h6 H locs cells slots ls hH hL (lv_sub hl [] rfl) hrun
    · have hrun := ite_f hrun c_
      refine V_aload_n (pc := 19) hx hb dX4_isCarried_19 rfl (lv_at hl 0 rfl) ?_
      obtain ⟨c8, hrun⟩ := gd_some hrun
      refine V_getR (pc := 20) C hH fr_X4_16 dX4_isCarried_20 c8 rfl ?_
      refine lv_iload (pc := 23) hx hb dX4_isCarried_23 (lv_at hl 4 rfl) ?_
      obtain ⟨c11, hrun⟩ := gd_some hrun
      refine V_bd (pc := 25) C hL rfl hrun (fun rr1 e1 => Z_runV (rest := []) C hH (m_J2_get hl9 e1) wV_X4_108 c11 rfl (by decide) rfl rfl ⟨by decide, by decide⟩ rfl (Nat.le_of_ble_eq_true rfl) hl.1 dX4_isCarried_25) (fun v9 h10 H locs cells slots hH hL hrun => ?_)
      obtain ⟨c12, hrun⟩ := gd_some hrun
      refine V_castX (pc := 28) (ci := 5) C hH rfl (by decide) q1946 dX4_isCarried_28 c12 ?_
      refine V_astore (i := 5) (lv' := [(5, rv v9), (0, rv x0), (1, .int x1), (2, .int x2), (3, .int x3), (4, .int x4)]) (pc := 31) hx hb dX4_isCarried_31 hl (by decide) rfl (fun ls hl => ?_)
      refine V_aload_n (pc := 33) hx hb dX4_isCarried_33 rfl (lv_at hl 1 rfl) ?_
      refine V_aload (pc := 34) hx hb dX4_isCarried_34 (lv_at hl 0 rfl) ?_
      obtain ⟨c15, hrun⟩ := gd_some hrun
      refine V_bd (pc := 36) C hL rfl hrun (fun rr1 e1 => Z_runV (rest := []) C hH (m_X4_subclassOf hl9 e1) wV_X4_241 c15 rfl (by decide) rfl rfl ⟨by decide, by decide⟩ rfl (Nat.le_of_ble_eq_true rfl) hl.1 dX4_isCarried_36) (fun v13 h14 H locs cells slots hH hL hrun => ?_)
      refine lv_iload_n (pc := 39) hx hb dX4_isCarried_39 rfl (lv_at hl 2 rfl) ?_
      refine lv_icmp_ne (tgt := 76) (pc := 40) hx hb dX4_isCarried_40 (by decide) (fun c_ => ?_) (fun c_ => ?_)
      · have hrun := ite_f hrun c_
        exact b_X4_isCarried_76 C ih x0 x1 x2 x3 x4 h14 H locs cells slots ls hH hL (lv_sub hl [1, 2, 3, 4, 5] rfl) hrun
      · have hrun := ite_t hrun c_
        obtain ⟨v16, ev16⟩ : ∃ y : Int32, y = x2 + (1 : Int32) := ⟨_, rfl⟩
        have hrun := vl_at hrun v16 ev16
        refine lv_iinc (v := v16) (lv' := [(2, .int v16), (5, rv v9), (0, rv x0), (1, .int x1), (3, .int x3), (4, .int x4)]) (pc := 43) hx hb dX4_isCarried_43 hl (k := 3) rfl (by rw [ev16]; rfl) (by decide) (by first | rfl | simp [rv_cat, cat_i, cat_l, cat_f, cat_d]) (fun ls hl => ?_)
        refine lv_iload_n (pc := 46) hx hb dX4_isCarried_46 rfl (lv_at hl 4 rfl) ?_
        refine V_aload (pc := 47) hx hb dX4_isCarried_47 (lv_at hl 1 rfl) ?_
        obtain ⟨c17, hrun⟩ := gd_some hrun
        refine V_getI (pc := 49) C hH fr_X4_341 dX4_isCarried_49 c17 rfl ?_
        refine lv_iconst (v := (1 : Int32)) (pc := 52) hx hb dX4_isCarried_52 (by decide) ?_
        refine lv_icmp_ne (tgt := 60) (pc := 53) hx hb dX4_isCarried_53 (by decide) (fun c_ => ?_) (fun c_ => ?_)
        · have hrun := ite_f hrun c_
          refine V_aload (pc := 60) hx hb dX4_isCarried_60 (lv_at hl 1 rfl) ?_
          refine V_getI (pc := 62) C hH fr_X4_341 dX4_isCarried_62 c17 rfl ?_
          refine lv_iconst (v := (2 : Int32)) (pc := 65) hx hb dX4_isCarried_65 (by decide) ?_
          refine lv_icmp_ne (tgt := 73) (pc := 66) hx hb dX4_isCarried_66 (by decide) (fun c_ => ?_) (fun c_ => ?_)
          · have hrun := ite_f hrun c_
            refine lv_iconst (v := (0 : Int32)) (pc := 73) hx hb dX4_isCarried_73 (by decide) ?_
            exact b_X4_isCarried_74 C ih x0 x1 v16 x4 x3 (0 : Int32) h14 H locs cells slots ls hH hL (lv_sub hl [2, 3, 0, 5] rfl) hrun
          · have hrun := ite_t hrun c_
            refine lv_iconst (v := (-1 : Int32)) (pc := 69) hx hb dX4_isCarried_69 (by decide) ?_
            refine lv_goto (tgt := 74) (pc := 70) hx hb dX4_isCarried_70 (by decide) ?_
            exact b_X4_isCarried_74 C ih x0 x1 v16 x4 x3 (-1 : Int32) h14 H locs cells slots ls hH hL (lv_sub hl [2, 3, 0, 5] rfl) hrun
        · have hrun := ite_t hrun c_
          refine lv_iconst (v := (1 : Int32)) (pc := 56) hx hb dX4_isCarried_56 (by decide) ?_
          refine lv_goto (tgt := 74) (pc := 57) hx hb dX4_isCarried_57 (by decide) ?_
          exact b_X4_isCarried_74 C ih x0 x1 v16 x4 x3 (1 : Int32) h14 H locs cells slots ls hH hL (lv_sub hl [2, 3, 0, 5] rfl) hrun

theorem b_X4_isCarried {rr : (Int32 ⊕ Ex) × Hp}  (C : CX p l R s m args meth c D Hs cX4_isCarried "MassclaimModel" 6 (some .boolean) [] 5 87)  : ∀ (x0 : Nat) (x1 : Int32) (h : Hp) (H : Heap) (locs : List Loc) (cells slots : Nat) (ls : Array Slot), HP D Hs h H → LO Hs locs → lv_has ls 6 [(0, rv x0), (1, .int x1)] → f_X4_isCarried x0 x1 h = some rr → W p l e R s m args below meth c H locs cells slots (ZM D Hs iI rr below args s) (F0 m 0 ls []) := by
  obtain ⟨⟨hx, hb, hml, hown, hts⟩, -⟩ := id C
  have hl9 := C.2.1.2.2.1
  intro x0 x1 h H locs cells slots ls hH hL hl hrun
  unfold f_X4_isCarried at hrun
  refine lv_iconst (v := (0 : Int32)) (pc := 0) hx hb dX4_isCarried_0 (by decide) ?_
  refine lv_istore_n (i := 2) (lv' := [(2, .int (0 : Int32)), (0, rv x0), (1, .int x1)]) (pc := 1) hx hb dX4_isCarried_1 rfl hl (by decide) rfl (fun ls hl => ?_)
  refine lv_iconst (v := (0 : Int32)) (pc := 2) hx hb dX4_isCarried_2 (by decide) ?_
  refine lv_istore_n (i := 3) (lv' := [(3, .int (0 : Int32)), (2, .int (0 : Int32)), (0, rv x0), (1, .int x1)]) (pc := 3) hx hb dX4_isCarried_3 rfl hl (by decide) rfl (fun ls hl => ?_)
  refine lv_iconst (v := (0 : Int32)) (pc := 4) hx hb dX4_isCarried_4 (by decide) ?_
  refine lv_istore (i := 4) (lv' := [(4, .int (0 : Int32)), (3, .int (0 : Int32)), (2, .int (0 : Int32)), (0, rv x0), (1, .int x1)]) (pc := 5) hx hb dX4_isCarried_5 hl (by decide) rfl (fun ls hl => ?_)
  exact b_X4_isCarried_7 C FU x0 x1 (0 : Int32) (0 : Int32) (0 : Int32) h H locs cells slots ls hH hL (lv_sub hl [3, 4, 2, 1, 0] rfl) hrun

theorem m_X4_isCarried {l : Launch} {D : va_G} {Hs : Heap} {h : Hp} {rr : (Int32 ⊕ Ex) × Hp} (hl9 : l.stackTraces = false) {x0 : Nat} {x1 : Int32} (hrun : f_X4_isCarried x0 x1 h = some rr) : CM l yX4_isCarried (ws_ yX4_isCarried cX4_isCarried 6 (some .boolean)) 5 87 iI [rv x0, .int x1] D Hs h rr := by
  refine CM.of (lv := [(0, rv x0), (1, .int x1)]) (plainFor_of_name (by decide)) hl9 (by simp [lv_args, rv_cat, cat_i, cat_l, cat_f, cat_d]) (by simp [lg_sl, rv_cat, cat_i, cat_l, cat_f, cat_d]) ?_
  intro p e R s m args below meth c H ls C hH hl hin
  exact b_X4_isCarried C x0 x1 _ H [] _ _ ls hH (fun _ q => nomatch q) (lv_sub hl [0, 1] rfl) hrun

/-! MassclaimModel.wayOf()I -/
def f_X4_wayOf_213  (y0 : Int32) (h : Hp) : Rt Int32 :=
  some (.inl y0, h)
def f_X4_wayOf_178 (k139 : Nat → Int32 → Int32 → Hp → Rt Int32) (x0 : Nat) (x2 : Int32) (x3 : Int32) (h : Hp) : Rt Int32 :=
  vl (x3 + (1 : Int32)) fun v1 => k139 x0 x2 v1 h
def f_X4_wayOf_139  : Nat → Nat → Int32 → Int32 → Hp → Rt Int32
  | 0, _, _, _, _ => none
  | n + 1, x0, x2, x3, h => gd (kC h x0 = 4) <| gd (kC h (kR h 307 x0) = 18) <| bd (f_J2_size (kR h 307 x0) h) fun v3 h4 => if v3 ≤ x3 then
  (gd (kC h4 x0 = 4) <| bd (f_X4_allIn x0 h4) fun v6 h7 => if ((10 : Int32) * x2) ≤ v6 then
  (gd (kC h7 x0 = 4) <| if (kI h7 314 x0) = 0 then
  (f_X4_wayOf_213 (0 : Int32) h7)
  else
  (f_X4_wayOf_213 (-6 : Int32) h7))
  else
  (f_X4_wayOf_213 (-5 : Int32) h7))
  else
  (gd (kC h4 x0 = 4) <| gd (kC h4 (kR h4 307 x0) = 18) <| bd (f_J2_get (kR h4 307 x0) x3 h4) fun v11 h12 => gd (kC h12 v11 = 101) <| gd (kC h12 v11 = 101 ∧ ixo (2 : Int32) (kN h12 v11)) <| if (jI h12 v11 ((2 : Int32)).toNatClampNeg) = (1 : Int32) then
  (gd (kC h12 x0 = 4) <| bd (f_X4_isCarried x0 x3 h12) fun v16 h17 => if v16 = 0 then
  (some (.inl (-4 : Int32), h17))
  else
  (f_X4_wayOf_178 (f_X4_wayOf_139 n) x0 x2 x3 h17))
  else
  (f_X4_wayOf_178 (f_X4_wayOf_139 n) x0 x2 x3 h12))
def f_X4_wayOf_101 (k6 : Nat → Int32 → Int32 → Int32 → Hp → Rt Int32) (x0 : Nat) (x1 : Int32) (x3 : Int32) (y0 : Int32) (y1 : Int32) (h : Hp) : Rt Int32 :=
  vl (y0 + y1) fun v19 => vl (x3 + (1 : Int32)) fun v20 => k6 x0 x1 v19 v20 h
def f_X4_wayOf_100 (k6 : Nat → Int32 → Int32 → Int32 → Hp → Rt Int32) (x0 : Nat) (x1 : Int32) (x3 : Int32) (y0 : Int32) (h : Hp) : Rt Int32 :=
  f_X4_wayOf_101 k6 x0 x1 x3 y0 (0 : Int32) h
def f_X4_wayOf_58 (k6 : Nat → Int32 → Int32 → Int32 → Hp → Rt Int32) (x0 : Nat) (x2 : Int32) (x3 : Int32) (y0 : Int32) (y1 : Int32) (h : Hp) : Rt Int32 :=
  vl (y0 + y1) fun v21 => gd (kC h x0 = 4) <| gd (kC h (kR h 302 x0) = 18) <| bd (f_J2_get (kR h 302 x0) x3 h) fun v23 h24 => gd (v23 = 0 ∨ kC h24 v23 = 6) <| gd (kC h24 x0 = 4) <| bd (f_X4_isIn x0 v23 h24) fun v27 h28 => if v27 = 0 then
  (f_X4_wayOf_100 k6 x0 v21 x3 x2 h28)
  else
  (gd (kC h28 x0 = 4) <| gd (kC h28 (kR h28 302 x0) = 18) <| bd (f_J2_get (kR h28 302 x0) x3 h28) fun v31 h32 => gd (v31 = 0 ∨ kC h32 v31 = 6) <| gd (kC h32 v31 = 6) <| if (kI h32 516 v31) = 0 then
  (f_X4_wayOf_100 k6 x0 v21 x3 x2 h32)
  else
  (f_X4_wayOf_101 k6 x0 v21 x3 x2 (1 : Int32) h32))
def f_X4_wayOf_57 (k6 : Nat → Int32 → Int32 → Int32 → Hp → Rt Int32) (x0 : Nat) (x2 : Int32) (x3 : Int32) (y0 : Int32) (h : Hp) : Rt Int32 :=
  f_X4_wayOf_58 k6 x0 x2 x3 y0 (0 : Int32) h
def f_X4_wayOf_6  : Nat → Nat → Int32 → Int32 → Int32 → Hp → Rt Int32
  | 0, _, _, _, _, _ => none
  | n + 1, x0, x1, x2, x3, h => gd (kC h x0 = 4) <| gd (kC h (kR h 302 x0) = 18) <| bd (f_J2_size (kR h 302 x0) h) fun v37 h38 => if v37 ≤ x3 then
  (gd (kC h38 x0 = 4) <| if (60 : Int32) ≤ ((kI h38 301 x0) - (kI h38 313 x0)) then
  (if x1 ≤ (kI h38 311 x0) then
  (f_X4_wayOf_139 FU x0 x2 (0 : Int32) h38)
  else
  (some (.inl (-3 : Int32), h38)))
  else
  (some (.inl (-8 : Int32), h38)))
  else
  (gd (kC h38 x0 = 4) <| gd (kC h38 (kR h38 302 x0) = 18) <| bd (f_J2_get (kR h38 302 x0) x3 h38) fun v42 h43 => gd (v42 = 0 ∨ kC h43 v42 = 6) <| gd (kC h43 x0 = 4) <| bd (f_X4_fits x0 v42 h43) fun v46 h47 => if v46 = 0 then
  (f_X4_wayOf_57 (f_X4_wayOf_6 n) x0 x2 x3 x1 h47)
  else
  (gd (kC h47 x0 = 4) <| gd (kC h47 (kR h47 302 x0) = 18) <| bd (f_J2_get (kR h47 302 x0) x3 h47) fun v50 h51 => gd (v50 = 0 ∨ kC h51 v50 = 6) <| gd (kC h51 v50 = 6) <| if (kI h51 510 v50) = 0 then
  (f_X4_wayOf_57 (f_X4_wayOf_6 n) x0 x2 x3 x1 h51)
  else
  (f_X4_wayOf_58 (f_X4_wayOf_6 n) x0 x2 x3 x1 (1 : Int32) h51)))
def f_X4_wayOf  (x0 : Nat) (h : Hp) : Rt Int32 :=
  f_X4_wayOf_6 FU x0 (0 : Int32) (0 : Int32) (0 : Int32) h
theorem b_X4_wayOf_213 {rr : (Int32 ⊕ Ex) × Hp}  (C : CX p l R s m args meth c D Hs cX4_wayOf "MassclaimModel" 4 (some .int) [] 6 112)  : ∀ (y0 : Int32) (h : Hp) (H : Heap) (locs : List Loc) (cells slots : Nat) (ls : Array Slot), HP D Hs h H → LO Hs locs → lv_has ls 4 [] → f_X4_wayOf_213 y0 h = some rr → W p l e R s m args below meth c H locs cells slots (ZM D Hs iI rr below args s) (F0 m 213 ls [.int y0]) := by
  obtain ⟨⟨hx, hb, hml, hown, hts⟩, -⟩ := id C
  have hl9 := C.2.1.2.2.1
  intro y0 h H locs cells slots ls hH hL hl hrun
  unfold f_X4_wayOf_213 at hrun
  exact V_iret (pc := 213) C hH hL hrun dX4_wayOf_213

theorem b_X4_wayOf_178 {rr : (Int32 ⊕ Ex) × Hp} {k139 : Nat → Int32 → Int32 → Hp → Rt Int32} (C : CX p l R s m args meth c D Hs cX4_wayOf "MassclaimModel" 4 (some .int) [] 6 112) (K139 : ∀ (x0 : Nat) (x2 : Int32) (x3 : Int32) (h : Hp) (H : Heap) (locs : List Loc) (cells slots : Nat) (ls : Array Slot), HP D Hs h H → LO Hs locs → lv_has ls 4 [(0, rv x0), (2, .int x2), (3, .int x3)] → k139 x0 x2 x3 h = some rr → W p l e R s m args below meth c H locs cells slots (ZM D Hs iI rr below args s) (F0 m 139 ls [])) : ∀ (x0 : Nat) (x2 : Int32) (x3 : Int32) (h : Hp) (H : Heap) (locs : List Loc) (cells slots : Nat) (ls : Array Slot), HP D Hs h H → LO Hs locs → lv_has ls 4 [(0, rv x0), (2, .int x2), (3, .int x3)] → f_X4_wayOf_178 k139 x0 x2 x3 h = some rr → W p l e R s m args below meth c H locs cells slots (ZM D Hs iI rr below args s) (F0 m 178 ls []) := by
  obtain ⟨⟨hx, hb, hml, hown, hts⟩, -⟩ := id C
  have hl9 := C.2.1.2.2.1
  intro x0 x2 x3 h H locs cells slots ls hH hL hl hrun
  unfold f_X4_wayOf_178 at hrun
  obtain ⟨v1, ev1⟩ : ∃ y : Int32, y = x3 + (1 : Int32) := ⟨_, rfl⟩
  have hrun := vl_at hrun v1 ev1
  refine lv_iinc (v := v1) (lv' := [(3, .int v1), (0, rv x0), (2, .int x2)]) (pc := 178) hx hb dX4_wayOf_178 hl (k := 2) rfl (by rw [ev1]; rfl) (by decide) (by first | rfl | simp [rv_cat, cat_i, cat_l, cat_f, cat_d]) (fun ls hl => ?_)
  refine lv_goto (tgt := 139) (pc := 181) hx hb dX4_wayOf_181 (by decide) ?_
  exact K139 x0 x2 v1 h H locs cells slots ls hH hL (lv_sub hl [1, 2, 0] rfl) hrun

theorem b_X4_wayOf_139 {rr : (Int32 ⊕ Ex) × Hp}  (C : CX p l R s m args meth c D Hs cX4_wayOf "MassclaimModel" 4 (some .int) [] 6 112)  : ∀ (n : Nat) (x0 : Nat) (x2 : Int32) (x3 : Int32) (h : Hp) (H : Heap) (locs : List Loc) (cells slots : Nat) (ls : Array Slot), HP D Hs h H → LO Hs locs → lv_has ls 4 [(0, rv x0), (2, .int x2), (3, .int x3)] → f_X4_wayOf_139 n x0 x2 x3 h = some rr → W p l e R s m args below meth c H locs cells slots (ZM D Hs iI rr below args s) (F0 m 139 ls []) := by
  obtain ⟨⟨hx, hb, hml, hown, hts⟩, -⟩ := id C
  have hl9 := C.2.1.2.2.1
  intro n
  induction n with
  | zero =>
    intro x0 x2 x3 h H locs cells slots ls hH hL hl hrun
    cases (show (none : Option _) = some rr from hrun)
  | succ n ih =>
    intro x0 x2 x3 h H locs cells slots ls hH hL hl hrun
    rw [f_X4_wayOf_139] at hrun
    refine lv_iload_n (pc := 139) hx hb dX4_wayOf_139 rfl (lv_at hl 2 rfl) ?_
    refine V_aload_n (pc := 140) hx hb dX4_wayOf_140 rfl (lv_at hl 0 rfl) ?_
    obtain ⟨c2, hrun⟩ := gd_some hrun
    refine V_getR (pc := 141) C hH fr_X4_20 dX4_wayOf_141 c2 rfl ?_
    obtain ⟨c5, hrun⟩ := gd_some hrun
    refine V_bd (pc := 144) C hL rfl hrun (fun rr1 e1 => Z_runV (rest := [.int x3]) C hH (m_J2_size hl9 e1) wV_X4_94 c5 rfl (by decide) rfl rfl ⟨by decide, by decide⟩ rfl (Nat.le_of_ble_eq_true rfl) hl.1 dX4_wayOf_144) (fun v3 h4 H locs cells slots hH hL hrun => ?_)
    refine lv_icmp_ge (tgt := 184) (pc := 147) hx hb dX4_wayOf_147 (by decide) (fun c_ => ?_) (fun c_ => ?_)
    · have hrun := ite_t hrun c_
      refine lv_bipush (v := (10 : Int32)) (pc := 184) hx hb dX4_wayOf_184 (by decide) ?_
      refine lv_iload_n (pc := 186) hx hb dX4_wayOf_186 rfl (lv_at hl 1 rfl) ?_
      refine lv_imul (pc := 187) hx hb dX4_wayOf_187 ?_
      refine V_aload_n (pc := 188) hx hb dX4_wayOf_188 rfl (lv_at hl 0 rfl) ?_
      obtain ⟨c8, hrun⟩ := gd_some hrun
      refine V_bd (pc := 189) C hL rfl hrun (fun rr1 e1 => Z_runV (rest := [.int ((10 : Int32) * x2)]) C hH (m_X4_allIn hl9 e1) wV_X4_235 c8 rfl (by decide) rfl rfl ⟨by decide, by decide⟩ rfl (Nat.le_of_ble_eq_true rfl) hl.1 dX4_wayOf_189) (fun v6 h7 H locs cells slots hH hL hrun => ?_)
      refine lv_icmp_le (tgt := 200) (pc := 192) hx hb dX4_wayOf_192 (by decide) (fun c_ => ?_) (fun c_ => ?_)
      · have hrun := ite_t hrun c_
        refine V_aload_n (pc := 200) hx hb dX4_wayOf_200 rfl (lv_at hl 0 rfl) ?_
        obtain ⟨c9, hrun⟩ := gd_some hrun
        refine V_getI (pc := 201) C hH fr_X4_60 dX4_wayOf_201 c9 rfl ?_
        refine lv_if_eq (tgt := 212) (pc := 204) hx hb dX4_wayOf_204 (by decide) (fun c_ => ?_) (fun c_ => ?_)
        · have hrun := ite_t hrun c_
          refine lv_iconst (v := (0 : Int32)) (pc := 212) hx hb dX4_wayOf_212 (by decide) ?_
          exact b_X4_wayOf_213 C (0 : Int32) h7 H locs cells slots ls hH hL (lv_sub hl [] rfl) hrun
        · have hrun := ite_f hrun c_
          refine lv_bipush (v := (-6 : Int32)) (pc := 207) hx hb dX4_wayOf_207 (by decide) ?_
          refine lv_goto (tgt := 213) (pc := 209) hx hb dX4_wayOf_209 (by decide) ?_
          exact b_X4_wayOf_213 C (-6 : Int32) h7 H locs cells slots ls hH hL (lv_sub hl [] rfl) hrun
      · have hrun := ite_f hrun c_
        refine lv_bipush (v := (-5 : Int32)) (pc := 195) hx hb dX4_wayOf_195 (by decide) ?_
        refine lv_goto (tgt := 213) (pc := 197) hx hb dX4_wayOf_197 (by decide) ?_
        exact b_X4_wayOf_213 C (-5 : Int32) h7 H locs cells slots ls hH hL (lv_sub hl [] rfl) hrun
    · have hrun := ite_f hrun c_
      refine V_aload_n (pc := 150) hx hb dX4_wayOf_150 rfl (lv_at hl 0 rfl) ?_
      obtain ⟨c10, hrun⟩ := gd_some hrun
      refine V_getR (pc := 151) C hH fr_X4_20 dX4_wayOf_151 c10 rfl ?_
      refine lv_iload_n (pc := 154) hx hb dX4_wayOf_154 rfl (lv_at hl 2 rfl) ?_
      obtain ⟨c13, hrun⟩ := gd_some hrun
      refine V_bd (pc := 155) C hL rfl hrun (fun rr1 e1 => Z_runV (rest := []) C hH (m_J2_get hl9 e1) wV_X4_108 c13 rfl (by decide) rfl rfl ⟨by decide, by decide⟩ rfl (Nat.le_of_ble_eq_true rfl) hl.1 dX4_wayOf_155) (fun v11 h12 H locs cells slots hH hL hrun => ?_)
      obtain ⟨c14, hrun⟩ := gd_some hrun
      refine V_castI (pc := 158) C hH q2109 dX4_wayOf_158 c14 ?_
      refine lv_iconst (v := (2 : Int32)) (pc := 161) hx hb dX4_wayOf_161 (by decide) ?_
      obtain ⟨c15, hrun⟩ := gd_some hrun
      refine V_iald (pc := 162) C hH dX4_wayOf_162 c15 ?_
      refine lv_iconst (v := (1 : Int32)) (pc := 163) hx hb dX4_wayOf_163 (by decide) ?_
      refine lv_icmp_ne (tgt := 178) (pc := 164) hx hb dX4_wayOf_164 (by decide) (fun c_ => ?_) (fun c_ => ?_)
      · have hrun := ite_f hrun c_
        exact b_X4_wayOf_178 C ih x0 x2 x3 h12 H locs cells slots ls hH hL (lv_sub hl [0, 1, 2] rfl) hrun
      · have hrun := ite_t hrun c_
        refine V_aload_n (pc := 167) hx hb dX4_wayOf_167 rfl (lv_at hl 0 rfl) ?_
        refine lv_iload_n (pc := 168) hx hb dX4_wayOf_168 rfl (lv_at hl 2 rfl) ?_
        obtain ⟨c18, hrun⟩ := gd_some hrun
        refine V_bd (pc := 169) C hL rfl hrun (fun rr1 e1 => Z_runV (rest := []) C hH (m_X4_isCarried hl9 e1) wV_X4_359 c18 rfl (by decide) rfl rfl ⟨by decide, by decide⟩ rfl (Nat.le_of_ble_eq_true rfl) hl.1 dX4_wayOf_169) (fun v16 h17 H locs cells slots hH hL hrun => ?_)
        refine lv_if_ne (tgt := 178) (pc := 172) hx hb dX4_wayOf_172 (by decide) (fun c_ => ?_) (fun c_ => ?_)
        · have hrun := ite_f hrun c_
          exact b_X4_wayOf_178 C ih x0 x2 x3 h17 H locs cells slots ls hH hL (lv_sub hl [0, 1, 2] rfl) hrun
        · have hrun := ite_t hrun c_
          refine lv_bipush (v := (-4 : Int32)) (pc := 175) hx hb dX4_wayOf_175 (by decide) ?_
          exact V_iret (pc := 177) C hH hL hrun dX4_wayOf_177

theorem b_X4_wayOf_101 {rr : (Int32 ⊕ Ex) × Hp} {k6 : Nat → Int32 → Int32 → Int32 → Hp → Rt Int32} (C : CX p l R s m args meth c D Hs cX4_wayOf "MassclaimModel" 4 (some .int) [] 6 112) (K6 : ∀ (x0 : Nat) (x1 : Int32) (x2 : Int32) (x3 : Int32) (h : Hp) (H : Heap) (locs : List Loc) (cells slots : Nat) (ls : Array Slot), HP D Hs h H → LO Hs locs → lv_has ls 4 [(0, rv x0), (1, .int x1), (2, .int x2), (3, .int x3)] → k6 x0 x1 x2 x3 h = some rr → W p l e R s m args below meth c H locs cells slots (ZM D Hs iI rr below args s) (F0 m 6 ls [])) : ∀ (x0 : Nat) (x1 : Int32) (x3 : Int32) (y0 : Int32) (y1 : Int32) (h : Hp) (H : Heap) (locs : List Loc) (cells slots : Nat) (ls : Array Slot), HP D Hs h H → LO Hs locs → lv_has ls 4 [(0, rv x0), (1, .int x1), (3, .int x3)] → f_X4_wayOf_101 k6 x0 x1 x3 y0 y1 h = some rr → W p l e R s m args below meth c H locs cells slots (ZM D Hs iI rr below args s) (F0 m 101 ls [.int y1, .int y0]) := by
  obtain ⟨⟨hx, hb, hml, hown, hts⟩, -⟩ := id C
  have hl9 := C.2.1.2.2.1
  intro x0 x1 x3 y0 y1 h H locs cells slots ls hH hL hl hrun
  unfold f_X4_wayOf_101 at hrun
  refine lv_iadd (pc := 101) hx hb dX4_wayOf_101 ?_
  refine lv_topi (fun v19 ev19 => ?_)
  have hrun := vl_at hrun v19 ev19
  refine lv_istore_n (i := 2) (lv' := [(2, .int v19), (0, rv x0), (1, .int x1), (3, .int x3)]) (pc := 102) hx hb dX4_wayOf_102 rfl hl (by decide) rfl (fun ls hl => ?_)
  obtain ⟨v20, ev20⟩ : ∃ y : Int32, y = x3 + (1 : Int32) := ⟨_, rfl⟩
  have hrun := vl_at hrun v20 ev20
  refine lv_iinc (v := v20) (lv' := [(3, .int v20), (2, .int v19), (0, rv x0), (1, .int x1)]) (pc := 103) hx hb dX4_wayOf_103 hl (k := 3) rfl (by rw [ev20]; rfl) (by decide) (by first | rfl | simp [rv_cat, cat_i, cat_l, cat_f, cat_d]) (fun ls hl => ?_)
  refine lv_goto (tgt := 6) (pc := 106) hx hb dX4_wayOf_106 (by decide) ?_
  exact K6 x0 x1 v19 v20 h H locs cells slots ls hH hL (lv_sub hl [2, 3, 1, 0] rfl) hrun

theorem b_X4_wayOf_100 {rr : (Int32 ⊕ Ex) × Hp} {k6 : Nat → Int32 → Int32 → Int32 → Hp → Rt Int32} (C : CX p l R s m args meth c D Hs cX4_wayOf "MassclaimModel" 4 (some .int) [] 6 112) (K6 : ∀ (x0 : Nat) (x1 : Int32) (x2 : Int32) (x3 : Int32) (h : Hp) (H : Heap) (locs : List Loc) (cells slots : Nat) (ls : Array Slot), HP D Hs h H → LO Hs locs → lv_has ls 4 [(0, rv x0), (1, .int x1), (2, .int x2), (3, .int x3)] → k6 x0 x1 x2 x3 h = some rr → W p l e R s m args below meth c H locs cells slots (ZM D Hs iI rr below args s) (F0 m 6 ls [])) : ∀ (x0 : Nat) (x1 : Int32) (x3 : Int32) (y0 : Int32) (h : Hp) (H : Heap) (locs : List Loc) (cells slots : Nat) (ls : Array Slot), HP D Hs h H → LO Hs locs → lv_has ls 4 [(0, rv x0), (1, .int x1), (3, .int x3)] → f_X4_wayOf_100 k6 x0 x1 x3 y0 h = some rr → W p l e R s m args below meth c H locs cells slots (ZM D Hs iI rr below args s) (F0 m 100 ls [.int y0]) := by
  obtain ⟨⟨hx, hb, hml, hown, hts⟩, -⟩ := id C
  have hl9 := C.2.1.2.2.1
  intro x0 x1 x3 y0 h H locs cells slots ls hH hL hl hrun
  unfold f_X4_wayOf_100 at hrun
  refine lv_iconst (v := (0 : Int32)) (pc := 100) hx hb dX4_wayOf_100 (by decide) ?_
  exact b_X4_wayOf_101 C K6 x0 x1 x3 y0 (0 : Int32) h H locs cells slots ls hH hL (lv_sub hl [0, 1, 2] rfl) hrun

theorem b_X4_wayOf_58 {rr : (Int32 ⊕ Ex) × Hp} {k6 : Nat → Int32 → Int32 → Int32 → Hp → Rt Int32} (C : CX p l R s m args meth c D Hs cX4_wayOf "MassclaimModel" 4 (some .int) [] 6 112) (K6 : ∀ (x0 : Nat) (x1 : Int32) (x2 : Int32) (x3 : Int32) (h : Hp) (H : Heap) (locs : List Loc) (cells slots : Nat) (ls : Array Slot), HP D Hs h H → LO Hs locs → lv_has ls 4 [(0, rv x0), (1, .int x1), (2, .int x2), (3, .int x3)] → k6 x0 x1 x2 x3 h = some rr → W p l e R s m args below meth c H locs cells slots (ZM D Hs iI rr below args s) (F0 m 6 ls [])) : ∀ (x0 : Nat) (x2 : Int32) (x3 : Int32) (y0 : Int32) (y1 : Int32) (h : Hp) (H : Heap) (locs : List Loc) (cells slots : Nat) (ls : Array Slot), HP D Hs h H → LO Hs locs → lv_has ls 4 [(0, rv x0), (2, .int x2), (3, .int x3)] → f_X4_wayOf_58 k6 x0 x2 x3 y0 y1 h = some rr → W p l e R s m args below meth c H locs cells slots (ZM D Hs iI rr below args s) (F0 m 58 ls [.int y1, .int y0]) := by
  obtain ⟨⟨hx, hb, hml, hown, hts⟩, -⟩ := id C
  have hl9 := C.2.1.2.2.1
  intro x0 x2 x3 y0 y1 h H locs cells slots ls hH hL hl hrun
  unfold f_X4_wayOf_58 at hrun
  refine lv_iadd (pc := 58) hx hb dX4_wayOf_58 ?_
  refine lv_topi (fun v21 ev21 => ?_)
  have hrun := vl_at hrun v21 ev21
  refine lv_istore_n (i := 1) (lv' := [(1, .int v21), (0, rv x0), (2, .int x2), (3, .int x3)]) (pc := 59) hx hb dX4_wayOf_59 rfl hl (by decide) (by simp [rv_cat, cat_i, cat_l, cat_f, cat_d]) (fun ls hl => ?_)
  refine lv_iload_n (pc := 60) hx hb dX4_wayOf_60 rfl (lv_at hl 2 rfl) ?_
  refine V_aload_n (pc := 61) hx hb dX4_wayOf_61 rfl (lv_at hl 1 rfl) ?_
  refine V_aload_n (pc := 62) hx hb dX4_wayOf_62 rfl (lv_at hl 1 rfl) ?_
  obtain ⟨c22, hrun⟩ := gd_some hrun
  refine V_getR (pc := 63) C hH fr_X4_16 dX4_wayOf_63 c22 rfl ?_
  refine lv_iload_n (pc := 66) hx hb dX4_wayOf_66 rfl (lv_at hl 3 rfl) ?_
  obtain ⟨c25, hrun⟩ := gd_some hrun
  refine V_bd (pc := 67) C hL rfl hrun (fun rr1 e1 => Z_runV (rest := [rv x0, .int x2]) C hH (m_J2_get hl9 e1) wV_X4_108 c25 rfl (by decide) rfl rfl ⟨by decide, by decide⟩ rfl (by simp [csum, rv_cat, cat_i, cat_l, cat_f, cat_d]) hl.1 dX4_wayOf_67) (fun v23 h24 H locs cells slots hH hL hrun => ?_)
  obtain ⟨c26, hrun⟩ := gd_some hrun
  refine V_castX (pc := 70) (ci := 5) C hH rfl (by decide) q1946 dX4_wayOf_70 c26 ?_
  obtain ⟨c29, hrun⟩ := gd_some hrun
  refine V_bd (pc := 73) C hL rfl hrun (fun rr1 e1 => Z_runV (rest := [.int x2]) C hH (m_X4_isIn hl9 e1) wV_X4_120 c29 rfl (by decide) rfl rfl ⟨by decide, by decide⟩ rfl (Nat.le_of_ble_eq_true rfl) hl.1 dX4_wayOf_73) (fun v27 h28 H locs cells slots hH hL hrun => ?_)
  refine lv_if_eq (tgt := 100) (pc := 76) hx hb dX4_wayOf_76 (by decide) (fun c_ => ?_) (fun c_ => ?_)
  · have hrun := ite_t hrun c_
    exact b_X4_wayOf_100 C K6 x0 v21 x3 x2 h28 H locs cells slots ls hH hL (lv_sub hl [1, 0, 3] rfl) hrun
  · have hrun := ite_f hrun c_
    refine V_aload_n (pc := 79) hx hb dX4_wayOf_79 rfl (lv_at hl 1 rfl) ?_
    obtain ⟨c30, hrun⟩ := gd_some hrun
    refine V_getR (pc := 80) C hH fr_X4_16 dX4_wayOf_80 c30 rfl ?_
    refine lv_iload_n (pc := 83) hx hb dX4_wayOf_83 rfl (lv_at hl 3 rfl) ?_
    obtain ⟨c33, hrun⟩ := gd_some hrun
    refine V_bd (pc := 84) C hL rfl hrun (fun rr1 e1 => Z_runV (rest := [.int x2]) C hH (m_J2_get hl9 e1) wV_X4_108 c33 rfl (by decide) rfl rfl ⟨by decide, by decide⟩ rfl (Nat.le_of_ble_eq_true rfl) hl.1 dX4_wayOf_84) (fun v31 h32 H locs cells slots hH hL hrun => ?_)
    obtain ⟨c34, hrun⟩ := gd_some hrun
    refine V_castX (pc := 87) (ci := 5) C hH rfl (by decide) q1946 dX4_wayOf_87 c34 ?_
    obtain ⟨c35, hrun⟩ := gd_some hrun
    refine V_getI (pc := 90) C hH fr_X4_344 dX4_wayOf_90 c35 rfl ?_
    refine lv_if_eq (tgt := 100) (pc := 93) hx hb dX4_wayOf_93 (by decide) (fun c_ => ?_) (fun c_ => ?_)
    · have hrun := ite_t hrun c_
      exact b_X4_wayOf_100 C K6 x0 v21 x3 x2 h32 H locs cells slots ls hH hL (lv_sub hl [1, 0, 3] rfl) hrun
    · have hrun := ite_f hrun c_
      refine lv_iconst (v := (1 : Int32)) (pc := 96) hx hb dX4_wayOf_96 (by decide) ?_
      refine lv_goto (tgt := 101) (pc := 97) hx hb dX4_wayOf_97 (by decide) ?_
      exact b_X4_wayOf_101 C K6 x0 v21 x3 x2 (1 : Int32) h32 H locs cells slots ls hH hL (lv_sub hl [1, 0, 3] rfl) hrun

theorem b_X4_wayOf_57 {rr : (Int32 ⊕ Ex) × Hp} {k6 : Nat → Int32 → Int32 → Int32 → Hp → Rt Int32} (C : CX p l R s m args meth c D Hs cX4_wayOf "MassclaimModel" 4 (some .int) [] 6 112) (K6 : ∀ (x0 : Nat) (x1 : Int32) (x2 : Int32) (x3 : Int32) (h : Hp) (H : Heap) (locs : List Loc) (cells slots : Nat) (ls : Array Slot), HP D Hs h H → LO Hs locs → lv_has ls 4 [(0, rv x0), (1, .int x1), (2, .int x2), (3, .int x3)] → k6 x0 x1 x2 x3 h = some rr → W p l e R s m args below meth c H locs cells slots (ZM D Hs iI rr below args s) (F0 m 6 ls [])) : ∀ (x0 : Nat) (x2 : Int32) (x3 : Int32) (y0 : Int32) (h : Hp) (H : Heap) (locs : List Loc) (cells slots : Nat) (ls : Array Slot), HP D Hs h H → LO Hs locs → lv_has ls 4 [(0, rv x0), (2, .int x2), (3, .int x3)] → f_X4_wayOf_57 k6 x0 x2 x3 y0 h = some rr → W p l e R s m args below meth c H locs cells slots (ZM D Hs iI rr below args s) (F0 m 57 ls [.int y0]) := by
  obtain ⟨⟨hx, hb, hml, hown, hts⟩, -⟩ := id C
  have hl9 := C.2.1.2.2.1
  intro x0 x2 x3 y0 h H locs cells slots ls hH hL hl hrun
  unfold f_X4_wayOf_57 at hrun
  refine lv_iconst (v := (0 : Int32)) (pc := 57) hx hb dX4_wayOf_57 (by decide) ?_
  exact b_X4_wayOf_58 C K6 x0 x2 x3 y0 (0 : Int32) h H locs cells slots ls hH hL (lv_sub hl [0, 1, 2] rfl) hrun

theorem b_X4_wayOf_6 {rr : (Int32 ⊕ Ex) × Hp}  (C : CX p l R s m args meth c D Hs cX4_wayOf "MassclaimModel" 4 (some .int) [] 6 112)  : ∀ (n : Nat) (x0 : Nat) (x1 : Int32) (x2 : Int32) (x3 : Int32) (h : Hp) (H : Heap) (locs : List Loc) (cells slots : Nat) (ls : Array Slot), HP D Hs h H → LO Hs locs → lv_has ls 4 [(0, rv x0), (1, .int x1), (2, .int x2), (3, .int x3)] → f_X4_wayOf_6 n x0 x1 x2 x3 h = some rr → W p l e R s m args below meth c H locs cells slots (ZM D Hs iI rr below args s) (F0 m 6 ls []) := by
  obtain ⟨⟨hx, hb, hml, hown, hts⟩, -⟩ := id C
  have hl9 := C.2.1.2.2.1
  intro n
  induction n with
  | zero =>
    intro x0 x1 x2 x3 h H locs cells slots ls hH hL hl hrun
    cases (show (none : Option _) = some rr from hrun)
  | succ n ih =>
    intro x0 x1 x2 x3 h H locs cells slots ls hH hL hl hrun
    rw [f_X4_wayOf_6] at hrun
    refine lv_iload_n (pc := 6) hx hb dX4_wayOf_6 rfl (lv_at hl 3 rfl) ?_
    refine V_aload_n (pc := 7) hx hb dX4_wayOf_7 rfl (lv_at hl 0 rfl) ?_
    obtain ⟨c36, hrun⟩ := gd_some hrun
    refine V_getR (pc := 8) C hH fr_X4_16 dX4_wayOf_8 c36 rfl ?_
    obtain ⟨c39, hrun⟩ := gd_some hrun
    refine V_bd (pc := 11) C hL rfl hrun (fun rr1 e1 => Z_runV (rest := [.int x3]) C hH (m_J2_size hl9 e1) wV_X4_94 c39 rfl (by decide) rfl rfl ⟨by decide, by decide⟩ rfl (Nat.le_of_ble_eq_true rfl) hl.1 dX4_wayOf_11) (fun v37 h38 H locs cells slots hH hL hrun => ?_)
    refine lv_icmp_ge (tgt := 109) (pc := 14) hx hb dX4_wayOf_14 (by decide) (fun c_ => ?_) (fun c_ => ?_)
    · have hrun := ite_t hrun c_
      refine V_aload_n (pc := 109) hx hb dX4_wayOf_109 rfl (lv_at hl 0 rfl) ?_
      obtain ⟨c40, hrun⟩ := gd_some hrun
      refine V_getI (pc := 110) C hH fr_X4_43 dX4_wayOf_110 c40 rfl ?_
      refine V_aload_n (pc := 113) hx hb dX4_wayOf_113 rfl (lv_at hl 0 rfl) ?_
      refine V_getI (pc := 114) C hH fr_X4_350 dX4_wayOf_114 c40 rfl ?_
      refine lv_isub (pc := 117) hx hb dX4_wayOf_117 ?_
      refine lv_bipush (v := (60 : Int32)) (pc := 118) hx hb dX4_wayOf_118 (by decide) ?_
      refine lv_icmp_ge (tgt := 126) (pc := 120) hx hb dX4_wayOf_120 (by decide) (fun c_ => ?_) (fun c_ => ?_)
      · have hrun := ite_t hrun c_
        refine lv_iload_n (pc := 126) hx hb dX4_wayOf_126 rfl (lv_at hl 1 rfl) ?_
        refine V_aload_n (pc := 127) hx hb dX4_wayOf_127 rfl (lv_at hl 0 rfl) ?_
        refine V_getI (pc := 128) C hH fr_X4_335 dX4_wayOf_128 c40 rfl ?_
        refine lv_icmp_le (tgt := 137) (pc := 131) hx hb dX4_wayOf_131 (by decide) (fun c_ => ?_) (fun c_ => ?_)
        · have hrun := ite_t hrun c_
          refine lv_iconst (v := (0 : Int32)) (pc := 137) hx hb dX4_wayOf_137 (by decide) ?_
          refine lv_istore_n (i := 3) (lv' := [(3, .int (0 : Int32)), (0, rv x0), (1, .int x1), (2, .int x2)]) (pc := 138) hx hb dX4_wayOf_138 rfl hl (by decide) rfl (fun ls hl => ?_)
          exact b_X4_wayOf_139 C FU x0 x2 (0 : Int32) h38 H locs cells slots ls hH hL (lv_sub hl [1, 3, 0] rfl) hrun
        · have hrun := ite_f hrun c_
          refine lv_bipush (v := (-3 : Int32)) (pc := 134) hx hb dX4_wayOf_134 (by decide) ?_
          exact V_iret (pc := 136) C hH hL hrun dX4_wayOf_136
      · have hrun := ite_f hrun c_
        refine lv_bipush (v := (-8 : Int32)) (pc := 123) hx hb dX4_wayOf_123 (by decide) ?_
        exact V_iret (pc := 125) C hH hL hrun dX4_wayOf_125
    · have hrun := ite_f hrun c_
      refine lv_iload_n (pc := 17) hx hb dX4_wayOf_17 rfl (lv_at hl 1 rfl) ?_
      refine V_aload_n (pc := 18) hx hb dX4_wayOf_18 rfl (lv_at hl 0 rfl) ?_
      refine V_aload_n (pc := 19) hx hb dX4_wayOf_19 rfl (lv_at hl 0 rfl) ?_
      obtain ⟨c41, hrun⟩ := gd_some hrun
      refine V_getR (pc := 20) C hH fr_X4_16 dX4_wayOf_20 c41 rfl ?_
      refine lv_iload_n (pc := 23) hx hb dX4_wayOf_23 rfl (lv_at hl 3 rfl) ?_
      obtain ⟨c44, hrun⟩ := gd_some hrun
      refine V_bd (pc := 24) C hL rfl hrun (fun rr1 e1 => Z_runV (rest := [rv x0, .int x1]) C hH (m_J2_get hl9 e1) wV_X4_108 c44 rfl (by decide) rfl rfl ⟨by decide, by decide⟩ rfl (by simp [csum, rv_cat, cat_i, cat_l, cat_f, cat_d]) hl.1 dX4_wayOf_24) (fun v42 h43 H locs cells slots hH hL hrun => ?_)
      obtain ⟨c45, hrun⟩ := gd_some hrun
      refine V_castX (pc := 27) (ci := 5) C hH rfl (by decide) q1946 dX4_wayOf_27 c45 ?_
      obtain ⟨c48, hrun⟩ := gd_some hrun
      refine V_bd (pc := 30) C hL rfl hrun (fun rr1 e1 => Z_runV (rest := [.int x1]) C hH (m_X4_fits hl9 e1) wV_X4_222 c48 rfl (by decide) rfl rfl ⟨by decide, by decide⟩ rfl (Nat.le_of_ble_eq_true rfl) hl.1 dX4_wayOf_30) (fun v46 h47 H locs cells slots hH hL hrun => ?_)
      refine lv_if_eq (tgt := 57) (pc := 33) hx hb dX4_wayOf_33 (by decide) (fun c_ => ?_) (fun c_ => ?_)
      · have hrun := ite_t hrun c_
        exact b_X4_wayOf_57 C ih x0 x2 x3 x1 h47 H locs cells slots ls hH hL (lv_sub hl [0, 2, 3] rfl) hrun
      · have hrun := ite_f hrun c_
        refine V_aload_n (pc := 36) hx hb dX4_wayOf_36 rfl (lv_at hl 0 rfl) ?_
        obtain ⟨c49, hrun⟩ := gd_some hrun
        refine V_getR (pc := 37) C hH fr_X4_16 dX4_wayOf_37 c49 rfl ?_
        refine lv_iload_n (pc := 40) hx hb dX4_wayOf_40 rfl (lv_at hl 3 rfl) ?_
        obtain ⟨c52, hrun⟩ := gd_some hrun
        refine V_bd (pc := 41) C hL rfl hrun (fun rr1 e1 => Z_runV (rest := [.int x1]) C hH (m_J2_get hl9 e1) wV_X4_108 c52 rfl (by decide) rfl rfl ⟨by decide, by decide⟩ rfl (Nat.le_of_ble_eq_true rfl) hl.1 dX4_wayOf_41) (fun v50 h51 H locs cells slots hH hL hrun => ?_)
        obtain ⟨c53, hrun⟩ := gd_some hrun
        refine V_castX (pc := 44) (ci := 5) C hH rfl (by decide) q1946 dX4_wayOf_44 c53 ?_
        obtain ⟨c54, hrun⟩ := gd_some hrun
        refine V_getI (pc := 47) C hH fr_X4_225 dX4_wayOf_47 c54 rfl ?_
        refine lv_if_eq (tgt := 57) (pc := 50) hx hb dX4_wayOf_50 (by decide) (fun c_ => ?_) (fun c_ => ?_)
        · have hrun := ite_t hrun c_
          exact b_X4_wayOf_57 C ih x0 x2 x3 x1 h51 H locs cells slots ls hH hL (lv_sub hl [0, 2, 3] rfl) hrun
        · have hrun := ite_f hrun c_
          refine lv_iconst (v := (1 : Int32)) (pc := 53) hx hb dX4_wayOf_53 (by decide) ?_
          refine lv_goto (tgt := 58) (pc := 54) hx hb dX4_wayOf_54 (by decide) ?_
          exact b_X4_wayOf_58 C ih x0 x2 x3 x1 (1 : Int32) h51 H locs cells slots ls hH hL (lv_sub hl [0, 2, 3] rfl) hrun

theorem b_X4_wayOf {rr : (Int32 ⊕ Ex) × Hp}  (C : CX p l R s m args meth c D Hs cX4_wayOf "MassclaimModel" 4 (some .int) [] 6 112)  : ∀ (x0 : Nat) (h : Hp) (H : Heap) (locs : List Loc) (cells slots : Nat) (ls : Array Slot), HP D Hs h H → LO Hs locs → lv_has ls 4 [(0, rv x0)] → f_X4_wayOf x0 h = some rr → W p l e R s m args below meth c H locs cells slots (ZM D Hs iI rr below args s) (F0 m 0 ls []) := by
  obtain ⟨⟨hx, hb, hml, hown, hts⟩, -⟩ := id C
  have hl9 := C.2.1.2.2.1
  intro x0 h H locs cells slots ls hH hL hl hrun
  unfold f_X4_wayOf at hrun
  refine lv_iconst (v := (0 : Int32)) (pc := 0) hx hb dX4_wayOf_0 (by decide) ?_
  refine lv_istore_n (i := 1) (lv' := [(1, .int (0 : Int32)), (0, rv x0)]) (pc := 1) hx hb dX4_wayOf_1 rfl hl (by decide) (by simp [rv_cat, cat_i, cat_l, cat_f, cat_d]) (fun ls hl => ?_)
  refine lv_iconst (v := (0 : Int32)) (pc := 2) hx hb dX4_wayOf_2 (by decide) ?_
  refine lv_istore_n (i := 2) (lv' := [(2, .int (0 : Int32)), (1, .int (0 : Int32)), (0, rv x0)]) (pc := 3) hx hb dX4_wayOf_3 rfl hl (by decide) rfl (fun ls hl => ?_)
  refine lv_iconst (v := (0 : Int32)) (pc := 4) hx hb dX4_wayOf_4 (by decide) ?_
  refine lv_istore_n (i := 3) (lv' := [(3, .int (0 : Int32)), (2, .int (0 : Int32)), (1, .int (0 : Int32)), (0, rv x0)]) (pc := 5) hx hb dX4_wayOf_5 rfl hl (by decide) rfl (fun ls hl => ?_)
  exact b_X4_wayOf_6 C FU x0 (0 : Int32) (0 : Int32) (0 : Int32) h H locs cells slots ls hH hL (lv_sub hl [3, 2, 1, 0] rfl) hrun

theorem m_X4_wayOf {l : Launch} {D : va_G} {Hs : Heap} {h : Hp} {rr : (Int32 ⊕ Ex) × Hp} (hl9 : l.stackTraces = false) {x0 : Nat} (hrun : f_X4_wayOf x0 h = some rr) : CM l yX4_wayOf (ws_ yX4_wayOf cX4_wayOf 4 (some .int)) 6 112 iI [rv x0] D Hs h rr := by
  refine CM.of (lv := [(0, rv x0)]) (plainFor_of_name (by decide)) hl9 (by simp [lv_args, rv_cat, cat_i, cat_l, cat_f, cat_d]) (by simp [lg_sl, rv_cat, cat_i, cat_l, cat_f, cat_d]) ?_
  intro p e R s m args below meth c H ls C hH hl hin
  exact b_X4_wayOf C x0 _ H [] _ _ ls hH (fun _ q => nomatch q) (lv_sub hl [0] rfl) hrun

/-! MassclaimModel.bind()V -/
def f_X4_bind_186 (k143 : Nat → Nat → Int32 → Hp → Rt Unit) (x0 : Nat) (x3 : Nat) (x4 : Int32) (h : Hp) : Rt Unit :=
  vl (x4 + (1 : Int32)) fun v1 => k143 x0 x3 v1 h
def f_X4_bind_143  : Nat → Nat → Nat → Int32 → Hp → Rt Unit
  | 0, _, _, _, _ => none
  | n + 1, x0, x3, x4, h => gd (kC h x3 = 102) <| if (Int32.ofNat (kN h x3)) ≤ x4 then
  (some (.inl (), h))
  else
  (gd (kC h x0 = 4) <| gd (kC h (kR h 308 x0) = 18) <| bd (f_J2_get (kR h 308 x0) x4 h) fun v4 h5 => gd (v4 = 0 ∨ kC h5 v4 = 9) <| gd (kC h5 v4 = 9) <| if (kI h5 804 v4) = 0 then
  (f_X4_bind_186 (f_X4_bind_143 n) x0 x3 x4 h5)
  else
  (gd (kC h5 x3 = 102 ∧ ixo x4 (kN h5 x3)) <| if (jL h5 x3 (x4).toNatClampNeg) ≤ (0 : Int64) then
  (f_X4_bind_186 (f_X4_bind_143 n) x0 x3 x4 h5)
  else
  (gd (kC h5 x3 = 102 ∧ ixo x4 (kN h5 x3)) <| gd (kC h5 x0 = 4) <| bd (f_X4_spread x0 (jL h5 x3 (x4).toNatClampNeg) h5) fun v11 h12 => f_X4_bind_186 (f_X4_bind_143 n) x0 x3 x4 h12)))
def f_X4_bind_131 (k62 : Nat → Int64 → Nat → Int32 → Hp → Rt Unit) (x0 : Nat) (x1 : Int64) (x3 : Nat) (x4 : Int32) (y0 : Nat) (y1 : Int64) (h : Hp) : Rt Unit :=
  gd (kC h y0 = 9) <| vl (sL h 802 y0 y1) fun h15 => vl (x4 + (1 : Int32)) fun v16 => k62 x0 x1 x3 v16 h15
def f_X4_bind_111 (k62 : Nat → Int64 → Nat → Int32 → Hp → Rt Unit) (x0 : Nat) (x1 : Int64) (x3 : Nat) (x4 : Int32) (x5 : Nat) (y0 : Nat) (y1 : Int32) (y2 : Int64) (y3 : Int64) (h : Hp) : Rt Unit :=
  gd (kC h y0 = 102 ∧ ixo y1 (kN h y0)) <| vl (tL h y0 (y1).toNatClampNeg (y2 + y3)) fun h18 => gd (kC h18 x5 = 9) <| if (kI h18 804 x5) = 0 then
  (gd (kC h18 x3 = 102 ∧ ixo x4 (kN h18 x3)) <| f_X4_bind_131 k62 x0 x1 x3 x4 x5 (jL h18 x3 (x4).toNatClampNeg) h18)
  else
  (f_X4_bind_131 k62 x0 x1 x3 x4 x5 (0 : Int64) h18)
def f_X4_bind_62  : Nat → Nat → Int64 → Nat → Int32 → Hp → Rt Unit
  | 0, _, _, _, _, _ => none
  | n + 1, x0, x1, x3, x4, h => gd (kC h x3 = 102) <| if (Int32.ofNat (kN h x3)) ≤ x4 then
  (f_X4_bind_143 FU x0 x3 (0 : Int32) h)
  else
  (gd (kC h x0 = 4) <| gd (kC h (kR h 308 x0) = 18) <| bd (f_J2_get (kR h 308 x0) x4 h) fun v23 h24 => gd (v23 = 0 ∨ kC h24 v23 = 9) <| gd (kC h24 x0 = 4) <| gd (kC h24 v23 = 9) <| if x4 = 0 then
  (f_X4_bind_111 (f_X4_bind_62 n) x0 x1 x3 x4 v23 x3 x4 (((kL h24 310 x0) * ((kI h24 800 v23).toInt64)) / (100 : Int64)) x1 h24)
  else
  (f_X4_bind_111 (f_X4_bind_62 n) x0 x1 x3 x4 v23 x3 x4 (((kL h24 310 x0) * ((kI h24 800 v23).toInt64)) / (100 : Int64)) (0 : Int64) h24))
def f_X4_bind_18  : Nat → Nat → Int64 → Nat → Int32 → Hp → Rt Unit
  | 0, _, _, _, _, _ => none
  | n + 1, x0, x1, x3, x4, h => gd (kC h x3 = 102) <| if (Int32.ofNat (kN h x3)) ≤ x4 then
  (f_X4_bind_62 FU x0 x1 x3 (0 : Int32) h)
  else
  (gd (kC h x0 = 4) <| gd (kC h (kR h 308 x0) = 18) <| bd (f_J2_get (kR h 308 x0) x4 h) fun v31 h32 => gd (v31 = 0 ∨ kC h32 v31 = 9) <| gd (kC h32 v31 = 9) <| vl (x1 - (((kL h 310 x0) * ((kI h32 800 v31).toInt64)) / (100 : Int64))) fun v36 => vl (x4 + (1 : Int32)) fun v37 => f_X4_bind_18 n x0 v36 x3 v37 h32)
def f_X4_bind  (x0 : Nat) (h : Hp) : Rt Unit :=
  gd (kC h x0 = 4) <| vl (kL h 310 x0) fun v39 => gd (kC h (kR h 308 x0) = 18) <| bd (f_J2_size (kR h 308 x0) h) fun v40 h41 => na h41 102 v40 fun q43 h44 => f_X4_bind_18 FU x0 v39 q43 (0 : Int32) h44
theorem b_X4_bind_186 {rr : (Unit ⊕ Ex) × Hp} {k143 : Nat → Nat → Int32 → Hp → Rt Unit} (C : CX p l R s m args meth c D Hs cX4_bind "MassclaimModel" 6 none [] 5 94) (K143 : ∀ (x0 : Nat) (x3 : Nat) (x4 : Int32) (h : Hp) (H : Heap) (locs : List Loc) (cells slots : Nat) (ls : Array Slot), HP D Hs h H → LO Hs locs → lv_has ls 6 [(0, rv x0), (3, rv x3), (4, .int x4)] → k143 x0 x3 x4 h = some rr → W p l e R s m args below meth c H locs cells slots (ZM D Hs iV rr below args s) (F0 m 143 ls [])) : ∀ (x0 : Nat) (x3 : Nat) (x4 : Int32) (h : Hp) (H : Heap) (locs : List Loc) (cells slots : Nat) (ls : Array Slot), HP D Hs h H → LO Hs locs → lv_has ls 6 [(0, rv x0), (3, rv x3), (4, .int x4)] → f_X4_bind_186 k143 x0 x3 x4 h = some rr → W p l e R s m args below meth c H locs cells slots (ZM D Hs iV rr below args s) (F0 m 186 ls []) := by
  obtain ⟨⟨hx, hb, hml, hown, hts⟩, -⟩ := id C
  have hl9 := C.2.1.2.2.1
  intro x0 x3 x4 h H locs cells slots ls hH hL hl hrun
  unfold f_X4_bind_186 at hrun
  obtain ⟨v1, ev1⟩ : ∃ y : Int32, y = x4 + (1 : Int32) := ⟨_, rfl⟩
  have hrun := vl_at hrun v1 ev1
  refine lv_iinc (v := v1) (lv' := [(4, .int v1), (0, rv x0), (3, rv x3)]) (pc := 186) hx hb dX4_bind_186 hl (k := 2) rfl (by rw [ev1]; rfl) (by decide) (by first | rfl | simp [rv_cat, cat_i, cat_l, cat_f, cat_d]) (fun ls hl => ?_)
  refine lv_goto (tgt := 143) (pc := 189) hx hb dX4_bind_189 (by decide) ?_
  exact K143 x0 x3 v1 h H locs cells slots ls hH hL (lv_sub hl [1, 2, 0] rfl) hrun

theorem b_X4_bind_143 {rr : (Unit ⊕ Ex) × Hp}  (C : CX p l R s m args meth c D Hs cX4_bind "MassclaimModel" 6 none [] 5 94)  : ∀ (n : Nat) (x0 : Nat) (x3 : Nat) (x4 : Int32) (h : Hp) (H : Heap) (locs : List Loc) (cells slots : Nat) (ls : Array Slot), HP D Hs h H → LO Hs locs → lv_has ls 6 [(0, rv x0), (3, rv x3), (4, .int x4)] → f_X4_bind_143 n x0 x3 x4 h = some rr → W p l e R s m args below meth c H locs cells slots (ZM D Hs iV rr below args s) (F0 m 143 ls []) := by
  obtain ⟨⟨hx, hb, hml, hown, hts⟩, -⟩ := id C
  have hl9 := C.2.1.2.2.1
  intro n
  induction n with
  | zero =>
    intro x0 x3 x4 h H locs cells slots ls hH hL hl hrun
    cases (show (none : Option _) = some rr from hrun)
  | succ n ih =>
    intro x0 x3 x4 h H locs cells slots ls hH hL hl hrun
    rw [f_X4_bind_143] at hrun
    refine lv_iload (pc := 143) hx hb dX4_bind_143 (lv_at hl 2 rfl) ?_
    refine V_aload_n (pc := 145) hx hb dX4_bind_145 rfl (lv_at hl 1 rfl) ?_
    obtain ⟨c2, hrun⟩ := gd_some hrun
    refine V_alen (pc := 146) C hH dX4_bind_146 c2 (by decide) ?_
    refine lv_icmp_ge (tgt := 192) (pc := 147) hx hb dX4_bind_147 (by decide) (fun c_ => ?_) (fun c_ => ?_)
    · have hrun := ite_t hrun c_
      exact V_vret (pc := 192) C hH hL hrun dX4_bind_192
    · have hrun := ite_f hrun c_
      refine V_aload_n (pc := 150) hx hb dX4_bind_150 rfl (lv_at hl 0 rfl) ?_
      obtain ⟨c3, hrun⟩ := gd_some hrun
      refine V_getR (pc := 151) C hH fr_X4_23 dX4_bind_151 c3 rfl ?_
      refine lv_iload (pc := 154) hx hb dX4_bind_154 (lv_at hl 2 rfl) ?_
      obtain ⟨c6, hrun⟩ := gd_some hrun
      refine V_bd (pc := 156) C hL rfl hrun (fun rr1 e1 => Z_runV (rest := []) C hH (m_J2_get hl9 e1) wV_X4_108 c6 rfl (by decide) rfl rfl ⟨by decide, by decide⟩ rfl (Nat.le_of_ble_eq_true rfl) hl.1 dX4_bind_156) (fun v4 h5 H locs cells slots hH hL hrun => ?_)
      obtain ⟨c7, hrun⟩ := gd_some hrun
      refine V_castX (pc := 159) (ci := 8) C hH rfl (by decide) q2211 dX4_bind_159 c7 ?_
      obtain ⟨c8, hrun⟩ := gd_some hrun
      refine V_getI (pc := 162) C hH fr_X4_314 dX4_bind_162 c8 rfl ?_
      refine lv_if_eq (tgt := 186) (pc := 165) hx hb dX4_bind_165 (by decide) (fun c_ => ?_) (fun c_ => ?_)
      · have hrun := ite_t hrun c_
        exact b_X4_bind_186 C ih x0 x3 x4 h5 H locs cells slots ls hH hL (lv_sub hl [0, 1, 2] rfl) hrun
      · have hrun := ite_f hrun c_
        refine V_aload_n (pc := 168) hx hb dX4_bind_168 rfl (lv_at hl 1 rfl) ?_
        refine lv_iload (pc := 169) hx hb dX4_bind_169 (lv_at hl 2 rfl) ?_
        obtain ⟨c9, hrun⟩ := gd_some hrun
        refine V_lald (pc := 171) C hH dX4_bind_171 c9 ?_
        refine lv_lconst (v := (0 : Int64)) (pc := 172) hx hb dX4_bind_172 (by decide) ?_
        refine V_lcmp_le (tgt := 186) (pc := 173) hx hb dX4_bind_173 dX4_bind_174 (by decide) (fun c_ => ?_) (fun c_ => ?_)
        · have hrun := ite_t hrun c_
          exact b_X4_bind_186 C ih x0 x3 x4 h5 H locs cells slots ls hH hL (lv_sub hl [0, 1, 2] rfl) hrun
        · have hrun := ite_f hrun c_
          refine V_aload_n (pc := 177) hx hb dX4_bind_177 rfl (lv_at hl 0 rfl) ?_
          refine V_aload_n (pc := 178) hx hb dX4_bind_178 rfl (lv_at hl 1 rfl) ?_
          refine lv_iload (pc := 179) hx hb dX4_bind_179 (lv_at hl 2 rfl) ?_
          obtain ⟨c10, hrun⟩ := gd_some hrun
          refine V_lald (pc := 181) C hH dX4_bind_181 c10 ?_
          obtain ⟨c13, hrun⟩ := gd_some hrun
          refine V_bd (pc := 182) C hL rfl hrun (fun rr1 e1 => Z_runV (rest := []) C hH (m_X4_spread hl9 e1) wV_X4_329 c13 rfl (by decide) rfl rfl ⟨by decide, by decide⟩ rfl (Nat.le_of_ble_eq_true rfl) hl.1 dX4_bind_182) (fun v11 h12 H locs cells slots hH hL hrun => ?_)
          refine lv_pop (pc := 185) hx hb dX4_bind_185 rfl ?_
          exact b_X4_bind_186 C ih x0 x3 x4 h12 H locs cells slots ls hH hL (lv_sub hl [0, 1, 2] rfl) hrun

theorem b_X4_bind_131 {rr : (Unit ⊕ Ex) × Hp} {k62 : Nat → Int64 → Nat → Int32 → Hp → Rt Unit} (C : CX p l R s m args meth c D Hs cX4_bind "MassclaimModel" 6 none [] 5 94) (K62 : ∀ (x0 : Nat) (x1 : Int64) (x3 : Nat) (x4 : Int32) (h : Hp) (H : Heap) (locs : List Loc) (cells slots : Nat) (ls : Array Slot), HP D Hs h H → LO Hs locs → lv_has ls 6 [(0, rv x0), (1, .long x1), (3, rv x3), (4, .int x4)] → k62 x0 x1 x3 x4 h = some rr → W p l e R s m args below meth c H locs cells slots (ZM D Hs iV rr below args s) (F0 m 62 ls [])) : ∀ (x0 : Nat) (x1 : Int64) (x3 : Nat) (x4 : Int32) (y0 : Nat) (y1 : Int64) (h : Hp) (H : Heap) (locs : List Loc) (cells slots : Nat) (ls : Array Slot), HP D Hs h H → LO Hs locs → lv_has ls 6 [(0, rv x0), (1, .long x1), (3, rv x3), (4, .int x4)] → f_X4_bind_131 k62 x0 x1 x3 x4 y0 y1 h = some rr → W p l e R s m args below meth c H locs cells slots (ZM D Hs iV rr below args s) (F0 m 131 ls [.long y1, rv y0]) := by
  obtain ⟨⟨hx, hb, hml, hown, hts⟩, -⟩ := id C
  have hl9 := C.2.1.2.2.1
  intro x0 x1 x3 x4 y0 y1 h H locs cells slots ls hH hL hl hrun
  unfold f_X4_bind_131 at hrun
  obtain ⟨c14, hrun⟩ := gd_some hrun
  refine V_putL (pc := 131) C hH hL fl_X4_317 dX4_bind_131 c14 (fok_l _) rfl (fun q => Bool.noConfusion q) hrun (fun h15 H locs hH hL hrun => ?_)
  obtain ⟨v16, ev16⟩ : ∃ y : Int32, y = x4 + (1 : Int32) := ⟨_, rfl⟩
  have hrun := vl_at hrun v16 ev16
  refine lv_iinc (v := v16) (lv' := [(4, .int v16), (0, rv x0), (1, .long x1), (3, rv x3)]) (pc := 134) hx hb dX4_bind_134 hl (k := 3) rfl (by rw [ev16]; rfl) (by decide) (by first | rfl | simp [rv_cat, cat_i, cat_l, cat_f, cat_d]) (fun ls hl => ?_)
  refine lv_goto (tgt := 62) (pc := 137) hx hb dX4_bind_137 (by decide) ?_
  exact K62 x0 x1 x3 v16 h15 H locs cells slots ls hH hL (lv_sub hl [1, 2, 3, 0] rfl) hrun

theorem b_X4_bind_111 {rr : (Unit ⊕ Ex) × Hp} {k62 : Nat → Int64 → Nat → Int32 → Hp → Rt Unit} (C : CX p l R s m args meth c D Hs cX4_bind "MassclaimModel" 6 none [] 5 94) (K62 : ∀ (x0 : Nat) (x1 : Int64) (x3 : Nat) (x4 : Int32) (h : Hp) (H : Heap) (locs : List Loc) (cells slots : Nat) (ls : Array Slot), HP D Hs h H → LO Hs locs → lv_has ls 6 [(0, rv x0), (1, .long x1), (3, rv x3), (4, .int x4)] → k62 x0 x1 x3 x4 h = some rr → W p l e R s m args below meth c H locs cells slots (ZM D Hs iV rr below args s) (F0 m 62 ls [])) : ∀ (x0 : Nat) (x1 : Int64) (x3 : Nat) (x4 : Int32) (x5 : Nat) (y0 : Nat) (y1 : Int32) (y2 : Int64) (y3 : Int64) (h : Hp) (H : Heap) (locs : List Loc) (cells slots : Nat) (ls : Array Slot), HP D Hs h H → LO Hs locs → lv_has ls 6 [(0, rv x0), (1, .long x1), (3, rv x3), (4, .int x4), (5, rv x5)] → f_X4_bind_111 k62 x0 x1 x3 x4 x5 y0 y1 y2 y3 h = some rr → W p l e R s m args below meth c H locs cells slots (ZM D Hs iV rr below args s) (F0 m 111 ls [.long y3, .long y2, .int y1, rv y0]) := by
  obtain ⟨⟨hx, hb, hml, hown, hts⟩, -⟩ := id C
  have hl9 := C.2.1.2.2.1
  intro x0 x1 x3 x4 x5 y0 y1 y2 y3 h H locs cells slots ls hH hL hl hrun
  unfold f_X4_bind_111 at hrun
  refine lv_ladd (pc := 111) hx hb dX4_bind_111 ?_
  obtain ⟨c17, hrun⟩ := gd_some hrun
  refine V_last (pc := 112) C hH hL dX4_bind_112 c17 hrun (fun h18 H locs hH hL hrun => ?_)
  refine V_aload (pc := 113) hx hb dX4_bind_113 (lv_at hl 4 rfl) ?_
  refine V_aload (pc := 115) hx hb dX4_bind_115 (lv_at hl 4 rfl) ?_
  obtain ⟨c19, hrun⟩ := gd_some hrun
  refine V_getI (pc := 117) C hH fr_X4_314 dX4_bind_117 c19 rfl ?_
  refine lv_if_eq (tgt := 127) (pc := 120) hx hb dX4_bind_120 (by decide) (fun c_ => ?_) (fun c_ => ?_)
  · have hrun := ite_t hrun c_
    refine V_aload_n (pc := 127) hx hb dX4_bind_127 rfl (lv_at hl 2 rfl) ?_
    refine lv_iload (pc := 128) hx hb dX4_bind_128 (lv_at hl 3 rfl) ?_
    obtain ⟨c20, hrun⟩ := gd_some hrun
    refine V_lald (pc := 130) C hH dX4_bind_130 c20 ?_
    exact b_X4_bind_131 C K62 x0 x1 x3 x4 x5 (jL h18 x3 (x4).toNatClampNeg) h18 H locs cells slots ls hH hL (lv_sub hl [0, 1, 2, 3] rfl) hrun
  · have hrun := ite_f hrun c_
    refine lv_lconst (v := (0 : Int64)) (pc := 123) hx hb dX4_bind_123 (by decide) ?_
    refine lv_goto (tgt := 131) (pc := 124) hx hb dX4_bind_124 (by decide) ?_
    exact b_X4_bind_131 C K62 x0 x1 x3 x4 x5 (0 : Int64) h18 H locs cells slots ls hH hL (lv_sub hl [0, 1, 2, 3] rfl) hrun

theorem b_X4_bind_62 {rr : (Unit ⊕ Ex) × Hp}  (C : CX p l R s m args meth c D Hs cX4_bind "MassclaimModel" 6 none [] 5 94)  : ∀ (n : Nat) (x0 : Nat) (x1 : Int64) (x3 : Nat) (x4 : Int32) (h : Hp) (H : Heap) (locs : List Loc) (cells slots : Nat) (ls : Array Slot), HP D Hs h H → LO Hs locs → lv_has ls 6 [(0, rv x0), (1, .long x1), (3, rv x3), (4, .int x4)] → f_X4_bind_62 n x0 x1 x3 x4 h = some rr → W p l e R s m args below meth c H locs cells slots (ZM D Hs iV rr below args s) (F0 m 62 ls []) := by
  obtain ⟨⟨hx, hb, hml, hown, hts⟩, -⟩ := id C
  have hl9 := C.2.1.2.2.1
  intro n
  induction n with
  | zero =>
    intro x0 x1 x3 x4 h H locs cells slots ls hH hL hl hrun
    cases (show (none : Option _) = some rr from hrun)
  | succ n ih =>
    intro x0 x1 x3 x4 h H locs cells slots ls hH hL hl hrun
    rw [f_X4_bind_62] at hrun
    refine lv_iload (pc := 62) hx hb dX4_bind_62 (lv_at hl 3 rfl) ?_
    refine V_aload_n (pc := 64) hx hb dX4_bind_64 rfl (lv_at hl 2 rfl) ?_
    obtain ⟨c21, hrun⟩ := gd_some hrun
    refine V_alen (pc := 65) C hH dX4_bind_65 c21 (by decide) ?_
    refine lv_icmp_ge (tgt := 140) (pc := 66) hx hb dX4_bind_66 (by decide) (fun c_ => ?_) (fun c_ => ?_)
    · have hrun := ite_t hrun c_
      refine lv_iconst (v := (0 : Int32)) (pc := 140) hx hb dX4_bind_140 (by decide) ?_
      refine lv_istore (i := 4) (lv' := [(4, .int (0 : Int32)), (0, rv x0), (1, .long x1), (3, rv x3)]) (pc := 141) hx hb dX4_bind_141 hl (by decide) (by simp [rv_cat, cat_i, cat_l, cat_f, cat_d]) (fun ls hl => ?_)
      exact b_X4_bind_143 C FU x0 x3 (0 : Int32) h H locs cells slots ls hH hL (lv_sub hl [1, 3, 0] rfl) hrun
    · have hrun := ite_f hrun c_
      refine V_aload_n (pc := 69) hx hb dX4_bind_69 rfl (lv_at hl 0 rfl) ?_
      obtain ⟨c22, hrun⟩ := gd_some hrun
      refine V_getR (pc := 70) C hH fr_X4_23 dX4_bind_70 c22 rfl ?_
      refine lv_iload (pc := 73) hx hb dX4_bind_73 (lv_at hl 3 rfl) ?_
      obtain ⟨c25, hrun⟩ := gd_some hrun
      refine V_bd (pc := 75) C hL rfl hrun (fun rr1 e1 => Z_runV (rest := []) C hH (m_J2_get hl9 e1) wV_X4_108 c25 rfl (by decide) rfl rfl ⟨by decide, by decide⟩ rfl (Nat.le_of_ble_eq_true rfl) hl.1 dX4_bind_75) (fun v23 h24 H locs cells slots hH hL hrun => ?_)
      obtain ⟨c26, hrun⟩ := gd_some hrun
      refine V_castX (pc := 78) (ci := 8) C hH rfl (by decide) q2211 dX4_bind_78 c26 ?_
      refine V_astore (i := 5) (lv' := [(5, rv v23), (0, rv x0), (1, .long x1), (3, rv x3), (4, .int x4)]) (pc := 81) hx hb dX4_bind_81 hl (by decide) rfl (fun ls hl => ?_)
      refine V_aload_n (pc := 83) hx hb dX4_bind_83 rfl (lv_at hl 3 rfl) ?_
      refine lv_iload (pc := 84) hx hb dX4_bind_84 (lv_at hl 4 rfl) ?_
      refine V_aload_n (pc := 86) hx hb dX4_bind_86 rfl (lv_at hl 1 rfl) ?_
      obtain ⟨c27, hrun⟩ := gd_some hrun
      refine V_getL (pc := 87) C hH fr_X4_56 dX4_bind_87 c27 rfl ?_
      refine V_aload (pc := 90) hx hb dX4_bind_90 (lv_at hl 0 rfl) ?_
      obtain ⟨c28, hrun⟩ := gd_some hrun
      refine V_getI (pc := 92) C hH fr_X4_297 dX4_bind_92 c28 rfl ?_
      refine lv_i2l (pc := 95) hx hb dX4_bind_95 rfl ?_
      refine lv_lmul (pc := 96) hx hb dX4_bind_96 ?_
      refine lv_ldc2 (pc := 97) hx hb hown (hts _ q2205) dX4_bind_97 ?_
      refine lv_ldiv (pc := 100) hx hb dX4_bind_100 (by decide) ?_
      refine lv_iload (pc := 101) hx hb dX4_bind_101 (lv_at hl 4 rfl) ?_
      refine lv_if_ne (tgt := 110) (pc := 103) hx hb dX4_bind_103 (by decide) (fun c_ => ?_) (fun c_ => ?_)
      · have hrun := ite_f hrun c_
        refine lv_lconst (v := (0 : Int64)) (pc := 110) hx hb dX4_bind_110 (by decide) ?_
        exact b_X4_bind_111 C ih x0 x1 x3 x4 v23 x3 x4 (((kL h24 310 x0) * ((kI h24 800 v23).toInt64)) / (100 : Int64)) (0 : Int64) h24 H locs cells slots ls hH hL (lv_sub hl [1, 2, 3, 4, 0] rfl) hrun
      · have hrun := ite_t hrun c_
        refine lv_lload_n (pc := 106) hx hb dX4_bind_106 rfl (lv_at hl 2 rfl) ?_
        refine lv_goto (tgt := 111) (pc := 107) hx hb dX4_bind_107 (by decide) ?_
        exact b_X4_bind_111 C ih x0 x1 x3 x4 v23 x3 x4 (((kL h24 310 x0) * ((kI h24 800 v23).toInt64)) / (100 : Int64)) x1 h24 H locs cells slots ls hH hL (lv_sub hl [1, 2, 3, 4, 0] rfl) hrun

theorem b_X4_bind_18 {rr : (Unit ⊕ Ex) × Hp}  (C : CX p l R s m args meth c D Hs cX4_bind "MassclaimModel" 6 none [] 5 94)  : ∀ (n : Nat) (x0 : Nat) (x1 : Int64) (x3 : Nat) (x4 : Int32) (h : Hp) (H : Heap) (locs : List Loc) (cells slots : Nat) (ls : Array Slot), HP D Hs h H → LO Hs locs → lv_has ls 6 [(0, rv x0), (1, .long x1), (3, rv x3), (4, .int x4)] → f_X4_bind_18 n x0 x1 x3 x4 h = some rr → W p l e R s m args below meth c H locs cells slots (ZM D Hs iV rr below args s) (F0 m 18 ls []) := by
  obtain ⟨⟨hx, hb, hml, hown, hts⟩, -⟩ := id C
  have hl9 := C.2.1.2.2.1
  intro n
  induction n with
  | zero =>
    intro x0 x1 x3 x4 h H locs cells slots ls hH hL hl hrun
    cases (show (none : Option _) = some rr from hrun)
  | succ n ih =>
    intro x0 x1 x3 x4 h H locs cells slots ls hH hL hl hrun
    rw [f_X4_bind_18] at hrun
    refine lv_iload (pc := 18) hx hb dX4_bind_18 (lv_at hl 3 rfl) ?_
    refine V_aload_n (pc := 20) hx hb dX4_bind_20 rfl (lv_at hl 2 rfl) ?_
    obtain ⟨c29, hrun⟩ := gd_some hrun
    refine V_alen (pc := 21) C hH dX4_bind_21 c29 (by decide) ?_
    refine lv_icmp_ge (tgt := 59) (pc := 22) hx hb dX4_bind_22 (by decide) (fun c_ => ?_) (fun c_ => ?_)
    · have hrun := ite_t hrun c_
      refine lv_iconst (v := (0 : Int32)) (pc := 59) hx hb dX4_bind_59 (by decide) ?_
      refine lv_istore (i := 4) (lv' := [(4, .int (0 : Int32)), (0, rv x0), (1, .long x1), (3, rv x3)]) (pc := 60) hx hb dX4_bind_60 hl (by decide) (by simp [rv_cat, cat_i, cat_l, cat_f, cat_d]) (fun ls hl => ?_)
      exact b_X4_bind_62 C FU x0 x1 x3 (0 : Int32) h H locs cells slots ls hH hL (lv_sub hl [1, 2, 3, 0] rfl) hrun
    · have hrun := ite_f hrun c_
      refine lv_lload_n (pc := 25) hx hb dX4_bind_25 rfl (lv_at hl 1 rfl) ?_
      refine V_aload_n (pc := 26) hx hb dX4_bind_26 rfl (lv_at hl 0 rfl) ?_
      obtain ⟨c30, hrun⟩ := gd_some hrun
      refine V_getL (pc := 27) C hH fr_X4_56 dX4_bind_27 c30 rfl ?_
      refine V_aload_n (pc := 30) hx hb dX4_bind_30 rfl (lv_at hl 0 rfl) ?_
      refine V_getR (pc := 31) C hH fr_X4_23 dX4_bind_31 c30 rfl ?_
      refine lv_iload (pc := 34) hx hb dX4_bind_34 (lv_at hl 3 rfl) ?_
      obtain ⟨c33, hrun⟩ := gd_some hrun
      refine V_bd (pc := 36) C hL rfl hrun (fun rr1 e1 => Z_runV (rest := [.long (kL h 310 x0), .long x1]) C hH (m_J2_get hl9 e1) wV_X4_108 c33 rfl (by decide) rfl rfl ⟨by decide, by decide⟩ rfl (Nat.le_of_ble_eq_true rfl) hl.1 dX4_bind_36) (fun v31 h32 H locs cells slots hH hL hrun => ?_)
      obtain ⟨c34, hrun⟩ := gd_some hrun
      refine V_castX (pc := 39) (ci := 8) C hH rfl (by decide) q2211 dX4_bind_39 c34 ?_
      obtain ⟨c35, hrun⟩ := gd_some hrun
      refine V_getI (pc := 42) C hH fr_X4_297 dX4_bind_42 c35 rfl ?_
      refine lv_i2l (pc := 45) hx hb dX4_bind_45 rfl ?_
      refine lv_lmul (pc := 46) hx hb dX4_bind_46 ?_
      refine lv_ldc2 (pc := 47) hx hb hown (hts _ q2205) dX4_bind_47 ?_
      refine lv_ldiv (pc := 50) hx hb dX4_bind_50 (by decide) ?_
      refine lv_lsub (pc := 51) hx hb dX4_bind_51 ?_
      refine lv_topl (fun v36 ev36 => ?_)
      have hrun := vl_at hrun v36 ev36
      refine lv_lstore_n (i := 1) (lv' := [(1, .long v36), (0, rv x0), (3, rv x3), (4, .int x4)]) (pc := 52) hx hb dX4_bind_52 rfl hl (by decide) (by simp [rv_cat, cat_i, cat_l, cat_f, cat_d]) (fun ls hl => ?_)
      obtain ⟨v37, ev37⟩ : ∃ y : Int32, y = x4 + (1 : Int32) := ⟨_, rfl⟩
      have hrun := vl_at hrun v37 ev37
      refine lv_iinc (v := v37) (lv' := [(4, .int v37), (1, .long v36), (0, rv x0), (3, rv x3)]) (pc := 53) hx hb dX4_bind_53 hl (k := 3) rfl (by rw [ev37]; rfl) (by decide) (by first | rfl | simp [rv_cat, cat_i, cat_l, cat_f, cat_d]) (fun ls hl => ?_)
      refine lv_goto (tgt := 18) (pc := 56) hx hb dX4_bind_56 (by decide) ?_
      exact ih x0 v36 x3 v37 h32 H locs cells slots ls hH hL (lv_sub hl [2, 1, 3, 0] rfl) hrun

theorem b_X4_bind {rr : (Unit ⊕ Ex) × Hp}  (C : CX p l R s m args meth c D Hs cX4_bind "MassclaimModel" 6 none [] 5 94)  : ∀ (x0 : Nat) (h : Hp) (H : Heap) (locs : List Loc) (cells slots : Nat) (ls : Array Slot), HP D Hs h H → LO Hs locs → lv_has ls 6 [(0, rv x0)] → f_X4_bind x0 h = some rr → W p l e R s m args below meth c H locs cells slots (ZM D Hs iV rr below args s) (F0 m 0 ls []) := by
  obtain ⟨⟨hx, hb, hml, hown, hts⟩, -⟩ := id C
  have hl9 := C.2.1.2.2.1
  intro x0 h H locs cells slots ls hH hL hl hrun
  unfold f_X4_bind at hrun
  refine V_aload_n (pc := 0) hx hb dX4_bind_0 rfl (lv_at hl 0 rfl) ?_
  obtain ⟨c38, hrun⟩ := gd_some hrun
  refine V_getL (pc := 1) C hH fr_X4_56 dX4_bind_1 c38 rfl ?_
  refine lv_topl (fun v39 ev39 => ?_)
  have hrun := vl_at hrun v39 ev39
  refine lv_lstore_n (i := 1) (lv' := [(1, .long v39), (0, rv x0)]) (pc := 4) hx hb dX4_bind_4 rfl hl (by decide) (by simp [rv_cat, cat_i, cat_l, cat_f, cat_d]) (fun ls hl => ?_)
  refine V_aload_n (pc := 5) hx hb dX4_bind_5 rfl (lv_at hl 1 rfl) ?_
  refine V_getR (pc := 6) C hH fr_X4_23 dX4_bind_6 c38 rfl ?_
  obtain ⟨c42, hrun⟩ := gd_some hrun
  refine V_bd (pc := 9) C hL rfl hrun (fun rr1 e1 => Z_runV (rest := []) C hH (m_J2_size hl9 e1) wV_X4_94 c42 rfl (by decide) rfl rfl ⟨by decide, by decide⟩ rfl (Nat.le_of_ble_eq_true rfl) hl.1 dX4_bind_9) (fun v40 h41 H locs cells slots hH hL hrun => ?_)
  refine V_newa (at_ := .long) (pc := 12) C hH (Or.inr ⟨rfl, rfl⟩) q195 dX4_bind_12 hrun (fun q43 h44 H cells slots hH hrun => ?_)
  refine V_astore_n (i := 3) (lv' := [(3, rv q43), (1, .long v39), (0, rv x0)]) (pc := 14) hx hb dX4_bind_14 rfl hl (by decide) rfl (fun ls hl => ?_)
  refine lv_iconst (v := (0 : Int32)) (pc := 15) hx hb dX4_bind_15 (by decide) ?_
  refine lv_istore (i := 4) (lv' := [(4, .int (0 : Int32)), (3, rv q43), (1, .long v39), (0, rv x0)]) (pc := 16) hx hb dX4_bind_16 hl (by decide) (by simp [rv_cat, cat_i, cat_l, cat_f, cat_d]) (fun ls hl => ?_)
  exact b_X4_bind_18 C FU x0 v39 q43 (0 : Int32) h44 H locs cells slots ls hH hL (lv_sub hl [3, 2, 1, 0] rfl) hrun

theorem m_X4_bind {l : Launch} {D : va_G} {Hs : Heap} {h : Hp} {rr : (Unit ⊕ Ex) × Hp} (hl9 : l.stackTraces = false) {x0 : Nat} (hrun : f_X4_bind x0 h = some rr) : CM l yX4_bind (ws_ yX4_bind cX4_bind 6 none) 5 94 iV [rv x0] D Hs h rr := by
  refine CM.of (lv := [(0, rv x0)]) (plainFor_of_name (by decide)) hl9 (by simp [lv_args, rv_cat, cat_i, cat_l, cat_f, cat_d]) (by simp [lg_sl, rv_cat, cat_i, cat_l, cat_f, cat_d]) ?_
  intro p e R s m args below meth c H ls C hH hl hin
  exact b_X4_bind C x0 _ H [] _ _ ls hH (fun _ q => nomatch q) (lv_sub hl [0] rfl) hrun

/-! MassclaimModel.approve()I -/
def f_X4_approve_108  (x0 : Nat) (x1 : Int32) (h : Hp) : Rt Int32 :=
  if x1 = 0 then
  (gd (kC h x0 = 4) <| vl (sI h 309 x0 (3 : Int32)) fun h2 => gd (kC h2 x0 = 4) <| bd (f_X4_bind x0 h2) fun _ h4 => gd (kC h4 x0 = 4) <| some (.inl (kI h4 309 x0), h4))
  else
  (some (.inl x1, h))
def f_X4_approve_73  (y0 : Int32) (h : Hp) : Rt Int32 :=
  some (.inl y0, h)
def f_X4_approve_57  (x0 : Nat) (h : Hp) : Rt Int32 :=
  gd (kC h x0 = 4) <| bd (f_X4_reach x0 h) fun v7 h8 => if (70 : Int32) ≤ v7 then
  (f_X4_approve_73 (-7 : Int32) h8)
  else
  (f_X4_approve_73 (-2 : Int32) h8)
def f_X4_approve_22  (x0 : Nat) (y0 : Nat) (y1 : Int32) (h : Hp) : Rt Int32 :=
  gd (kC h y0 = 4) <| bd (f_X4_isGood y0 y1 (1 : Int32) h) fun v10 h11 => if v10 = 0 then
  (some (.inl (0 : Int32), h11))
  else
  (gd (kC h11 x0 = 4) <| if (kI h11 309 x0) = (1 : Int32) then
  (bd (f_X4_reach x0 h11) fun v18 h19 => if v18 < (70 : Int32) then
  (f_X4_approve_57 x0 h19)
  else
  (gd (kC h19 x0 = 4) <| bd (f_X4_shares x0 h19) fun v20 h21 => if v20 = (100 : Int32) then
  (gd (kC h21 x0 = 4) <| vl (sI h21 313 x0 (kI h21 301 x0)) fun h24 => gd (kC h24 x0 = 4) <| vl (sI h24 309 x0 (2 : Int32)) fun h26 => gd (kC h26 x0 = 4) <| some (.inl (kI h26 309 x0), h26))
  else
  (f_X4_approve_57 x0 h21)))
  else
  (bd (f_X4_wayOf x0 h11) fun v14 h15 => if v14 = (-3 : Int32) then
  (gd (kC h15 x0 = 4) <| vl (sI h15 309 x0 (4 : Int32)) fun h17 => f_X4_approve_108 x0 v14 h17)
  else
  (f_X4_approve_108 x0 v14 h15)))
def f_X4_approve_17  (x0 : Nat) (y0 : Nat) (h : Hp) : Rt Int32 :=
  f_X4_approve_22 x0 y0 (1 : Int32) h
def f_X4_approve  (x0 : Nat) (h : Hp) : Rt Int32 :=
  gd (kC h x0 = 4) <| if (kI h 309 x0) = (1 : Int32) then
  (f_X4_approve_17 x0 x0 h)
  else
  (if (kI h 309 x0) = (2 : Int32) then
  (f_X4_approve_17 x0 x0 h)
  else
  (f_X4_approve_22 x0 x0 (0 : Int32) h))
theorem b_X4_approve_108 {rr : (Int32 ⊕ Ex) × Hp}  (C : CX p l R s m args meth c D Hs cX4_approve "MassclaimModel" 2 (some .int) [] 7 135)  : ∀ (x0 : Nat) (x1 : Int32) (h : Hp) (H : Heap) (locs : List Loc) (cells slots : Nat) (ls : Array Slot), HP D Hs h H → LO Hs locs → lv_has ls 2 [(0, rv x0), (1, .int x1)] → f_X4_approve_108 x0 x1 h = some rr → W p l e R s m args below meth c H locs cells slots (ZM D Hs iI rr below args s) (F0 m 108 ls []) := by
  obtain ⟨⟨hx, hb, hml, hown, hts⟩, -⟩ := id C
  have hl9 := C.2.1.2.2.1
  intro x0 x1 h H locs cells slots ls hH hL hl hrun
  unfold f_X4_approve_108 at hrun
  refine lv_iload_n (pc := 108) hx hb dX4_approve_108 rfl (lv_at hl 1 rfl) ?_
  refine lv_if_eq (tgt := 114) (pc := 109) hx hb dX4_approve_109 (by decide) (fun c_ => ?_) (fun c_ => ?_)
  · have hrun := ite_t hrun c_
    refine V_aload_n (pc := 114) hx hb dX4_approve_114 rfl (lv_at hl 0 rfl) ?_
    refine lv_iconst (v := (3 : Int32)) (pc := 115) hx hb dX4_approve_115 (by decide) ?_
    obtain ⟨c1, hrun⟩ := gd_some hrun
    refine V_putI (pc := 116) C hH hL fl_X4_53 dX4_approve_116 c1 (fok_i _) rfl (fun q => Bool.noConfusion q) hrun (fun h2 H locs hH hL hrun => ?_)
    refine V_aload_n (pc := 119) hx hb dX4_approve_119 rfl (lv_at hl 0 rfl) ?_
    obtain ⟨c5, hrun⟩ := gd_some hrun
    refine V_bd (pc := 120) C hL rfl hrun (fun rr1 e1 => Z_runV (rest := []) C hH (m_X4_bind hl9 e1) wV_X4_356 c5 rfl (by decide) rfl rfl ⟨by decide, by decide⟩ rfl (Nat.le_of_ble_eq_true rfl) hl.1 dX4_approve_120) (fun _ h4 H locs cells slots hH hL hrun => ?_)
    refine V_aload_n (pc := 123) hx hb dX4_approve_123 rfl (lv_at hl 0 rfl) ?_
    obtain ⟨c6, hrun⟩ := gd_some hrun
    refine V_getI (pc := 124) C hH fr_X4_53 dX4_approve_124 c6 rfl ?_
    exact V_iret (pc := 127) C hH hL hrun dX4_approve_127
  · have hrun := ite_f hrun c_
    refine lv_iload_n (pc := 112) hx hb dX4_approve_112 rfl (lv_at hl 1 rfl) ?_
    exact V_iret (pc := 113) C hH hL hrun dX4_approve_113

theorem b_X4_approve_73 {rr : (Int32 ⊕ Ex) × Hp}  (C : CX p l R s m args meth c D Hs cX4_approve "MassclaimModel" 2 (some .int) [] 7 135)  : ∀ (y0 : Int32) (h : Hp) (H : Heap) (locs : List Loc) (cells slots : Nat) (ls : Array Slot), HP D Hs h H → LO Hs locs → lv_has ls 2 [] → f_X4_approve_73 y0 h = some rr → W p l e R s m args below meth c H locs cells slots (ZM D Hs iI rr below args s) (F0 m 73 ls [.int y0]) := by
  obtain ⟨⟨hx, hb, hml, hown, hts⟩, -⟩ := id C
  have hl9 := C.2.1.2.2.1
  intro y0 h H locs cells slots ls hH hL hl hrun
  unfold f_X4_approve_73 at hrun
  exact V_iret (pc := 73) C hH hL hrun dX4_approve_73

theorem b_X4_approve_57 {rr : (Int32 ⊕ Ex) × Hp}  (C : CX p l R s m args meth c D Hs cX4_approve "MassclaimModel" 2 (some .int) [] 7 135)  : ∀ (x0 : Nat) (h : Hp) (H : Heap) (locs : List Loc) (cells slots : Nat) (ls : Array Slot), HP D Hs h H → LO Hs locs → lv_has ls 2 [(0, rv x0)] → f_X4_approve_57 x0 h = some rr → W p l e R s m args below meth c H locs cells slots (ZM D Hs iI rr below args s) (F0 m 57 ls []) := by
  obtain ⟨⟨hx, hb, hml, hown, hts⟩, -⟩ := id C
  have hl9 := C.2.1.2.2.1
  intro x0 h H locs cells slots ls hH hL hl hrun
  unfold f_X4_approve_57 at hrun
  refine V_aload_n (pc := 57) hx hb dX4_approve_57 rfl (lv_at hl 0 rfl) ?_
  obtain ⟨c9, hrun⟩ := gd_some hrun
  refine V_bd (pc := 58) C hL rfl hrun (fun rr1 e1 => Z_runV (rest := []) C hH (m_X4_reach hl9 e1) wV_X4_347 c9 rfl (by decide) rfl rfl ⟨by decide, by decide⟩ rfl (Nat.le_of_ble_eq_true rfl) hl.1 dX4_approve_58) (fun v7 h8 H locs cells slots hH hL hrun => ?_)
  refine lv_bipush (v := (70 : Int32)) (pc := 61) hx hb dX4_approve_61 (by decide) ?_
  refine lv_icmp_ge (tgt := 71) (pc := 63) hx hb dX4_approve_63 (by decide) (fun c_ => ?_) (fun c_ => ?_)
  · have hrun := ite_t hrun c_
    refine lv_bipush (v := (-7 : Int32)) (pc := 71) hx hb dX4_approve_71 (by decide) ?_
    exact b_X4_approve_73 C (-7 : Int32) h8 H locs cells slots ls hH hL (lv_sub hl [] rfl) hrun
  · have hrun := ite_f hrun c_
    refine lv_bipush (v := (-2 : Int32)) (pc := 66) hx hb dX4_approve_66 (by decide) ?_
    refine lv_goto (tgt := 73) (pc := 68) hx hb dX4_approve_68 (by decide) ?_
    exact b_X4_approve_73 C (-2 : Int32) h8 H locs cells slots ls hH hL (lv_sub hl [] rfl) hrun

theorem b_X4_approve_22 {rr : (Int32 ⊕ Ex) × Hp}  (C : CX p l R s m args meth c D Hs cX4_approve "MassclaimModel" 2 (some .int) [] 7 135)  : ∀ (x0 : Nat) (y0 : Nat) (y1 : Int32) (h : Hp) (H : Heap) (locs : List Loc) (cells slots : Nat) (ls : Array Slot), HP D Hs h H → LO Hs locs → lv_has ls 2 [(0, rv x0)] → f_X4_approve_22 x0 y0 y1 h = some rr → W p l e R s m args below meth c H locs cells slots (ZM D Hs iI rr below args s) (F0 m 22 ls [.int y1, rv y0]) := by
  obtain ⟨⟨hx, hb, hml, hown, hts⟩, -⟩ := id C
  have hl9 := C.2.1.2.2.1
  intro x0 y0 y1 h H locs cells slots ls hH hL hl hrun
  unfold f_X4_approve_22 at hrun
  refine lv_iconst (v := (1 : Int32)) (pc := 22) hx hb dX4_approve_22 (by decide) ?_
  obtain ⟨c12, hrun⟩ := gd_some hrun
  refine V_bd (pc := 23) C hL rfl hrun (fun rr1 e1 => Z_runV (rest := []) C hH (m_X4_isGood hl9 e1) wV_X4_104 c12 rfl (by decide) rfl rfl ⟨by decide, by decide⟩ rfl (Nat.le_of_ble_eq_true rfl) hl.1 dX4_approve_23) (fun v10 h11 H locs cells slots hH hL hrun => ?_)
  refine lv_if_ne (tgt := 31) (pc := 26) hx hb dX4_approve_26 (by decide) (fun c_ => ?_) (fun c_ => ?_)
  · have hrun := ite_f hrun c_
    refine V_aload_n (pc := 31) hx hb dX4_approve_31 rfl (lv_at hl 0 rfl) ?_
    obtain ⟨c13, hrun⟩ := gd_some hrun
    refine V_getI (pc := 32) C hH fr_X4_53 dX4_approve_32 c13 rfl ?_
    refine lv_iconst (v := (1 : Int32)) (pc := 35) hx hb dX4_approve_35 (by decide) ?_
    refine lv_icmp_ne (tgt := 92) (pc := 36) hx hb dX4_approve_36 (by decide) (fun c_ => ?_) (fun c_ => ?_)
    · have hrun := ite_f hrun c_
      refine V_aload_n (pc := 92) hx hb dX4_approve_92 rfl (lv_at hl 0 rfl) ?_
      refine V_bd (pc := 93) C hL rfl hrun (fun rr1 e1 => Z_runV (rest := []) C hH (m_X4_wayOf hl9 e1) wV_X4_353 c13 rfl (by decide) rfl rfl ⟨by decide, by decide⟩ rfl (Nat.le_of_ble_eq_true rfl) hl.1 dX4_approve_93) (fun v14 h15 H locs cells slots hH hL hrun => ?_)
      refine lv_istore_n (i := 1) (lv' := [(1, .int v14), (0, rv x0)]) (pc := 96) hx hb dX4_approve_96 rfl hl (by decide) (by simp [rv_cat, cat_i, cat_l, cat_f, cat_d]) (fun ls hl => ?_)
      refine lv_iload_n (pc := 97) hx hb dX4_approve_97 rfl (lv_at hl 0 rfl) ?_
      refine lv_bipush (v := (-3 : Int32)) (pc := 98) hx hb dX4_approve_98 (by decide) ?_
      refine lv_icmp_ne (tgt := 108) (pc := 100) hx hb dX4_approve_100 (by decide) (fun c_ => ?_) (fun c_ => ?_)
      · have hrun := ite_f hrun c_
        exact b_X4_approve_108 C x0 v14 h15 H locs cells slots ls hH hL (lv_sub hl [1, 0] rfl) hrun
      · have hrun := ite_t hrun c_
        refine V_aload_n (pc := 103) hx hb dX4_approve_103 rfl (lv_at hl 1 rfl) ?_
        refine lv_iconst (v := (4 : Int32)) (pc := 104) hx hb dX4_approve_104 (by decide) ?_
        obtain ⟨c16, hrun⟩ := gd_some hrun
        refine V_putI (pc := 105) C hH hL fl_X4_53 dX4_approve_105 c16 (fok_i _) rfl (fun q => Bool.noConfusion q) hrun (fun h17 H locs hH hL hrun => ?_)
        exact b_X4_approve_108 C x0 v14 h17 H locs cells slots ls hH hL (lv_sub hl [1, 0] rfl) hrun
    · have hrun := ite_t hrun c_
      refine V_aload_n (pc := 39) hx hb dX4_approve_39 rfl (lv_at hl 0 rfl) ?_
      refine V_bd (pc := 40) C hL rfl hrun (fun rr1 e1 => Z_runV (rest := []) C hH (m_X4_reach hl9 e1) wV_X4_347 c13 rfl (by decide) rfl rfl ⟨by decide, by decide⟩ rfl (Nat.le_of_ble_eq_true rfl) hl.1 dX4_approve_40) (fun v18 h19 H locs cells slots hH hL hrun => ?_)
      refine lv_bipush (v := (70 : Int32)) (pc := 43) hx hb dX4_approve_43 (by decide) ?_
      refine lv_icmp_lt (tgt := 57) (pc := 45) hx hb dX4_approve_45 (by decide) (fun c_ => ?_) (fun c_ => ?_)
      · have hrun := ite_t hrun c_
        exact b_X4_approve_57 C x0 h19 H locs cells slots ls hH hL (lv_sub hl [0] rfl) hrun
      · have hrun := ite_f hrun c_
        refine V_aload_n (pc := 48) hx hb dX4_approve_48 rfl (lv_at hl 0 rfl) ?_
        obtain ⟨c22, hrun⟩ := gd_some hrun
        refine V_bd (pc := 49) C hL rfl hrun (fun rr1 e1 => Z_runV (rest := []) C hH (m_X4_shares hl9 e1) wV_X4_304 c22 rfl (by decide) rfl rfl ⟨by decide, by decide⟩ rfl (Nat.le_of_ble_eq_true rfl) hl.1 dX4_approve_49) (fun v20 h21 H locs cells slots hH hL hrun => ?_)
        refine lv_bipush (v := (100 : Int32)) (pc := 52) hx hb dX4_approve_52 (by decide) ?_
        refine lv_icmp_eq (tgt := 74) (pc := 54) hx hb dX4_approve_54 (by decide) (fun c_ => ?_) (fun c_ => ?_)
        · have hrun := ite_t hrun c_
          refine V_aload_n (pc := 74) hx hb dX4_approve_74 rfl (lv_at hl 0 rfl) ?_
          refine V_aload_n (pc := 75) hx hb dX4_approve_75 rfl (lv_at hl 0 rfl) ?_
          obtain ⟨c23, hrun⟩ := gd_some hrun
          refine V_getI (pc := 76) C hH fr_X4_43 dX4_approve_76 c23 rfl ?_
          refine V_putI (pc := 79) C hH hL fl_X4_350 dX4_approve_79 c23 (fok_i _) rfl (fun q => Bool.noConfusion q) hrun (fun h24 H locs hH hL hrun => ?_)
          refine V_aload_n (pc := 82) hx hb dX4_approve_82 rfl (lv_at hl 0 rfl) ?_
          refine lv_iconst (v := (2 : Int32)) (pc := 83) hx hb dX4_approve_83 (by decide) ?_
          obtain ⟨c25, hrun⟩ := gd_some hrun
          refine V_putI (pc := 84) C hH hL fl_X4_53 dX4_approve_84 c25 (fok_i _) rfl (fun q => Bool.noConfusion q) hrun (fun h26 H locs hH hL hrun => ?_)
          refine V_aload_n (pc := 87) hx hb dX4_approve_87 rfl (lv_at hl 0 rfl) ?_
          obtain ⟨c27, hrun⟩ := gd_some hrun
          refine V_getI (pc := 88) C hH fr_X4_53 dX4_approve_88 c27 rfl ?_
          exact V_iret (pc := 91) C hH hL hrun dX4_approve_91
        · have hrun := ite_f hrun c_
          exact b_X4_approve_57 C x0 h21 H locs cells slots ls hH hL (lv_sub hl [0] rfl) hrun
  · have hrun := ite_t hrun c_
    refine lv_iconst (v := (0 : Int32)) (pc := 29) hx hb dX4_approve_29 (by decide) ?_
    exact V_iret (pc := 30) C hH hL hrun dX4_approve_30

theorem b_X4_approve_17 {rr : (Int32 ⊕ Ex) × Hp}  (C : CX p l R s m args meth c D Hs cX4_approve "MassclaimModel" 2 (some .int) [] 7 135)  : ∀ (x0 : Nat) (y0 : Nat) (h : Hp) (H : Heap) (locs : List Loc) (cells slots : Nat) (ls : Array Slot), HP D Hs h H → LO Hs locs → lv_has ls 2 [(0, rv x0)] → f_X4_approve_17 x0 y0 h = some rr → W p l e R s m args below meth c H locs cells slots (ZM D Hs iI rr below args s) (F0 m 17 ls [rv y0]) := by
  obtain ⟨⟨hx, hb, hml, hown, hts⟩, -⟩ := id C
  have hl9 := C.2.1.2.2.1
  intro x0 y0 h H locs cells slots ls hH hL hl hrun
  unfold f_X4_approve_17 at hrun
  refine lv_iconst (v := (1 : Int32)) (pc := 17) hx hb dX4_approve_17 (by decide) ?_
  refine lv_goto (tgt := 22) (pc := 18) hx hb dX4_approve_18 (by decide) ?_
  exact b_X4_approve_22 C x0 y0 (1 : Int32) h H locs cells slots ls hH hL (lv_sub hl [0] rfl) hrun

theorem b_X4_approve {rr : (Int32 ⊕ Ex) × Hp}  (C : CX p l R s m args meth c D Hs cX4_approve "MassclaimModel" 2 (some .int) [] 7 135)  : ∀ (x0 : Nat) (h : Hp) (H : Heap) (locs : List Loc) (cells slots : Nat) (ls : Array Slot), HP D Hs h H → LO Hs locs → lv_has ls 2 [(0, rv x0)] → f_X4_approve x0 h = some rr → W p l e R s m args below meth c H locs cells slots (ZM D Hs iI rr below args s) (F0 m 0 ls []) := by
  obtain ⟨⟨hx, hb, hml, hown, hts⟩, -⟩ := id C
  have hl9 := C.2.1.2.2.1
  intro x0 h H locs cells slots ls hH hL hl hrun
  unfold f_X4_approve at hrun
  refine V_aload_n (pc := 0) hx hb dX4_approve_0 rfl (lv_at hl 0 rfl) ?_
  refine V_aload_n (pc := 1) hx hb dX4_approve_1 rfl (lv_at hl 0 rfl) ?_
  obtain ⟨c28, hrun⟩ := gd_some hrun
  refine V_getI (pc := 2) C hH fr_X4_53 dX4_approve_2 c28 rfl ?_
  refine lv_iconst (v := (1 : Int32)) (pc := 5) hx hb dX4_approve_5 (by decide) ?_
  refine lv_icmp_eq (tgt := 17) (pc := 6) hx hb dX4_approve_6 (by decide) (fun c_ => ?_) (fun c_ => ?_)
  · have hrun := ite_t hrun c_
    exact b_X4_approve_17 C x0 x0 h H locs cells slots ls hH hL (lv_sub hl [0] rfl) hrun
  · have hrun := ite_f hrun c_
    refine V_aload_n (pc := 9) hx hb dX4_approve_9 rfl (lv_at hl 0 rfl) ?_
    refine V_getI (pc := 10) C hH fr_X4_53 dX4_approve_10 c28 rfl ?_
    refine lv_iconst (v := (2 : Int32)) (pc := 13) hx hb dX4_approve_13 (by decide) ?_
    refine lv_icmp_ne (tgt := 21) (pc := 14) hx hb dX4_approve_14 (by decide) (fun c_ => ?_) (fun c_ => ?_)
    · have hrun := ite_f hrun c_
      refine lv_iconst (v := (0 : Int32)) (pc := 21) hx hb dX4_approve_21 (by decide) ?_
      exact b_X4_approve_22 C x0 x0 (0 : Int32) h H locs cells slots ls hH hL (lv_sub hl [0] rfl) hrun
    · have hrun := ite_t hrun c_
      exact b_X4_approve_17 C x0 x0 h H locs cells slots ls hH hL (lv_sub hl [0] rfl) hrun

theorem m_X4_approve {l : Launch} {D : va_G} {Hs : Heap} {h : Hp} {rr : (Int32 ⊕ Ex) × Hp} (hl9 : l.stackTraces = false) {x0 : Nat} (hrun : f_X4_approve x0 h = some rr) : CM l yX4_approve (ws_ yX4_approve cX4_approve 2 (some .int)) 7 135 iI [rv x0] D Hs h rr := by
  refine CM.of (lv := [(0, rv x0)]) (plainFor_of_name (by decide)) hl9 (by simp [lv_args, rv_cat, cat_i, cat_l, cat_f, cat_d]) (by simp [lg_sl, rv_cat, cat_i, cat_l, cat_f, cat_d]) ?_
  intro p e R s m args below meth c H ls C hH hl hin
  exact b_X4_approve C x0 _ H [] _ _ ls hH (fun _ q => nomatch q) (lv_sub hl [0] rfl) hrun

/-! Massclaim.vote(IZ)I -/
def f_X1_vote_106 (k68 : Int32 → Nat → Hp → Rt Int32) (x5 : Nat) (y0 : Int32) (y1 : Int32) (h : Hp) : Rt Int32 :=
  vl (y0 + y1) fun v1 => k68 v1 x5 h
def f_X1_vote_68  : Nat → Int32 → Nat → Hp → Rt Int32
  | 0, _, _, _ => none
  | n + 1, x4, x5, h => gd (kC h x5 = 19) <| bd (f_J16_hasNext x5 h) fun v2 h3 => if v2 = 0 then
  (some (.inl x4, h3))
  else
  (gd (kC h3 x5 = 19) <| bd (f_J16_next x5 h3) fun v5 h6 => gd (v5 = 0 ∨ kC h6 v5 = 5) <| gd (kC h6 v5 = 5) <| if (kI h6 413 v5) = (-1 : Int32) then
  (f_X1_vote_106 (f_X1_vote_68 n) x5 x4 (0 : Int32) h6)
  else
  (f_X1_vote_106 (f_X1_vote_68 n) x5 x4 (1 : Int32) h6))
def f_X1_vote_53  (x0 : Nat) (y0 : Nat) (y1 : Int32) (h : Hp) : Rt Int32 :=
  gd (kC h y0 = 5) <| vl (sI h 413 y0 y1) fun h11 => gd (kC h11 x0 = 1) <| gd (kC h11 (kR h11 0 x0) = 2) <| bd (f_X2_iterator (kR h11 0 x0) h11) fun v13 h14 => f_X1_vote_68 FU (0 : Int32) v13 h14
def f_X1_vote_40  (x0 : Nat) (x2 : Int32) (x3 : Nat) (y0 : Int32) (h : Hp) : Rt Int32 :=
  bd (f_X1_requireState y0 h) fun _ h17 => if x2 = 0 then
  (f_X1_vote_53 x0 x3 (0 : Int32) h17)
  else
  (f_X1_vote_53 x0 x3 (1 : Int32) h17)
def f_X1_vote_39  (x0 : Nat) (x2 : Int32) (x3 : Nat) (h : Hp) : Rt Int32 :=
  f_X1_vote_40 x0 x2 x3 (0 : Int32) h
def f_X1_vote  (x0 : Nat) (x1 : Int32) (x2 : Int32) (h : Hp) : Rt Int32 :=
  gd (kC h x0 = 1) <| gd (kC h (kR h 0 x0) = 2) <| bd (f_X2_at (kR h 0 x0) x1 h) fun v19 h20 => gd (v19 = 0 ∨ kC h20 v19 = 5) <| gd (kC h20 v19 = 5) <| bd (f_X5_isMember v19 h20) fun v23 h24 => if v23 = 0 then
  (f_X1_vote_39 x0 x2 v19 h24)
  else
  (gd (kC h24 v19 = 5) <| if (kI h24 413 v19) = (-1 : Int32) then
  (gd (kC h24 x0 = 1) <| bd (f_X1_stage x0 h24) fun v27 h28 => if v27 = (2 : Int32) then
  (f_X1_vote_40 x0 x2 v19 (1 : Int32) h28)
  else
  (f_X1_vote_39 x0 x2 v19 h28))
  else
  (f_X1_vote_39 x0 x2 v19 h24))
theorem b_X1_vote_106 {rr : (Int32 ⊕ Ex) × Hp} {k68 : Int32 → Nat → Hp → Rt Int32} (C : CX p l R s m args meth c D Hs cX1_vote "Massclaim" 7 (some .int) [] 8 131) (K68 : ∀ (x4 : Int32) (x5 : Nat) (h : Hp) (H : Heap) (locs : List Loc) (cells slots : Nat) (ls : Array Slot), HP D Hs h H → LO Hs locs → lv_has ls 7 [(4, .int x4), (5, rv x5)] → k68 x4 x5 h = some rr → W p l e R s m args below meth c H locs cells slots (ZM D Hs iI rr below args s) (F0 m 68 ls [])) : ∀ (x5 : Nat) (y0 : Int32) (y1 : Int32) (h : Hp) (H : Heap) (locs : List Loc) (cells slots : Nat) (ls : Array Slot), HP D Hs h H → LO Hs locs → lv_has ls 7 [(5, rv x5)] → f_X1_vote_106 k68 x5 y0 y1 h = some rr → W p l e R s m args below meth c H locs cells slots (ZM D Hs iI rr below args s) (F0 m 106 ls [.int y1, .int y0]) := by
  obtain ⟨⟨hx, hb, hml, hown, hts⟩, -⟩ := id C
  have hl9 := C.2.1.2.2.1
  intro x5 y0 y1 h H locs cells slots ls hH hL hl hrun
  unfold f_X1_vote_106 at hrun
  refine lv_iadd (pc := 106) hx hb dX1_vote_106 ?_
  refine lv_topi (fun v1 ev1 => ?_)
  have hrun := vl_at hrun v1 ev1
  refine lv_istore (i := 4) (lv' := [(4, .int v1), (5, rv x5)]) (pc := 107) hx hb dX1_vote_107 hl (by decide) rfl (fun ls hl => ?_)
  refine lv_goto (tgt := 68) (pc := 109) hx hb dX1_vote_109 (by decide) ?_
  exact K68 v1 x5 h H locs cells slots ls hH hL (lv_sub hl [0, 1] rfl) hrun

theorem b_X1_vote_68 {rr : (Int32 ⊕ Ex) × Hp}  (C : CX p l R s m args meth c D Hs cX1_vote "Massclaim" 7 (some .int) [] 8 131)  : ∀ (n : Nat) (x4 : Int32) (x5 : Nat) (h : Hp) (H : Heap) (locs : List Loc) (cells slots : Nat) (ls : Array Slot), HP D Hs h H → LO Hs locs → lv_has ls 7 [(4, .int x4), (5, rv x5)] → f_X1_vote_68 n x4 x5 h = some rr → W p l e R s m args below meth c H locs cells slots (ZM D Hs iI rr below args s) (F0 m 68 ls []) := by
  obtain ⟨⟨hx, hb, hml, hown, hts⟩, -⟩ := id C
  have hl9 := C.2.1.2.2.1
  intro n
  induction n with
  | zero =>
    intro x4 x5 h H locs cells slots ls hH hL hl hrun
    cases (show (none : Option _) = some rr from hrun)
  | succ n ih =>
    intro x4 x5 h H locs cells slots ls hH hL hl hrun
    rw [f_X1_vote_68] at hrun
    refine V_aload (pc := 68) hx hb dX1_vote_68 (lv_at hl 1 rfl) ?_
    obtain ⟨c4, hrun⟩ := gd_some hrun
    refine V_bd5 (pc := 70) C hL rfl hrun (fun rr1 e1 => Z_runF (rest := []) C hH (m_J16_hasNext hl9 e1) rfl wF_X1_212_J16 c4 (by decide) rfl ⟨by decide, by decide⟩ rfl (Nat.le_of_ble_eq_true rfl) hl.1 dX1_vote_70) (fun v2 h3 H locs cells slots hH hL hrun => ?_)
    refine lv_if_eq (tgt := 112) (pc := 75) hx hb dX1_vote_75 (by decide) (fun c_ => ?_) (fun c_ => ?_)
    · have hrun := ite_t hrun c_
      refine lv_iload (pc := 112) hx hb dX1_vote_112 (lv_at hl 0 rfl) ?_
      exact V_iret (pc := 114) C hH hL hrun dX1_vote_114
    · have hrun := ite_f hrun c_
      refine V_aload (pc := 78) hx hb dX1_vote_78 (lv_at hl 1 rfl) ?_
      obtain ⟨c7, hrun⟩ := gd_some hrun
      refine V_bd5 (pc := 80) C hL rfl hrun (fun rr1 e1 => Z_runF (rest := []) C hH (m_J16_next hl9 e1) rfl wF_X1_217_J16 c7 (by decide) rfl ⟨by decide, by decide⟩ rfl (Nat.le_of_ble_eq_true rfl) hl.1 dX1_vote_80) (fun v5 h6 H locs cells slots hH hL hrun => ?_)
      obtain ⟨c8, hrun⟩ := gd_some hrun
      refine V_castX (pc := 85) (ci := 4) C hH rfl (by decide) q376 dX1_vote_85 c8 ?_
      refine V_astore (i := 6) (lv' := [(6, rv v5), (4, .int x4), (5, rv x5)]) (pc := 88) hx hb dX1_vote_88 hl (by decide) (by simp [rv_cat, cat_i, cat_l, cat_f, cat_d]) (fun ls hl => ?_)
      refine lv_iload (pc := 90) hx hb dX1_vote_90 (lv_at hl 1 rfl) ?_
      refine V_aload (pc := 92) hx hb dX1_vote_92 (lv_at hl 0 rfl) ?_
      obtain ⟨c9, hrun⟩ := gd_some hrun
      refine V_getNI (pc := 94) C hH fn_X1_362 dX1_vote_94 c9 rfl ?_
      refine lv_iconst (v := (-1 : Int32)) (pc := 97) hx hb dX1_vote_97 (by decide) ?_
      refine lv_icmp_eq (tgt := 105) (pc := 98) hx hb dX1_vote_98 (by decide) (fun c_ => ?_) (fun c_ => ?_)
      · have hrun := ite_t hrun c_
        refine lv_iconst (v := (0 : Int32)) (pc := 105) hx hb dX1_vote_105 (by decide) ?_
        exact b_X1_vote_106 C ih x5 x4 (0 : Int32) h6 H locs cells slots ls hH hL (lv_sub hl [2] rfl) hrun
      · have hrun := ite_f hrun c_
        refine lv_iconst (v := (1 : Int32)) (pc := 101) hx hb dX1_vote_101 (by decide) ?_
        refine lv_goto (tgt := 106) (pc := 102) hx hb dX1_vote_102 (by decide) ?_
        exact b_X1_vote_106 C ih x5 x4 (1 : Int32) h6 H locs cells slots ls hH hL (lv_sub hl [2] rfl) hrun

theorem b_X1_vote_53 {rr : (Int32 ⊕ Ex) × Hp}  (C : CX p l R s m args meth c D Hs cX1_vote "Massclaim" 7 (some .int) [] 8 131)  : ∀ (x0 : Nat) (y0 : Nat) (y1 : Int32) (h : Hp) (H : Heap) (locs : List Loc) (cells slots : Nat) (ls : Array Slot), HP D Hs h H → LO Hs locs → lv_has ls 7 [(0, rv x0)] → f_X1_vote_53 x0 y0 y1 h = some rr → W p l e R s m args below meth c H locs cells slots (ZM D Hs iI rr below args s) (F0 m 53 ls [.int y1, rv y0]) := by
  obtain ⟨⟨hx, hb, hml, hown, hts⟩, -⟩ := id C
  have hl9 := C.2.1.2.2.1
  intro x0 y0 y1 h H locs cells slots ls hH hL hl hrun
  unfold f_X1_vote_53 at hrun
  obtain ⟨c10, hrun⟩ := gd_some hrun
  refine V_putNI (pc := 53) C hH hL fn_X1_362 dX1_vote_53 c10 (fok_i _) rfl hrun (fun h11 H locs hH hL hrun => ?_)
  refine lv_iconst (v := (0 : Int32)) (pc := 56) hx hb dX1_vote_56 (by decide) ?_
  refine lv_istore (i := 4) (lv' := [(4, .int (0 : Int32)), (0, rv x0)]) (pc := 57) hx hb dX1_vote_57 hl (by decide) rfl (fun ls hl => ?_)
  refine V_aload_n (pc := 59) hx hb dX1_vote_59 rfl (lv_at hl 1 rfl) ?_
  obtain ⟨c12, hrun⟩ := gd_some hrun
  refine V_getR (pc := 60) C hH fr_X1_42 dX1_vote_60 c12 rfl ?_
  obtain ⟨c15, hrun⟩ := gd_some hrun
  refine V_bd (pc := 63) C hL rfl hrun (fun rr1 e1 => Z_runV (rest := []) C hH (m_X2_iterator hl9 e1) wV_X1_208 c15 rfl (by decide) rfl rfl ⟨by decide, by decide⟩ rfl (Nat.le_of_ble_eq_true rfl) hl.1 dX1_vote_63) (fun v13 h14 H locs cells slots hH hL hrun => ?_)
  refine V_astore (i := 5) (lv' := [(5, rv v13), (4, .int (0 : Int32)), (0, rv x0)]) (pc := 66) hx hb dX1_vote_66 hl (by decide) rfl (fun ls hl => ?_)
  exact b_X1_vote_68 C FU (0 : Int32) v13 h14 H locs cells slots ls hH hL (lv_sub hl [1, 0] rfl) hrun

theorem b_X1_vote_40 {rr : (Int32 ⊕ Ex) × Hp}  (C : CX p l R s m args meth c D Hs cX1_vote "Massclaim" 7 (some .int) [] 8 131)  : ∀ (x0 : Nat) (x2 : Int32) (x3 : Nat) (y0 : Int32) (h : Hp) (H : Heap) (locs : List Loc) (cells slots : Nat) (ls : Array Slot), HP D Hs h H → LO Hs locs → lv_has ls 7 [(0, rv x0), (2, .int x2), (3, rv x3)] → f_X1_vote_40 x0 x2 x3 y0 h = some rr → W p l e R s m args below meth c H locs cells slots (ZM D Hs iI rr below args s) (F0 m 40 ls [.int y0]) := by
  obtain ⟨⟨hx, hb, hml, hown, hts⟩, -⟩ := id C
  have hl9 := C.2.1.2.2.1
  intro x0 x2 x3 y0 h H locs cells slots ls hH hL hl hrun
  unfold f_X1_vote_40 at hrun
  refine V_bd (pc := 40) C hL rfl hrun (fun rr1 e1 => Z_runS (rest := []) C hH (m_X1_requireState hl9 e1) wS_X1_182 rfl ⟨by decide, by decide⟩ rfl (Nat.le_of_ble_eq_true rfl) hl.1 dX1_vote_40) (fun _ h17 H locs cells slots hH hL hrun => ?_)
  refine V_aload_n (pc := 43) hx hb dX1_vote_43 rfl (lv_at hl 2 rfl) ?_
  refine lv_iload_n (pc := 44) hx hb dX1_vote_44 rfl (lv_at hl 1 rfl) ?_
  refine lv_if_eq (tgt := 52) (pc := 45) hx hb dX1_vote_45 (by decide) (fun c_ => ?_) (fun c_ => ?_)
  · have hrun := ite_t hrun c_
    refine lv_iconst (v := (0 : Int32)) (pc := 52) hx hb dX1_vote_52 (by decide) ?_
    exact b_X1_vote_53 C x0 x3 (0 : Int32) h17 H locs cells slots ls hH hL (lv_sub hl [0] rfl) hrun
  · have hrun := ite_f hrun c_
    refine lv_iconst (v := (1 : Int32)) (pc := 48) hx hb dX1_vote_48 (by decide) ?_
    refine lv_goto (tgt := 53) (pc := 49) hx hb dX1_vote_49 (by decide) ?_
    exact b_X1_vote_53 C x0 x3 (1 : Int32) h17 H locs cells slots ls hH hL (lv_sub hl [0] rfl) hrun

theorem b_X1_vote_39 {rr : (Int32 ⊕ Ex) × Hp}  (C : CX p l R s m args meth c D Hs cX1_vote "Massclaim" 7 (some .int) [] 8 131)  : ∀ (x0 : Nat) (x2 : Int32) (x3 : Nat) (h : Hp) (H : Heap) (locs : List Loc) (cells slots : Nat) (ls : Array Slot), HP D Hs h H → LO Hs locs → lv_has ls 7 [(0, rv x0), (2, .int x2), (3, rv x3)] → f_X1_vote_39 x0 x2 x3 h = some rr → W p l e R s m args below meth c H locs cells slots (ZM D Hs iI rr below args s) (F0 m 39 ls []) := by
  obtain ⟨⟨hx, hb, hml, hown, hts⟩, -⟩ := id C
  have hl9 := C.2.1.2.2.1
  intro x0 x2 x3 h H locs cells slots ls hH hL hl hrun
  unfold f_X1_vote_39 at hrun
  refine lv_iconst (v := (0 : Int32)) (pc := 39) hx hb dX1_vote_39 (by decide) ?_
  exact b_X1_vote_40 C x0 x2 x3 (0 : Int32) h H locs cells slots ls hH hL (lv_sub hl [0, 1, 2] rfl) hrun

theorem b_X1_vote {rr : (Int32 ⊕ Ex) × Hp}  (C : CX p l R s m args meth c D Hs cX1_vote "Massclaim" 7 (some .int) [] 8 131)  : ∀ (x0 : Nat) (x1 : Int32) (x2 : Int32) (h : Hp) (H : Heap) (locs : List Loc) (cells slots : Nat) (ls : Array Slot), HP D Hs h H → LO Hs locs → lv_has ls 7 [(0, rv x0), (1, .int x1), (2, .int x2)] → f_X1_vote x0 x1 x2 h = some rr → W p l e R s m args below meth c H locs cells slots (ZM D Hs iI rr below args s) (F0 m 0 ls []) := by
  obtain ⟨⟨hx, hb, hml, hown, hts⟩, -⟩ := id C
  have hl9 := C.2.1.2.2.1
  intro x0 x1 x2 h H locs cells slots ls hH hL hl hrun
  unfold f_X1_vote at hrun
  refine V_aload_n (pc := 0) hx hb dX1_vote_0 rfl (lv_at hl 0 rfl) ?_
  obtain ⟨c18, hrun⟩ := gd_some hrun
  refine V_getR (pc := 1) C hH fr_X1_42 dX1_vote_1 c18 rfl ?_
  refine lv_iload_n (pc := 4) hx hb dX1_vote_4 rfl (lv_at hl 1 rfl) ?_
  obtain ⟨c21, hrun⟩ := gd_some hrun
  refine V_bd (pc := 5) C hL rfl hrun (fun rr1 e1 => Z_runV (rest := []) C hH (m_X2_at hl9 e1) wV_X1_136 c21 rfl (by decide) rfl rfl ⟨by decide, by decide⟩ rfl (Nat.le_of_ble_eq_true rfl) hl.1 dX1_vote_5) (fun v19 h20 H locs cells slots hH hL hrun => ?_)
  obtain ⟨c22, hrun⟩ := gd_some hrun
  refine V_castX (pc := 8) (ci := 4) C hH rfl (by decide) q376 dX1_vote_8 c22 ?_
  refine V_astore_n (i := 3) (lv' := [(3, rv v19), (0, rv x0), (1, .int x1), (2, .int x2)]) (pc := 11) hx hb dX1_vote_11 rfl hl (by decide) rfl (fun ls hl => ?_)
  refine V_aload_n (pc := 12) hx hb dX1_vote_12 rfl (lv_at hl 0 rfl) ?_
  obtain ⟨c25, hrun⟩ := gd_some hrun
  refine V_bd (pc := 13) C hL rfl hrun (fun rr1 e1 => Z_runV (rest := []) C hH (m_X5_isMember hl9 e1) wV_X1_148 c25 rfl (by decide) rfl rfl ⟨by decide, by decide⟩ rfl (Nat.le_of_ble_eq_true rfl) hl.1 dX1_vote_13) (fun v23 h24 H locs cells slots hH hL hrun => ?_)
  refine lv_if_eq (tgt := 39) (pc := 16) hx hb dX1_vote_16 (by decide) (fun c_ => ?_) (fun c_ => ?_)
  · have hrun := ite_t hrun c_
    exact b_X1_vote_39 C x0 x2 v19 h24 H locs cells slots ls hH hL (lv_sub hl [1, 3, 0] rfl) hrun
  · have hrun := ite_f hrun c_
    refine V_aload_n (pc := 19) hx hb dX1_vote_19 rfl (lv_at hl 0 rfl) ?_
    obtain ⟨c26, hrun⟩ := gd_some hrun
    refine V_getNI (pc := 20) C hH fn_X1_362 dX1_vote_20 c26 rfl ?_
    refine lv_iconst (v := (-1 : Int32)) (pc := 23) hx hb dX1_vote_23 (by decide) ?_
    refine lv_icmp_ne (tgt := 39) (pc := 24) hx hb dX1_vote_24 (by decide) (fun c_ => ?_) (fun c_ => ?_)
    · have hrun := ite_f hrun c_
      exact b_X1_vote_39 C x0 x2 v19 h24 H locs cells slots ls hH hL (lv_sub hl [1, 3, 0] rfl) hrun
    · have hrun := ite_t hrun c_
      refine V_aload_n (pc := 27) hx hb dX1_vote_27 rfl (lv_at hl 1 rfl) ?_
      obtain ⟨c29, hrun⟩ := gd_some hrun
      refine V_bd (pc := 28) C hL rfl hrun (fun rr1 e1 => Z_runV (rest := []) C hH (m_X1_stage hl9 e1) wV_X1_123 c29 rfl (by decide) rfl rfl ⟨by decide, by decide⟩ rfl (Nat.le_of_ble_eq_true rfl) hl.1 dX1_vote_28) (fun v27 h28 H locs cells slots hH hL hrun => ?_)
      refine lv_iconst (v := (2 : Int32)) (pc := 31) hx hb dX1_vote_31 (by decide) ?_
      refine lv_icmp_ne (tgt := 39) (pc := 32) hx hb dX1_vote_32 (by decide) (fun c_ => ?_) (fun c_ => ?_)
      · have hrun := ite_f hrun c_
        exact b_X1_vote_39 C x0 x2 v19 h28 H locs cells slots ls hH hL (lv_sub hl [1, 3, 0] rfl) hrun
      · have hrun := ite_t hrun c_
        refine lv_iconst (v := (1 : Int32)) (pc := 35) hx hb dX1_vote_35 (by decide) ?_
        refine lv_goto (tgt := 40) (pc := 36) hx hb dX1_vote_36 (by decide) ?_
        exact b_X1_vote_40 C x0 x2 v19 (1 : Int32) h28 H locs cells slots ls hH hL (lv_sub hl [1, 3, 0] rfl) hrun

theorem m_X1_vote {l : Launch} {D : va_G} {Hs : Heap} {h : Hp} {rr : (Int32 ⊕ Ex) × Hp} (hl9 : l.stackTraces = false) {x0 : Nat} {x1 : Int32} {x2 : Int32} (hrun : f_X1_vote x0 x1 x2 h = some rr) : CM l yX1_vote (ws_ yX1_vote cX1_vote 7 (some .int)) 8 131 iI [rv x0, .int x1, .int x2] D Hs h rr := by
  refine CM.of (lv := [(0, rv x0), (1, .int x1), (2, .int x2)]) (plainFor_of_name (by decide)) hl9 (by simp [lv_args, rv_cat, cat_i, cat_l, cat_f, cat_d]) (by simp [lg_sl, rv_cat, cat_i, cat_l, cat_f, cat_d]) ?_
  intro p e R s m args below meth c H ls C hH hl hin
  exact b_X1_vote C x0 x1 x2 _ H [] _ _ ls hH (fun _ q => nomatch q) (lv_sub hl [0, 1, 2] rfl) hrun

/-! MassclaimLaw.vote(LMassclaim;IZ[J)I -/
def f_X0_vote_13  (y0 : Nat) (h : Hp) : Rt Int32 :=
  some (.inl (1 : Int32), h)
def f_X0_vote_17  (y0 : Nat) (h : Hp) : Rt Int32 :=
  some (.inl (2 : Int32), h)
def f_X0_vote  (x0 : Nat) (x1 : Int32) (x2 : Int32) (x3 : Nat) (h : Hp) : Rt Int32 :=
  gd (kC h x0 = 1) <| bdH (f_X1_vote x0 x1 x2 h)
  (fun v1 h2 => gd (kC h2 x3 = 102 ∧ ixo (0 : Int32) (kN h2 x3)) <| vl (tL h2 x3 ((0 : Int32)).toNatClampNeg (v1.toInt64)) fun h5 => some (.inl (0 : Int32), h5))
  (fun ex6 h7 => if ex6.1 = 901 then
  (f_X0_vote_13 ex6.2 h7)
  else
  if ex6.1 = 903 then
  (f_X0_vote_17 ex6.2 h7)
  else
  none)
theorem b_X0_vote_13 {rr : (Int32 ⊕ Ex) × Hp}  (C : CX p l R s m args meth c D Hs cX0_vote "MassclaimLaw" 5 (some .int) [(0, 10, 13, 25), (0, 10, 17, 19)] 9 157)  : ∀ (y0 : Nat) (h : Hp) (H : Heap) (locs : List Loc) (cells slots : Nat) (ls : Array Slot), HP D Hs h H → LO Hs locs → lv_has ls 5 [] → f_X0_vote_13 y0 h = some rr → W p l e R s m args below meth c H locs cells slots (ZM D Hs iI rr below args s) (F0 m 13 ls [rv y0]) := by
  obtain ⟨⟨hx, hb, hml, hown, hts⟩, -⟩ := id C
  have hl9 := C.2.1.2.2.1
  intro y0 h H locs cells slots ls hH hL hl hrun
  unfold f_X0_vote_13 at hrun
  refine V_astore (i := 4) (lv' := [(4, rv y0)]) (pc := 13) hx hb dX0_vote_13 hl (by decide) rfl (fun ls hl => ?_)
  refine lv_iconst (v := (1 : Int32)) (pc := 15) hx hb dX0_vote_15 (by decide) ?_
  exact V_iret (pc := 16) C hH hL hrun dX0_vote_16

theorem b_X0_vote_17 {rr : (Int32 ⊕ Ex) × Hp}  (C : CX p l R s m args meth c D Hs cX0_vote "MassclaimLaw" 5 (some .int) [(0, 10, 13, 25), (0, 10, 17, 19)] 9 157)  : ∀ (y0 : Nat) (h : Hp) (H : Heap) (locs : List Loc) (cells slots : Nat) (ls : Array Slot), HP D Hs h H → LO Hs locs → lv_has ls 5 [] → f_X0_vote_17 y0 h = some rr → W p l e R s m args below meth c H locs cells slots (ZM D Hs iI rr below args s) (F0 m 17 ls [rv y0]) := by
  obtain ⟨⟨hx, hb, hml, hown, hts⟩, -⟩ := id C
  have hl9 := C.2.1.2.2.1
  intro y0 h H locs cells slots ls hH hL hl hrun
  unfold f_X0_vote_17 at hrun
  refine V_astore (i := 4) (lv' := [(4, rv y0)]) (pc := 17) hx hb dX0_vote_17 hl (by decide) rfl (fun ls hl => ?_)
  refine lv_iconst (v := (2 : Int32)) (pc := 19) hx hb dX0_vote_19 (by decide) ?_
  exact V_iret (pc := 20) C hH hL hrun dX0_vote_20

theorem b_X0_vote {rr : (Int32 ⊕ Ex) × Hp}  (C : CX p l R s m args meth c D Hs cX0_vote "MassclaimLaw" 5 (some .int) [(0, 10, 13, 25), (0, 10, 17, 19)] 9 157)  : ∀ (x0 : Nat) (x1 : Int32) (x2 : Int32) (x3 : Nat) (h : Hp) (H : Heap) (locs : List Loc) (cells slots : Nat) (ls : Array Slot), HP D Hs h H → LO Hs locs → lv_has ls 5 [(0, rv x0), (1, .int x1), (2, .int x2), (3, rv x3)] → f_X0_vote x0 x1 x2 x3 h = some rr → W p l e R s m args below meth c H locs cells slots (ZM D Hs iI rr below args s) (F0 m 0 ls []) := by
  obtain ⟨⟨hx, hb, hml, hown, hts⟩, -⟩ := id C
  have hl9 := C.2.1.2.2.1
  intro x0 x1 x2 x3 h H locs cells slots ls hH hL hl hrun
  unfold f_X0_vote at hrun
  refine V_aload_n (pc := 0) hx hb dX0_vote_0 rfl (lv_at hl 3 rfl) ?_
  refine lv_iconst (v := (0 : Int32)) (pc := 1) hx hb dX0_vote_1 (by decide) ?_
  refine V_aload_n (pc := 2) hx hb dX0_vote_2 rfl (lv_at hl 0 rfl) ?_
  refine lv_iload_n (pc := 3) hx hb dX0_vote_3 rfl (lv_at hl 1 rfl) ?_
  refine lv_iload_n (pc := 4) hx hb dX0_vote_4 rfl (lv_at hl 2 rfl) ?_
  obtain ⟨c3, hrun⟩ := gd_some hrun
  refine V_bdH (pc := 5) hL hrun (fun rr1 e1 => Z_runV (rest := [.int (0 : Int32), rv x3]) C hH (m_X1_vote hl9 e1) wV_X0_91 c3 rfl (by decide) rfl rfl ⟨by decide, by decide⟩ rfl (by simp [csum, rv_cat, cat_i, cat_l, cat_f, cat_d]) hl.1 dX0_vote_5) (fun v1 h2 H locs cells slots hH hL hrun => ?_) (fun x_ q_ ce_ h7 H locs cells slots hH hL hrun hc_ hv_ hcl_ => ?_)
  · refine lv_i2l (pc := 8) hx hb dX0_vote_8 rfl ?_
    obtain ⟨c4, hrun⟩ := gd_some hrun
    refine V_last (pc := 9) C hH hL dX0_vote_9 c4 hrun (fun h5 H locs hH hL hrun => ?_)
    refine lv_goto (tgt := 21) (pc := 10) hx hb dX0_vote_10 (by decide) ?_
    refine lv_iconst (v := (0 : Int32)) (pc := 21) hx hb dX0_vote_21 (by decide) ?_
    exact V_iret (pc := 22) C hH hL hrun dX0_vote_22
  · by_cases n901 : x_ = 901
    · subst n901
      have hrun := ite_t hrun rfl
      refine vx_catch (E := "java/lang/IndexOutOfBoundsException") (name := "java/lang/IndexOutOfBoundsException") hown (tableOf []) ⟨0, 10, 13, 25⟩ (tableOf [(0, 10, 17, 19)]) (by rw [C.2.1.2.2.2.2]; rfl) (fun z hz => nomatch hz) (by decide) (by decide) (hts _ q829) (va_Nw.use rfl (C.2.1.2.2.2.1.2.1 _ q537 rfl)) hc_ hv_ hcl_ ?_
      exact b_X0_vote_13 C (q_ + 1) h7 H locs cells slots ls hH hL (lv_sub hl [] rfl) hrun
    have hrun := ite_f hrun n901
    by_cases n903 : x_ = 903
    · subst n903
      have hrun := ite_t hrun rfl
      refine vx_catch (E := "java/lang/IllegalStateException") (name := "java/lang/IllegalStateException") hown (tableOf [(0, 10, 13, 25)]) ⟨0, 10, 17, 19⟩ (tableOf []) (by rw [C.2.1.2.2.2.2]; rfl) (fun z hz => by simp only [tableOf, List.map, List.mem_cons, List.not_mem_nil, or_false] at hz; rcases hz with rfl <;> first | exact Or.inr ⟨by decide, "java/lang/IndexOutOfBoundsException", hts _ q829, nc_at C (by decide)⟩) (by decide) (by decide) (hts _ q585) (va_Nw.use rfl (C.2.1.2.2.2.1.2.1 _ q702 rfl)) hc_ hv_ hcl_ ?_
      exact b_X0_vote_17 C (q_ + 1) h7 H locs cells slots ls hH hL (lv_sub hl [] rfl) hrun
    have hrun := ite_f hrun n903
    cases hrun

theorem m_X0_vote {l : Launch} {D : va_G} {Hs : Heap} {h : Hp} {rr : (Int32 ⊕ Ex) × Hp} (hl9 : l.stackTraces = false) {x0 : Nat} {x1 : Int32} {x2 : Int32} {x3 : Nat} (hrun : f_X0_vote x0 x1 x2 x3 h = some rr) : CM l yX0_vote (wsW_ yX0_vote cX0_vote 5 (some .int) [(0, 10, 13, 25), (0, 10, 17, 19)]) 9 157 iI [rv x0, .int x1, .int x2, rv x3] D Hs h rr := by
  refine CM.ofH (lv := [(0, rv x0), (1, .int x1), (2, .int x2), (3, rv x3)]) (plainFor_of_name (by decide)) hl9 (by simp [lv_args, rv_cat, cat_i, cat_l, cat_f, cat_d]) (by simp [lg_sl, rv_cat, cat_i, cat_l, cat_f, cat_d]) ?_
  intro p e R s m args below meth c H ls C hH hl hin
  exact b_X0_vote C x0 x1 x2 x3 _ H [] _ _ ls hH (fun _ q => nomatch q) (lv_sub hl [0, 1, 2, 3] rfl) hrun
end WK9

section WK2
variable {p : Program} {l : Launch} {e : Env} {R : Room} {s : State} {m : MethodId} {args : Array Value} {below : List Frame} {meth : Method} {c : Code} {D : va_G} {Hs : Heap} {F X : Nat}
/-! java/util/ArrayList.grow(I)[Ljava/lang/Object; -/
def f_J2_grow_2_20  (x0 : Nat) (x1 : Int32) (x2 : Int32) (h : Hp) : Rt Nat :=
  bd (f_J12_newLength x2 (x1 - x2) (x2 >>> ((1 : Int32) &&& 31)) h) fun v1 h2 => gd (kC h2 x0 = 18) <| bd (f_J13_copyOf (kR h2 1701 x0) v1 h2) fun v4 h5 => gd (kC h5 x0 = 18) <| vl (sR h5 1701 x0 v4) fun h7 => some (.inl v4, h7)
def f_J2_grow_2  (x0 : Nat) (x1 : Int32) (h : Hp) : Rt Nat :=
  gd (kC h x0 = 18) <| gd (kC h (kR h 1701 x0) = 103 ∨ (kR h 1701 x0) = kE h) <| vl (Int32.ofNat (kN h (kR h 1701 x0))) fun v10 => if 0 < v10 then
  (f_J2_grow_2_20 x0 x1 v10 h)
  else
  (if (kR h 1701 x0) = (kE h) then
  (bd (f_J10_max (10 : Int32) x1 h) fun v11 h12 => na h12 103 v11 fun q13 h14 => gd (kC h14 x0 = 18) <| vl (sR h14 1701 x0 q13) fun h16 => some (.inl q13, h16))
  else
  (f_J2_grow_2_20 x0 x1 v10 h))
theorem b_J2_grow_2_20 {rr : (Nat ⊕ Ex) × Hp}  (C : CX p l R s m args meth c D Hs cJ2_grow_2 "java/util/ArrayList" 4 (some (.array (.object "java/lang/Object"))) [] 4 244)  : ∀ (x0 : Nat) (x1 : Int32) (x2 : Int32) (h : Hp) (H : Heap) (locs : List Loc) (cells slots : Nat) (ls : Array Slot), HP D Hs h H → LO Hs locs → lv_has ls 4 [(0, rv x0), (1, .int x1), (2, .int x2)] → f_J2_grow_2_20 x0 x1 x2 h = some rr → W p l e R s m args below meth c H locs cells slots (ZM D Hs iR rr below args s) (F0 m 20 ls []) := by
  obtain ⟨⟨hx, hb, hml, hown, hts⟩, -⟩ := id C
  have hl9 := C.2.1.2.2.1
  intro x0 x1 x2 h H locs cells slots ls hH hL hl hrun
  unfold f_J2_grow_2_20 at hrun
  refine lv_iload_n (pc := 20) hx hb dJ2_grow_2_20 rfl (lv_at hl 2 rfl) ?_
  refine lv_iload_n (pc := 21) hx hb dJ2_grow_2_21 rfl (lv_at hl 1 rfl) ?_
  refine lv_iload_n (pc := 22) hx hb dJ2_grow_2_22 rfl (lv_at hl 2 rfl) ?_
  refine lv_isub (pc := 23) hx hb dJ2_grow_2_23 ?_
  refine lv_iload_n (pc := 24) hx hb dJ2_grow_2_24 rfl (lv_at hl 2 rfl) ?_
  refine lv_iconst (v := (1 : Int32)) (pc := 25) hx hb dJ2_grow_2_25 (by decide) ?_
  refine lv_ishr (pc := 26) hx hb dJ2_grow_2_26 ?_
  refine V_bd (pc := 27) C hL rfl hrun (fun rr1 e1 => Z_runS (rest := []) C hH (m_J12_newLength hl9 e1) wS_J2_73 rfl ⟨by decide, by decide⟩ rfl (Nat.le_of_ble_eq_true rfl) hl.1 dJ2_grow_2_27) (fun v1 h2 H locs cells slots hH hL hrun => ?_)
  refine lv_istore_n (i := 3) (lv' := [(3, .int v1), (0, rv x0), (1, .int x1), (2, .int x2)]) (pc := 30) hx hb dJ2_grow_2_30 rfl hl (by decide) rfl (fun ls hl => ?_)
  refine V_aload_n (pc := 31) hx hb dJ2_grow_2_31 rfl (lv_at hl 1 rfl) ?_
  refine V_aload_n (pc := 32) hx hb dJ2_grow_2_32 rfl (lv_at hl 1 rfl) ?_
  obtain ⟨c3, hrun⟩ := gd_some hrun
  refine V_getR (pc := 33) C hH fr_J2_9 dJ2_grow_2_33 c3 rfl ?_
  refine lv_iload_n (pc := 36) hx hb dJ2_grow_2_36 rfl (lv_at hl 0 rfl) ?_
  refine V_bd (pc := 37) C hL rfl hrun (fun rr1 e1 => Z_runS (rest := [rv x0]) C hH (m_J13_copyOf hl9 e1) wS_J2_66 rfl ⟨by decide, by decide⟩ rfl (by simp [csum, rv_cat, cat_i, cat_l, cat_f, cat_d]) hl.1 dJ2_grow_2_37) (fun v4 h5 H locs cells slots hH hL hrun => ?_)
  refine lv_dup_x1 (pc := 40) hx hb dJ2_grow_2_40 (rv_cat _) (rv_cat _) ?_
  obtain ⟨c6, hrun⟩ := gd_some hrun
  refine V_putR (pc := 41) C hH hL fl_J2_9 dJ2_grow_2_41 c6 (fok_a _ _) rfl (fun q => Bool.noConfusion q) hrun (fun h7 H locs hH hL hrun => ?_)
  exact V_aret (pc := 44) C (Or.inr ⟨_, rfl⟩) hH hL hrun dJ2_grow_2_44

theorem b_J2_grow_2 {rr : (Nat ⊕ Ex) × Hp}  (C : CX p l R s m args meth c D Hs cJ2_grow_2 "java/util/ArrayList" 4 (some (.array (.object "java/lang/Object"))) [] 4 244)  : ∀ (x0 : Nat) (x1 : Int32) (h : Hp) (H : Heap) (locs : List Loc) (cells slots : Nat) (ls : Array Slot), HP D Hs h H → LO Hs locs → lv_has ls 4 [(0, rv x0), (1, .int x1)] → f_J2_grow_2 x0 x1 h = some rr → W p l e R s m args below meth c H locs cells slots (ZM D Hs iR rr below args s) (F0 m 0 ls []) := by
  obtain ⟨⟨hx, hb, hml, hown, hts⟩, -⟩ := id C
  have hl9 := C.2.1.2.2.1
  intro x0 x1 h H locs cells slots ls hH hL hl hrun
  unfold f_J2_grow_2 at hrun
  refine V_aload_n (pc := 0) hx hb dJ2_grow_2_0 rfl (lv_at hl 0 rfl) ?_
  obtain ⟨c8, hrun⟩ := gd_some hrun
  refine V_getR (pc := 1) C hH fr_J2_9 dJ2_grow_2_1 c8 rfl ?_
  obtain ⟨c9, hrun⟩ := gd_some hrun
  refine V_alenE (pc := 4) C hH dJ2_grow_2_4 c9 ?_
  refine lv_topi (fun v10 ev10 => ?_)
  have hrun := vl_at hrun v10 ev10
  refine lv_istore_n (i := 2) (lv' := [(2, .int v10), (0, rv x0), (1, .int x1)]) (pc := 5) hx hb dJ2_grow_2_5 rfl hl (by decide) rfl (fun ls hl => ?_)
  refine lv_iload_n (pc := 6) hx hb dJ2_grow_2_6 rfl (lv_at hl 0 rfl) ?_
  refine lv_if_gt (tgt := 20) (pc := 7) hx hb dJ2_grow_2_7 (by decide) (fun c_ => ?_) (fun c_ => ?_)
  · have hrun := ite_t hrun c_
    exact b_J2_grow_2_20 C x0 x1 v10 h H locs cells slots ls hH hL (lv_sub hl [1, 2, 0] rfl) hrun
  · have hrun := ite_f hrun c_
    refine V_aload_n (pc := 10) hx hb dJ2_grow_2_10 rfl (lv_at hl 1 rfl) ?_
    refine V_getR (pc := 11) C hH fr_J2_9 dJ2_grow_2_11 c8 rfl ?_
    refine V_getE (pc := 14) C hH q133 dJ2_grow_2_14 ?_
    refine V_acmp_eq (tgt := 45) (pc := 17) hx hb dJ2_grow_2_17 (by decide) hrun (fun c_ hrun => ?_) (fun c_ hrun => ?_)
    · refine V_aload_n (pc := 45) hx hb dJ2_grow_2_45 rfl (lv_at hl 1 rfl) ?_
      refine lv_bipush (v := (10 : Int32)) (pc := 46) hx hb dJ2_grow_2_46 (by decide) ?_
      refine lv_iload_n (pc := 48) hx hb dJ2_grow_2_48 rfl (lv_at hl 2 rfl) ?_
      refine V_bd (pc := 49) C hL rfl hrun (fun rr1 e1 => Z_runS (rest := [rv x0]) C hH (m_J10_max hl9 e1) wS_J2_79 rfl ⟨by decide, by decide⟩ rfl (by simp [csum, rv_cat, cat_i, cat_l, cat_f, cat_d]) hl.1 dJ2_grow_2_49) (fun v11 h12 H locs cells slots hH hL hrun => ?_)
      refine V_anew (pc := 52) C hH q791 dJ2_grow_2_52 hrun (fun q13 h14 H cells slots hH hrun => ?_)
      refine lv_dup_x1 (pc := 55) hx hb dJ2_grow_2_55 (rv_cat _) (rv_cat _) ?_
      obtain ⟨c15, hrun⟩ := gd_some hrun
      refine V_putR (pc := 56) C hH hL fl_J2_9 dJ2_grow_2_56 c15 (fok_a _ _) rfl (fun q => Bool.noConfusion q) hrun (fun h16 H locs hH hL hrun => ?_)
      exact V_aret (pc := 59) C (Or.inr ⟨_, rfl⟩) hH hL hrun dJ2_grow_2_59
    · exact b_J2_grow_2_20 C x0 x1 v10 h H locs cells slots ls hH hL (lv_sub hl [1, 2, 0] rfl) hrun

theorem m_J2_grow_2 {l : Launch} {D : va_G} {Hs : Heap} {h : Hp} {rr : (Nat ⊕ Ex) × Hp} (hl9 : l.stackTraces = false) {x0 : Nat} {x1 : Int32} (hrun : f_J2_grow_2 x0 x1 h = some rr) : CM l yJ2_grow_2 (ws_ yJ2_grow_2 cJ2_grow_2 4 (some (.array (.object "java/lang/Object")))) 4 244 iR [rv x0, .int x1] D Hs h rr := by
  refine CM.of (lv := [(0, rv x0), (1, .int x1)]) (by decide +kernel) hl9 (by simp [lv_args, rv_cat, cat_i, cat_l, cat_f, cat_d]) (by simp [lg_sl, rv_cat, cat_i, cat_l, cat_f, cat_d]) ?_
  intro p e R s m args below meth c H ls C hH hl hin
  exact b_J2_grow_2 C x0 x1 _ H [] _ _ ls hH (fun _ q => nomatch q) (lv_sub hl [0, 1] rfl) hrun

/-! java/util/ArrayList.grow()[Ljava/lang/Object; -/
def f_J2_grow  (x0 : Nat) (h : Hp) : Rt Nat :=
  gd (kC h x0 = 18) <| bd (f_J2_grow_2 x0 ((kI h 1702 x0) + (1 : Int32)) h) fun v2 h3 => some (.inl v2, h3)
theorem b_J2_grow {rr : (Nat ⊕ Ex) × Hp}  (C : CX p l R s m args meth c D Hs cJ2_grow "java/util/ArrayList" 1 (some (.array (.object "java/lang/Object"))) [] 5 267)  : ∀ (x0 : Nat) (h : Hp) (H : Heap) (locs : List Loc) (cells slots : Nat) (ls : Array Slot), HP D Hs h H → LO Hs locs → lv_has ls 1 [(0, rv x0)] → f_J2_grow x0 h = some rr → W p l e R s m args below meth c H locs cells slots (ZM D Hs iR rr below args s) (F0 m 0 ls []) := by
  obtain ⟨⟨hx, hb, hml, hown, hts⟩, -⟩ := id C
  have hl9 := C.2.1.2.2.1
  intro x0 h H locs cells slots ls hH hL hl hrun
  unfold f_J2_grow at hrun
  refine V_aload_n (pc := 0) hx hb dJ2_grow_0 rfl (lv_at hl 0 rfl) ?_
  refine V_aload_n (pc := 1) hx hb dJ2_grow_1 rfl (lv_at hl 0 rfl) ?_
  obtain ⟨c1, hrun⟩ := gd_some hrun
  refine V_getI (pc := 2) C hH fr_J2_48 dJ2_grow_2 c1 rfl ?_
  refine lv_iconst (v := (1 : Int32)) (pc := 5) hx hb dJ2_grow_5 (by decide) ?_
  refine lv_iadd (pc := 6) hx hb dJ2_grow_6 ?_
  refine V_bd (pc := 7) C hL rfl hrun (fun rr1 e1 => Z_runV (rest := []) C hH (m_J2_grow_2 hl9 e1) wV_J2_69 c1 rfl (by decide) rfl rfl ⟨by decide, by decide⟩ rfl (Nat.le_of_ble_eq_true rfl) hl.1 dJ2_grow_7) (fun v2 h3 H locs cells slots hH hL hrun => ?_)
  exact V_aret (pc := 10) C (Or.inr ⟨_, rfl⟩) hH hL hrun dJ2_grow_10

theorem m_J2_grow {l : Launch} {D : va_G} {Hs : Heap} {h : Hp} {rr : (Nat ⊕ Ex) × Hp} (hl9 : l.stackTraces = false) {x0 : Nat} (hrun : f_J2_grow x0 h = some rr) : CM l yJ2_grow (ws_ yJ2_grow cJ2_grow 1 (some (.array (.object "java/lang/Object")))) 5 267 iR [rv x0] D Hs h rr := by
  refine CM.of (lv := [(0, rv x0)]) (by decide +kernel) hl9 (by simp [lv_args, rv_cat, cat_i, cat_l, cat_f, cat_d]) (by simp [lg_sl, rv_cat, cat_i, cat_l, cat_f, cat_d]) ?_
  intro p e R s m args below meth c H ls C hH hl hin
  exact b_J2_grow C x0 _ H [] _ _ ls hH (fun _ q => nomatch q) (lv_sub hl [0] rfl) hrun

/-! java/util/ArrayList.add(Ljava/lang/Object;[Ljava/lang/Object;I)V -/
def f_J2_add_2_11  (x0 : Nat) (x1 : Nat) (x2 : Nat) (x3 : Int32) (h : Hp) : Rt Unit :=
  gd (kC h x2 = 103 ∧ ixo x3 (kN h x2)) <| gd (x1 = 0 ∨ kC h x1 ≠ 0) <| vl (tR h x2 (x3).toNatClampNeg x1) fun h3 => gd (kC h3 x0 = 18) <| vl (sI h3 1702 x0 (x3 + (1 : Int32))) fun h5 => some (.inl (), h5)
def f_J2_add_2  (x0 : Nat) (x1 : Nat) (x2 : Nat) (x3 : Int32) (h : Hp) : Rt Unit :=
  gd (kC h x2 = 103 ∨ x2 = kE h) <| if x3 = (Int32.ofNat (kN h x2)) then
  (gd (kC h x0 = 18) <| bd (f_J2_grow x0 h) fun v7 h8 => f_J2_add_2_11 x0 x1 v7 x3 h8)
  else
  (f_J2_add_2_11 x0 x1 x2 x3 h)
theorem b_J2_add_2_11 {rr : (Unit ⊕ Ex) × Hp}  (C : CX p l R s m args meth c D Hs cJ2_add_2 "java/util/ArrayList" 4 none [] 6 287)  : ∀ (x0 : Nat) (x1 : Nat) (x2 : Nat) (x3 : Int32) (h : Hp) (H : Heap) (locs : List Loc) (cells slots : Nat) (ls : Array Slot), HP D Hs h H → LO Hs locs → lv_has ls 4 [(0, rv x0), (1, rv x1), (2, rv x2), (3, .int x3)] → f_J2_add_2_11 x0 x1 x2 x3 h = some rr → W p l e R s m args below meth c H locs cells slots (ZM D Hs iV rr below args s) (F0 m 11 ls []) := by
  obtain ⟨⟨hx, hb, hml, hown, hts⟩, -⟩ := id C
  have hl9 := C.2.1.2.2.1
  intro x0 x1 x2 x3 h H locs cells slots ls hH hL hl hrun
  unfold f_J2_add_2_11 at hrun
  refine V_aload_n (pc := 11) hx hb dJ2_add_2_11 rfl (lv_at hl 2 rfl) ?_
  refine lv_iload_n (pc := 12) hx hb dJ2_add_2_12 rfl (lv_at hl 3 rfl) ?_
  refine V_aload_n (pc := 13) hx hb dJ2_add_2_13 rfl (lv_at hl 1 rfl) ?_
  obtain ⟨c1, hrun⟩ := gd_some hrun
  obtain ⟨c2, hrun⟩ := gd_some hrun
  refine V_aast (pc := 14) C hH hL dJ2_add_2_14 c1 c2 hrun (fun h3 H locs hH hL hrun => ?_)
  refine V_aload_n (pc := 15) hx hb dJ2_add_2_15 rfl (lv_at hl 0 rfl) ?_
  refine lv_iload_n (pc := 16) hx hb dJ2_add_2_16 rfl (lv_at hl 3 rfl) ?_
  refine lv_iconst (v := (1 : Int32)) (pc := 17) hx hb dJ2_add_2_17 (by decide) ?_
  refine lv_iadd (pc := 18) hx hb dJ2_add_2_18 ?_
  obtain ⟨c4, hrun⟩ := gd_some hrun
  refine V_putI (pc := 19) C hH hL fl_J2_48 dJ2_add_2_19 c4 (fok_i _) rfl (fun q => Bool.noConfusion q) hrun (fun h5 H locs hH hL hrun => ?_)
  exact V_vret (pc := 22) C hH hL hrun dJ2_add_2_22

theorem b_J2_add_2 {rr : (Unit ⊕ Ex) × Hp}  (C : CX p l R s m args meth c D Hs cJ2_add_2 "java/util/ArrayList" 4 none [] 6 287)  : ∀ (x0 : Nat) (x1 : Nat) (x2 : Nat) (x3 : Int32) (h : Hp) (H : Heap) (locs : List Loc) (cells slots : Nat) (ls : Array Slot), HP D Hs h H → LO Hs locs → lv_has ls 4 [(0, rv x0), (1, rv x1), (2, rv x2), (3, .int x3)] → f_J2_add_2 x0 x1 x2 x3 h = some rr → W p l e R s m args below meth c H locs cells slots (ZM D Hs iV rr below args s) (F0 m 0 ls []) := by
  obtain ⟨⟨hx, hb, hml, hown, hts⟩, -⟩ := id C
  have hl9 := C.2.1.2.2.1
  intro x0 x1 x2 x3 h H locs cells slots ls hH hL hl hrun
  unfold f_J2_add_2 at hrun
  refine lv_iload_n (pc := 0) hx hb dJ2_add_2_0 rfl (lv_at hl 3 rfl) ?_
  refine V_aload_n (pc := 1) hx hb dJ2_add_2_1 rfl (lv_at hl 2 rfl) ?_
  obtain ⟨c6, hrun⟩ := gd_some hrun
  refine V_alenE (pc := 2) C hH dJ2_add_2_2 c6 ?_
  refine lv_icmp_ne (tgt := 11) (pc := 3) hx hb dJ2_add_2_3 (by decide) (fun c_ => ?_) (fun c_ => ?_)
  · have hrun := ite_f hrun c_
    exact b_J2_add_2_11 C x0 x1 x2 x3 h H locs cells slots ls hH hL (lv_sub hl [0, 1, 2, 3] rfl) hrun
  · have hrun := ite_t hrun c_
    refine V_aload_n (pc := 6) hx hb dJ2_add_2_6 rfl (lv_at hl 0 rfl) ?_
    obtain ⟨c9, hrun⟩ := gd_some hrun
    refine V_bd (pc := 7) C hL rfl hrun (fun rr1 e1 => Z_runV (rest := []) C hH (m_J2_grow hl9 e1) wV_J2_129 c9 rfl (by decide) rfl rfl ⟨by decide, by decide⟩ rfl (Nat.le_of_ble_eq_true rfl) hl.1 dJ2_add_2_7) (fun v7 h8 H locs cells slots hH hL hrun => ?_)
    refine V_astore_n (i := 2) (lv' := [(2, rv v7), (0, rv x0), (1, rv x1), (3, .int x3)]) (pc := 10) hx hb dJ2_add_2_10 rfl hl (by decide) (by simp [rv_cat, cat_i, cat_l, cat_f, cat_d]) (fun ls hl => ?_)
    exact b_J2_add_2_11 C x0 x1 v7 x3 h8 H locs cells slots ls hH hL (lv_sub hl [1, 2, 0, 3] rfl) hrun

theorem m_J2_add_2 {l : Launch} {D : va_G} {Hs : Heap} {h : Hp} {rr : (Unit ⊕ Ex) × Hp} (hl9 : l.stackTraces = false) {x0 : Nat} {x1 : Nat} {x2 : Nat} {x3 : Int32} (hrun : f_J2_add_2 x0 x1 x2 x3 h = some rr) : CM l yJ2_add_2 (ws_ yJ2_add_2 cJ2_add_2 4 none) 6 287 iV [rv x0, rv x1, rv x2, .int x3] D Hs h rr := by
  refine CM.of (lv := [(0, rv x0), (1, rv x1), (2, rv x2), (3, .int x3)]) (by decide +kernel) hl9 (by simp [lv_args, rv_cat, cat_i, cat_l, cat_f, cat_d]) (by simp [lg_sl, rv_cat, cat_i, cat_l, cat_f, cat_d]) ?_
  intro p e R s m args below meth c H ls C hH hl hin
  exact b_J2_add_2 C x0 x1 x2 x3 _ H [] _ _ ls hH (fun _ q => nomatch q) (lv_sub hl [0, 1, 2, 3] rfl) hrun

/-! java/util/ArrayList.add(Ljava/lang/Object;)Z -/
def f_J2_add  (x0 : Nat) (x1 : Nat) (h : Hp) : Rt Int32 :=
  gd (kC h x0 = 18) <| vl (sI h 1700 x0 ((kI h 1700 x0) + (1 : Int32))) fun h2 => gd (kC h2 x0 = 18) <| bd (f_J2_add_2 x0 x1 (kR h2 1701 x0) (kI h2 1702 x0) h2) fun _ h5 => some (.inl (1 : Int32), h5)
theorem b_J2_add {rr : (Int32 ⊕ Ex) × Hp}  (C : CX p l R s m args meth c D Hs cJ2_add "java/util/ArrayList" 2 (some .boolean) [] 7 310)  : ∀ (x0 : Nat) (x1 : Nat) (h : Hp) (H : Heap) (locs : List Loc) (cells slots : Nat) (ls : Array Slot), HP D Hs h H → LO Hs locs → lv_has ls 2 [(0, rv x0), (1, rv x1)] → f_J2_add x0 x1 h = some rr → W p l e R s m args below meth c H locs cells slots (ZM D Hs iI rr below args s) (F0 m 0 ls []) := by
  obtain ⟨⟨hx, hb, hml, hown, hts⟩, -⟩ := id C
  have hl9 := C.2.1.2.2.1
  intro x0 x1 h H locs cells slots ls hH hL hl hrun
  unfold f_J2_add at hrun
  refine V_aload_n (pc := 0) hx hb dJ2_add_0 rfl (lv_at hl 0 rfl) ?_
  refine lv_dup (pc := 1) hx hb dJ2_add_1 (rv_cat _) ?_
  obtain ⟨c1, hrun⟩ := gd_some hrun
  refine V_getI (pc := 2) C hH fr_J2_63 dJ2_add_2 c1 rfl ?_
  refine lv_iconst (v := (1 : Int32)) (pc := 5) hx hb dJ2_add_5 (by decide) ?_
  refine lv_iadd (pc := 6) hx hb dJ2_add_6 ?_
  refine V_putI (pc := 7) C hH hL fl_J2_63 dJ2_add_7 c1 (fok_i _) rfl (fun q => Bool.noConfusion q) hrun (fun h2 H locs hH hL hrun => ?_)
  refine V_aload_n (pc := 10) hx hb dJ2_add_10 rfl (lv_at hl 0 rfl) ?_
  refine V_aload_n (pc := 11) hx hb dJ2_add_11 rfl (lv_at hl 1 rfl) ?_
  refine V_aload_n (pc := 12) hx hb dJ2_add_12 rfl (lv_at hl 0 rfl) ?_
  obtain ⟨c3, hrun⟩ := gd_some hrun
  refine V_getR (pc := 13) C hH fr_J2_9 dJ2_add_13 c3 rfl ?_
  refine V_aload_n (pc := 16) hx hb dJ2_add_16 rfl (lv_at hl 0 rfl) ?_
  refine V_getI (pc := 17) C hH fr_J2_48 dJ2_add_17 c3 rfl ?_
  refine V_bd (pc := 20) C hL rfl hrun (fun rr1 e1 => Z_runV (rest := []) C hH (m_J2_add_2 hl9 e1) wV_J2_131 c3 rfl (by decide) rfl rfl ⟨by decide, by decide⟩ rfl (Nat.le_of_ble_eq_true rfl) hl.1 dJ2_add_20) (fun _ h5 H locs cells slots hH hL hrun => ?_)
  refine lv_iconst (v := (1 : Int32)) (pc := 23) hx hb dJ2_add_23 (by decide) ?_
  exact V_zret (pc := 24) C hH hL (Or.inr rfl) hrun dJ2_add_24

theorem m_J2_add {l : Launch} {D : va_G} {Hs : Heap} {h : Hp} {rr : (Int32 ⊕ Ex) × Hp} (hl9 : l.stackTraces = false) {x0 : Nat} {x1 : Nat} (hrun : f_J2_add x0 x1 h = some rr) : CM l yJ2_add (ws_ yJ2_add cJ2_add 2 (some .boolean)) 7 310 iI [rv x0, rv x1] D Hs h rr := by
  refine CM.of (lv := [(0, rv x0), (1, rv x1)]) (by decide +kernel) hl9 (by simp [lv_args, rv_cat, cat_i, cat_l, cat_f, cat_d]) (by simp [lg_sl, rv_cat, cat_i, cat_l, cat_f, cat_d]) ?_
  intro p e R s m args below meth c H ls C hH hl hin
  exact b_J2_add C x0 x1 _ H [] _ _ ls hH (fun _ q => nomatch q) (lv_sub hl [0, 1] rfl) hrun

/-! Massclaim$Person.number()I -/
def f_X5_number  (x0 : Nat) (h : Hp) : Rt Int32 :=
  gd (kC h x0 = 5) <| some (.inl (kI h 400 x0), h)
theorem b_X5_number {rr : (Int32 ⊕ Ex) × Hp}  (C : CX p l R s m args meth c D Hs cX5_number "Massclaim$Person" 1 (some .int) [] 1 0)  : ∀ (x0 : Nat) (h : Hp) (H : Heap) (locs : List Loc) (cells slots : Nat) (ls : Array Slot), HP D Hs h H → LO Hs locs → lv_has ls 1 [(0, rv x0)] → f_X5_number x0 h = some rr → W p l e R s m args below meth c H locs cells slots (ZM D Hs iI rr below args s) (F0 m 0 ls []) := by
  obtain ⟨⟨hx, hb, hml, hown, hts⟩, -⟩ := id C
  have hl9 := C.2.1.2.2.1
  intro x0 h H locs cells slots ls hH hL hl hrun
  unfold f_X5_number at hrun
  refine V_aload_n (pc := 0) hx hb dX5_number_0 rfl (lv_at hl 0 rfl) ?_
  obtain ⟨c1, hrun⟩ := gd_some hrun
  refine V_getI (pc := 1) C hH fr_X5_36 dX5_number_1 c1 rfl ?_
  exact V_iret (pc := 4) C hH hL hrun dX5_number_4

theorem m_X5_number {l : Launch} {D : va_G} {Hs : Heap} {h : Hp} {rr : (Int32 ⊕ Ex) × Hp} (hl9 : l.stackTraces = false) {x0 : Nat} (hrun : f_X5_number x0 h = some rr) : CM l yX5_number (ws_ yX5_number cX5_number 1 (some .int)) 1 0 iI [rv x0] D Hs h rr := by
  refine CM.of (lv := [(0, rv x0)]) (plainFor_of_name (by decide)) hl9 (by simp [lv_args, rv_cat, cat_i, cat_l, cat_f, cat_d]) (by simp [lg_sl, rv_cat, cat_i, cat_l, cat_f, cat_d]) ?_
  intro p e R s m args below meth c H ls C hH hl hin
  exact b_X5_number C x0 _ H [] _ _ ls hH (fun _ q => nomatch q) (lv_sub hl [0] rfl) hrun

/-! Massclaim$Subclass.number()I -/
def f_X7_number  (x0 : Nat) (h : Hp) : Rt Int32 :=
  gd (kC h x0 = 7) <| some (.inl (kI h 600 x0), h)
theorem b_X7_number {rr : (Int32 ⊕ Ex) × Hp}  (C : CX p l R s m args meth c D Hs cX7_number "Massclaim$Subclass" 1 (some .int) [] 1 0)  : ∀ (x0 : Nat) (h : Hp) (H : Heap) (locs : List Loc) (cells slots : Nat) (ls : Array Slot), HP D Hs h H → LO Hs locs → lv_has ls 1 [(0, rv x0)] → f_X7_number x0 h = some rr → W p l e R s m args below meth c H locs cells slots (ZM D Hs iI rr below args s) (F0 m 0 ls []) := by
  obtain ⟨⟨hx, hb, hml, hown, hts⟩, -⟩ := id C
  have hl9 := C.2.1.2.2.1
  intro x0 h H locs cells slots ls hH hL hl hrun
  unfold f_X7_number at hrun
  refine V_aload_n (pc := 0) hx hb dX7_number_0 rfl (lv_at hl 0 rfl) ?_
  obtain ⟨c1, hrun⟩ := gd_some hrun
  refine V_getI (pc := 1) C hH fr_X7_7 dX7_number_1 c1 rfl ?_
  exact V_iret (pc := 4) C hH hL hrun dX7_number_4

theorem m_X7_number {l : Launch} {D : va_G} {Hs : Heap} {h : Hp} {rr : (Int32 ⊕ Ex) × Hp} (hl9 : l.stackTraces = false) {x0 : Nat} (hrun : f_X7_number x0 h = some rr) : CM l yX7_number (ws_ yX7_number cX7_number 1 (some .int)) 1 0 iI [rv x0] D Hs h rr := by
  refine CM.of (lv := [(0, rv x0)]) (plainFor_of_name (by decide)) hl9 (by simp [lv_args, rv_cat, cat_i, cat_l, cat_f, cat_d]) (by simp [lg_sl, rv_cat, cat_i, cat_l, cat_f, cat_d]) ?_
  intro p e R s m args below meth c H ls C hH hl hin
  exact b_X7_number C x0 _ H [] _ _ ls hH (fun _ q => nomatch q) (lv_sub hl [0] rfl) hrun

/-! Massclaim$Defendant.number()I -/
def f_X8_number  (x0 : Nat) (h : Hp) : Rt Int32 :=
  gd (kC h x0 = 8) <| some (.inl (kI h 700 x0), h)
theorem b_X8_number {rr : (Int32 ⊕ Ex) × Hp}  (C : CX p l R s m args meth c D Hs cX8_number "Massclaim$Defendant" 1 (some .int) [] 1 0)  : ∀ (x0 : Nat) (h : Hp) (H : Heap) (locs : List Loc) (cells slots : Nat) (ls : Array Slot), HP D Hs h H → LO Hs locs → lv_has ls 1 [(0, rv x0)] → f_X8_number x0 h = some rr → W p l e R s m args below meth c H locs cells slots (ZM D Hs iI rr below args s) (F0 m 0 ls []) := by
  obtain ⟨⟨hx, hb, hml, hown, hts⟩, -⟩ := id C
  have hl9 := C.2.1.2.2.1
  intro x0 h H locs cells slots ls hH hL hl hrun
  unfold f_X8_number at hrun
  refine V_aload_n (pc := 0) hx hb dX8_number_0 rfl (lv_at hl 0 rfl) ?_
  obtain ⟨c1, hrun⟩ := gd_some hrun
  refine V_getI (pc := 1) C hH fr_X8_7 dX8_number_1 c1 rfl ?_
  exact V_iret (pc := 4) C hH hL hrun dX8_number_4

theorem m_X8_number {l : Launch} {D : va_G} {Hs : Heap} {h : Hp} {rr : (Int32 ⊕ Ex) × Hp} (hl9 : l.stackTraces = false) {x0 : Nat} (hrun : f_X8_number x0 h = some rr) : CM l yX8_number (ws_ yX8_number cX8_number 1 (some .int)) 1 0 iI [rv x0] D Hs h rr := by
  refine CM.of (lv := [(0, rv x0)]) (plainFor_of_name (by decide)) hl9 (by simp [lv_args, rv_cat, cat_i, cat_l, cat_f, cat_d]) (by simp [lg_sl, rv_cat, cat_i, cat_l, cat_f, cat_d]) ?_
  intro p e R s m args below meth c H ls C hH hl hin
  exact b_X8_number C x0 _ H [] _ _ ls hH (fun _ q => nomatch q) (lv_sub hl [0] rfl) hrun

/-! Massclaim$Claim.number()I -/
def f_X12_number  (x0 : Nat) (h : Hp) : Rt Int32 :=
  gd (kC h x0 = 12) <| some (.inl (kI h 1100 x0), h)
theorem b_X12_number {rr : (Int32 ⊕ Ex) × Hp}  (C : CX p l R s m args meth c D Hs cX12_number "Massclaim$Claim" 1 (some .int) [] 1 0)  : ∀ (x0 : Nat) (h : Hp) (H : Heap) (locs : List Loc) (cells slots : Nat) (ls : Array Slot), HP D Hs h H → LO Hs locs → lv_has ls 1 [(0, rv x0)] → f_X12_number x0 h = some rr → W p l e R s m args below meth c H locs cells slots (ZM D Hs iI rr below args s) (F0 m 0 ls []) := by
  obtain ⟨⟨hx, hb, hml, hown, hts⟩, -⟩ := id C
  have hl9 := C.2.1.2.2.1
  intro x0 h H locs cells slots ls hH hL hl hrun
  unfold f_X12_number at hrun
  refine V_aload_n (pc := 0) hx hb dX12_number_0 rfl (lv_at hl 0 rfl) ?_
  obtain ⟨c1, hrun⟩ := gd_some hrun
  refine V_getI (pc := 1) C hH fr_X12_29 dX12_number_1 c1 rfl ?_
  exact V_iret (pc := 4) C hH hL hrun dX12_number_4

theorem m_X12_number {l : Launch} {D : va_G} {Hs : Heap} {h : Hp} {rr : (Int32 ⊕ Ex) × Hp} (hl9 : l.stackTraces = false) {x0 : Nat} (hrun : f_X12_number x0 h = some rr) : CM l yX12_number (ws_ yX12_number cX12_number 1 (some .int)) 1 0 iI [rv x0] D Hs h rr := by
  refine CM.of (lv := [(0, rv x0)]) (plainFor_of_name (by decide)) hl9 (by simp [lv_args, rv_cat, cat_i, cat_l, cat_f, cat_d]) (by simp [lg_sl, rv_cat, cat_i, cat_l, cat_f, cat_d]) ?_
  intro p e R s m args below meth c H ls C hH hl hin
  exact b_X12_number C x0 _ H [] _ _ ls hH (fun _ q => nomatch q) (lv_sub hl [0] rfl) hrun

/-! Massclaim$Lien.number()I -/
def f_X16_number  (x0 : Nat) (h : Hp) : Rt Int32 :=
  gd (kC h x0 = 16) <| some (.inl (kI h 1500 x0), h)
theorem b_X16_number {rr : (Int32 ⊕ Ex) × Hp}  (C : CX p l R s m args meth c D Hs cX16_number "Massclaim$Lien" 1 (some .int) [] 1 0)  : ∀ (x0 : Nat) (h : Hp) (H : Heap) (locs : List Loc) (cells slots : Nat) (ls : Array Slot), HP D Hs h H → LO Hs locs → lv_has ls 1 [(0, rv x0)] → f_X16_number x0 h = some rr → W p l e R s m args below meth c H locs cells slots (ZM D Hs iI rr below args s) (F0 m 0 ls []) := by
  obtain ⟨⟨hx, hb, hml, hown, hts⟩, -⟩ := id C
  have hl9 := C.2.1.2.2.1
  intro x0 h H locs cells slots ls hH hL hl hrun
  unfold f_X16_number at hrun
  refine V_aload_n (pc := 0) hx hb dX16_number_0 rfl (lv_at hl 0 rfl) ?_
  obtain ⟨c1, hrun⟩ := gd_some hrun
  refine V_getI (pc := 1) C hH fr_X16_7 dX16_number_1 c1 rfl ?_
  exact V_iret (pc := 4) C hH hL hrun dX16_number_4

theorem m_X16_number {l : Launch} {D : va_G} {Hs : Heap} {h : Hp} {rr : (Int32 ⊕ Ex) × Hp} (hl9 : l.stackTraces = false) {x0 : Nat} (hrun : f_X16_number x0 h = some rr) : CM l yX16_number (ws_ yX16_number cX16_number 1 (some .int)) 1 0 iI [rv x0] D Hs h rr := by
  refine CM.of (lv := [(0, rv x0)]) (plainFor_of_name (by decide)) hl9 (by simp [lv_args, rv_cat, cat_i, cat_l, cat_f, cat_d]) (by simp [lg_sl, rv_cat, cat_i, cat_l, cat_f, cat_d]) ?_
  intro p e R s m args below meth c H ls C hH hl hin
  exact b_X16_number C x0 _ H [] _ _ ls hH (fun _ q => nomatch q) (lv_sub hl [0] rfl) hrun

/-! number() through the interface -/
def f_num (n : Nat) (h : Hp) : Rt Int32 := if kC h n = 5 then f_X5_number n h else if kC h n = 7 then f_X7_number n h else if kC h n = 8 then f_X8_number n h else if kC h n = 12 then f_X12_number n h else if kC h n = 16 then f_X16_number n h else none
theorem Z_num {p : Program} {l : Launch} {e : Env} {R : Room} {s : State} {m : MethodId} {args : Array Value} {below : List Frame} {meth : Method} {c : Code} {D : va_G} {Hs H : Heap} {locs : List Loc} {cc : ByteArray} {own : String} {nL : Nat} {ret : Option FieldType} {et : List (Nat × Nat × Nat × Nat)} {F X : Nat} {h : Hp} {pc : Nat} {ls : Array Slot} {rest st0 : List Value} {rr1 : (Int32 ⊕ Ex) × Hp} {idx n count : Nat} (C : CX p l R s m args meth c D Hs cc own nL ret et F X) (hH : HP D Hs h H) (e1 : f_num n h = some rr1) (hl9 : l.stackTraces = false) (hn : isN (kC h n))
    (w5 : WF own idx "Massclaim$Person" ⟨"Massclaim$Numbered", "number", "()I"⟩ yX5_number cX5_number 1 (some .int) 0) (w7 : WF own idx "Massclaim$Subclass" ⟨"Massclaim$Numbered", "number", "()I"⟩ yX7_number cX7_number 1 (some .int) 0) (w8 : WF own idx "Massclaim$Defendant" ⟨"Massclaim$Numbered", "number", "()I"⟩ yX8_number cX8_number 1 (some .int) 0) (w12 : WF own idx "Massclaim$Claim" ⟨"Massclaim$Numbered", "number", "()I"⟩ yX12_number cX12_number 1 (some .int) 0) (w16 : WF own idx "Massclaim$Lien" ⟨"Massclaim$Numbered", "number", "()I"⟩ yX16_number cX16_number 1 (some .int) 0)
    (hF : 2 ≤ F ∧ 20 ≤ X) (hst : st0 = rv n :: rest) (hs : csum rest ≤ 8) (hl : ls.size = nL) (hdg : decode cc pc = .ok (.invokeinterface idx count, 5)) :
    ZRun5 p l e R s m args below meth c D Hs H locs (F0 m pc ls st0) rest iI rr1 := by
  rcases hn with hn | hn | hn | hn | hn <;> (unfold f_num at e1; rw [hn] at e1)
  · exact Z_runF (As := []) C hH (m_X5_number hl9 e1) rfl w5 hn (by decide) rfl hF hst hs hl hdg
  · exact Z_runF (As := []) C hH (m_X7_number hl9 e1) rfl w7 hn (by decide) rfl hF hst hs hl hdg
  · exact Z_runF (As := []) C hH (m_X8_number hl9 e1) rfl w8 hn (by decide) rfl hF hst hs hl hdg
  · exact Z_runF (As := []) C hH (m_X12_number hl9 e1) rfl w12 hn (by decide) rfl hF hst hs hl hdg
  · exact Z_runF (As := []) C hH (m_X16_number hl9 e1) rfl w16 hn (by decide) rfl hF hst hs hl hdg
/-! Massclaim$Row.add(LMassclaim$Numbered;)I -/
def f_X2_add  (x0 : Nat) (x1 : Nat) (h : Hp) : Rt Int32 :=
  gd (kC h x0 = 2) <| bd (f_X2_hasRoom x0 h) fun v1 h2 => bd (f_X1_requireState v1 h2) fun _ h5 => gd (kC h5 x0 = 2) <| gd (kC h5 (kR h5 100 x0) = 18) <| bd (f_J2_add (kR h5 100 x0) x1 h5) fun v7 h8 => gd (isN (kC h8 x1)) <| bd (f_num x1 h8) fun v10 h11 => some (.inl v10, h11)
theorem b_X2_add {rr : (Int32 ⊕ Ex) × Hp}  (C : CX p l R s m args meth c D Hs cX2_add "Massclaim$Row" 3 (some .int) [] 8 331)  : ∀ (x0 : Nat) (x1 : Nat) (h : Hp) (H : Heap) (locs : List Loc) (cells slots : Nat) (ls : Array Slot), HP D Hs h H → LO Hs locs → lv_has ls 3 [(0, rv x0), (1, rv x1)] → f_X2_add x0 x1 h = some rr → W p l e R s m args below meth c H locs cells slots (ZM D Hs iI rr below args s) (F0 m 0 ls []) := by
  obtain ⟨⟨hx, hb, hml, hown, hts⟩, -⟩ := id C
  have hl9 := C.2.1.2.2.1
  intro x0 x1 h H locs cells slots ls hH hL hl hrun
  unfold f_X2_add at hrun
  refine V_aload_n (pc := 0) hx hb dX2_add_0 rfl (lv_at hl 0 rfl) ?_
  obtain ⟨c3, hrun⟩ := gd_some hrun
  refine V_bd (pc := 1) C hL rfl hrun (fun rr1 e1 => Z_runV (rest := []) C hH (m_X2_hasRoom hl9 e1) wV_X2_42 c3 rfl (by decide) rfl rfl ⟨by decide, by decide⟩ rfl (Nat.le_of_ble_eq_true rfl) hl.1 dX2_add_1) (fun v1 h2 H locs cells slots hH hL hrun => ?_)
  refine V_bd (pc := 4) C hL rfl hrun (fun rr1 e1 => Z_runSN (rest := []) C hH (m_X1_requireState hl9 e1) wSN_X2_46 rfl ⟨by decide, by decide⟩ rfl (Nat.le_of_ble_eq_true rfl) hl.1 dX2_add_4) (fun _ h5 H locs cells slots hH hL hrun => ?_)
  refine V_aload_n (pc := 7) hx hb dX2_add_7 rfl (lv_at hl 0 rfl) ?_
  obtain ⟨c6, hrun⟩ := gd_some hrun
  refine V_getR (pc := 8) C hH fr_X2_10 dX2_add_8 c6 rfl ?_
  refine V_aload_n (pc := 11) hx hb dX2_add_11 rfl (lv_at hl 1 rfl) ?_
  obtain ⟨c9, hrun⟩ := gd_some hrun
  refine V_bd5 (pc := 12) C hL rfl hrun (fun rr1 e1 => Z_runF (rest := []) C hH (m_J2_add hl9 e1) rfl wF_X2_49_J2 c9 (by decide) rfl ⟨by decide, by decide⟩ rfl (Nat.le_of_ble_eq_true rfl) hl.1 dX2_add_12) (fun v7 h8 H locs cells slots hH hL hrun => ?_)
  refine lv_istore_n (i := 2) (lv' := [(2, .int v7), (0, rv x0), (1, rv x1)]) (pc := 17) hx hb dX2_add_17 rfl hl (by decide) (by simp [rv_cat, cat_i, cat_l, cat_f, cat_d]) (fun ls hl => ?_)
  refine V_aload_n (pc := 18) hx hb dX2_add_18 rfl (lv_at hl 2 rfl) ?_
  obtain ⟨c12, hrun⟩ := gd_some hrun
  refine V_bd5 (pc := 19) C hL rfl hrun (fun rr1 e1 => Z_num  (rest := []) C hH e1 hl9 c12 wF_X2_53_X5 wF_X2_53_X7 wF_X2_53_X8 wF_X2_53_X12 wF_X2_53_X16 ⟨by decide, by decide⟩ rfl (Nat.le_of_ble_eq_true rfl) hl.1 dX2_add_19) (fun v10 h11 H locs cells slots hH hL hrun => ?_)
  exact V_iret (pc := 24) C hH hL hrun dX2_add_24

theorem m_X2_add {l : Launch} {D : va_G} {Hs : Heap} {h : Hp} {rr : (Int32 ⊕ Ex) × Hp} (hl9 : l.stackTraces = false) {x0 : Nat} {x1 : Nat} (hrun : f_X2_add x0 x1 h = some rr) : CM l yX2_add (ws_ yX2_add cX2_add 3 (some .int)) 8 331 iI [rv x0, rv x1] D Hs h rr := by
  refine CM.of (lv := [(0, rv x0), (1, rv x1)]) (plainFor_of_name (by decide)) hl9 (by simp [lv_args, rv_cat, cat_i, cat_l, cat_f, cat_d]) (by simp [lg_sl, rv_cat, cat_i, cat_l, cat_f, cat_d]) ?_
  intro p e R s m args below meth c H ls C hH hl hin
  exact b_X2_add C x0 x1 _ H [] _ _ ls hH (fun _ q => nomatch q) (lv_sub hl [0, 1] rfl) hrun

/-! Massclaim.person(IIII)I -/
def f_X1_person_58  (x0 : Nat) (x1 : Int32) (x2 : Int32) (x3 : Int32) (x4 : Int32) (y0 : Int32) (h : Hp) : Rt Int32 :=
  bd (f_X1_requireArgument y0 h) fun _ h2 => gd (kC h2 x0 = 1) <| nw h2 5 22 fun q4 h5 => gd (kC h5 x0 = 1) <| gd (kC h5 (kR h5 0 x0) = 2) <| bd (f_X2_size (kR h5 0 x0) h5) fun v7 h8 => gd (kC h8 q4 = 5) <| bd (f_X5_init q4 x0 v7 x1 x2 x3 x4 h8) fun _ h11 => gd (kC h11 (kR h2 0 x0) = 2) <| bd (f_X2_add (kR h2 0 x0) q4 h11) fun v13 h14 => some (.inl v13, h14)
def f_X1_person_57  (x0 : Nat) (x1 : Int32) (x2 : Int32) (x3 : Int32) (x4 : Int32) (h : Hp) : Rt Int32 :=
  f_X1_person_58 x0 x1 x2 x3 x4 (0 : Int32) h
def f_X1_person  (x0 : Nat) (x1 : Int32) (x2 : Int32) (x3 : Int32) (x4 : Int32) (h : Hp) : Rt Int32 :=
  gd (kC h x0 = 1) <| bd (f_X1_isIn (x1.toInt64) (-30000 : Int64) ((kI h 18 x0).toInt64) h) fun v17 h18 => if v17 = 0 then
  (f_X1_person_57 x0 x1 x2 x3 x4 h18)
  else
  (bd (f_X1_isIn (x2.toInt64) (0 : Int64) (9 : Int64) h18) fun v19 h20 => if v19 = 0 then
  (f_X1_person_57 x0 x1 x2 x3 x4 h20)
  else
  (bd (f_X1_isIn (x3.toInt64) (0 : Int64) (3 : Int64) h20) fun v21 h22 => if v21 = 0 then
  (f_X1_person_57 x0 x1 x2 x3 x4 h22)
  else
  (bd (f_X1_isIn (x4.toInt64) (0 : Int64) (600 : Int64) h22) fun v23 h24 => if v23 = 0 then
  (f_X1_person_57 x0 x1 x2 x3 x4 h24)
  else
  (f_X1_person_58 x0 x1 x2 x3 x4 (1 : Int32) h24))))
theorem b_X1_person_58 {rr : (Int32 ⊕ Ex) × Hp}  (C : CX p l R s m args meth c D Hs cX1_person "Massclaim" 5 (some .int) [] 9 353)  : ∀ (x0 : Nat) (x1 : Int32) (x2 : Int32) (x3 : Int32) (x4 : Int32) (y0 : Int32) (h : Hp) (H : Heap) (locs : List Loc) (cells slots : Nat) (ls : Array Slot), HP D Hs h H → LO Hs locs → lv_has ls 5 [(0, rv x0), (1, .int x1), (2, .int x2), (3, .int x3), (4, .int x4)] → f_X1_person_58 x0 x1 x2 x3 x4 y0 h = some rr → W p l e R s m args below meth c H locs cells slots (ZM D Hs iI rr below args s) (F0 m 58 ls [.int y0]) := by
  obtain ⟨⟨hx, hb, hml, hown, hts⟩, -⟩ := id C
  have hl9 := C.2.1.2.2.1
  intro x0 x1 x2 x3 x4 y0 h H locs cells slots ls hH hL hl hrun
  unfold f_X1_person_58 at hrun
  refine V_bd (pc := 58) C hL rfl hrun (fun rr1 e1 => Z_runS (rest := []) C hH (m_X1_requireArgument hl9 e1) wS_X1_131 rfl ⟨by decide, by decide⟩ rfl (Nat.le_of_ble_eq_true rfl) hl.1 dX1_person_58) (fun _ h2 H locs cells slots hH hL hrun => ?_)
  refine V_aload_n (pc := 61) hx hb dX1_person_61 rfl (lv_at hl 0 rfl) ?_
  obtain ⟨c3, hrun⟩ := gd_some hrun
  refine V_getR (pc := 62) C hH fr_X1_42 dX1_person_62 c3 rfl ?_
  refine V_new (pc := 65) C hH nl_X1_140 dX1_person_65 hrun (fun q4 h5 H cells slots hH hrun => ?_)
  refine lv_dup (pc := 68) hx hb dX1_person_68 (rv_cat _) ?_
  refine V_aload_n (pc := 69) hx hb dX1_person_69 rfl (lv_at hl 0 rfl) ?_
  refine V_aload_n (pc := 70) hx hb dX1_person_70 rfl (lv_at hl 0 rfl) ?_
  obtain ⟨c6, hrun⟩ := gd_some hrun
  refine V_getR (pc := 71) C hH fr_X1_42 dX1_person_71 c6 rfl ?_
  obtain ⟨c9, hrun⟩ := gd_some hrun
  refine V_bd (pc := 74) C hL rfl hrun (fun rr1 e1 => Z_runV (rest := [rv x0, rv q4, rv q4, rv (kR h2 0 x0)]) C hH (m_X2_size hl9 e1) wV_X1_135 c9 rfl (by decide) rfl rfl ⟨by decide, by decide⟩ rfl (by simp [csum, rv_cat, cat_i, cat_l, cat_f, cat_d]) hl.1 dX1_person_74) (fun v7 h8 H locs cells slots hH hL hrun => ?_)
  refine lv_iload_n (pc := 77) hx hb dX1_person_77 rfl (lv_at hl 1 rfl) ?_
  refine lv_iload_n (pc := 78) hx hb dX1_person_78 rfl (lv_at hl 2 rfl) ?_
  refine lv_iload_n (pc := 79) hx hb dX1_person_79 rfl (lv_at hl 3 rfl) ?_
  refine lv_iload (pc := 80) hx hb dX1_person_80 (lv_at hl 4 rfl) ?_
  obtain ⟨c12, hrun⟩ := gd_some hrun
  refine V_bd (pc := 82) C hL rfl hrun (fun rr1 e1 => Z_runI (rest := [rv q4, rv (kR h2 0 x0)]) C hH (m_X5_init hl9 e1) wI_X1_171 (hH.pos c12) rfl ⟨by decide, by decide⟩ rfl (by simp [csum, rv_cat, cat_i, cat_l, cat_f, cat_d]) hl.1 dX1_person_82) (fun _ h11 H locs cells slots hH hL hrun => ?_)
  obtain ⟨c15, hrun⟩ := gd_some hrun
  refine V_bd (pc := 85) C hL rfl hrun (fun rr1 e1 => Z_runV (rest := []) C hH (m_X2_add hl9 e1) wV_X1_174 c15 rfl (by decide) rfl rfl ⟨by decide, by decide⟩ rfl (Nat.le_of_ble_eq_true rfl) hl.1 dX1_person_85) (fun v13 h14 H locs cells slots hH hL hrun => ?_)
  exact V_iret (pc := 88) C hH hL hrun dX1_person_88

theorem b_X1_person_57 {rr : (Int32 ⊕ Ex) × Hp}  (C : CX p l R s m args meth c D Hs cX1_person "Massclaim" 5 (some .int) [] 9 353)  : ∀ (x0 : Nat) (x1 : Int32) (x2 : Int32) (x3 : Int32) (x4 : Int32) (h : Hp) (H : Heap) (locs : List Loc) (cells slots : Nat) (ls : Array Slot), HP D Hs h H → LO Hs locs → lv_has ls 5 [(0, rv x0), (1, .int x1), (2, .int x2), (3, .int x3), (4, .int x4)] → f_X1_person_57 x0 x1 x2 x3 x4 h = some rr → W p l e R s m args below meth c H locs cells slots (ZM D Hs iI rr below args s) (F0 m 57 ls []) := by
  obtain ⟨⟨hx, hb, hml, hown, hts⟩, -⟩ := id C
  have hl9 := C.2.1.2.2.1
  intro x0 x1 x2 x3 x4 h H locs cells slots ls hH hL hl hrun
  unfold f_X1_person_57 at hrun
  refine lv_iconst (v := (0 : Int32)) (pc := 57) hx hb dX1_person_57 (by decide) ?_
  exact b_X1_person_58 C x0 x1 x2 x3 x4 (0 : Int32) h H locs cells slots ls hH hL (lv_sub hl [0, 1, 2, 3, 4] rfl) hrun

theorem b_X1_person {rr : (Int32 ⊕ Ex) × Hp}  (C : CX p l R s m args meth c D Hs cX1_person "Massclaim" 5 (some .int) [] 9 353)  : ∀ (x0 : Nat) (x1 : Int32) (x2 : Int32) (x3 : Int32) (x4 : Int32) (h : Hp) (H : Heap) (locs : List Loc) (cells slots : Nat) (ls : Array Slot), HP D Hs h H → LO Hs locs → lv_has ls 5 [(0, rv x0), (1, .int x1), (2, .int x2), (3, .int x3), (4, .int x4)] → f_X1_person x0 x1 x2 x3 x4 h = some rr → W p l e R s m args below meth c H locs cells slots (ZM D Hs iI rr below args s) (F0 m 0 ls []) := by
  obtain ⟨⟨hx, hb, hml, hown, hts⟩, -⟩ := id C
  have hl9 := C.2.1.2.2.1
  intro x0 x1 x2 x3 x4 h H locs cells slots ls hH hL hl hrun
  unfold f_X1_person at hrun
  refine lv_iload_n (pc := 0) hx hb dX1_person_0 rfl (lv_at hl 1 rfl) ?_
  refine lv_i2l (pc := 1) hx hb dX1_person_1 rfl ?_
  refine lv_ldc2 (pc := 2) hx hb hown (hts _ q590) dX1_person_2 ?_
  refine V_aload_n (pc := 5) hx hb dX1_person_5 rfl (lv_at hl 0 rfl) ?_
  obtain ⟨c16, hrun⟩ := gd_some hrun
  refine V_getI (pc := 6) C hH fr_X1_115 dX1_person_6 c16 rfl ?_
  refine lv_i2l (pc := 9) hx hb dX1_person_9 rfl ?_
  refine V_bd (pc := 10) C hL rfl hrun (fun rr1 e1 => Z_runS (rest := []) C hH (m_X1_isIn hl9 e1) wS_X1_127 rfl ⟨by decide, by decide⟩ rfl (Nat.le_of_ble_eq_true rfl) hl.1 dX1_person_10) (fun v17 h18 H locs cells slots hH hL hrun => ?_)
  refine lv_if_eq (tgt := 57) (pc := 13) hx hb dX1_person_13 (by decide) (fun c_ => ?_) (fun c_ => ?_)
  · have hrun := ite_t hrun c_
    exact b_X1_person_57 C x0 x1 x2 x3 x4 h18 H locs cells slots ls hH hL (lv_sub hl [0, 1, 2, 3, 4] rfl) hrun
  · have hrun := ite_f hrun c_
    refine lv_iload_n (pc := 16) hx hb dX1_person_16 rfl (lv_at hl 2 rfl) ?_
    refine lv_i2l (pc := 17) hx hb dX1_person_17 rfl ?_
    refine lv_lconst (v := (0 : Int64)) (pc := 18) hx hb dX1_person_18 (by decide) ?_
    refine lv_ldc2 (pc := 19) hx hb hown (hts _ q591) dX1_person_19 ?_
    refine V_bd (pc := 22) C hL rfl hrun (fun rr1 e1 => Z_runS (rest := []) C hH (m_X1_isIn hl9 e1) wS_X1_127 rfl ⟨by decide, by decide⟩ rfl (Nat.le_of_ble_eq_true rfl) hl.1 dX1_person_22) (fun v19 h20 H locs cells slots hH hL hrun => ?_)
    refine lv_if_eq (tgt := 57) (pc := 25) hx hb dX1_person_25 (by decide) (fun c_ => ?_) (fun c_ => ?_)
    · have hrun := ite_t hrun c_
      exact b_X1_person_57 C x0 x1 x2 x3 x4 h20 H locs cells slots ls hH hL (lv_sub hl [0, 1, 2, 3, 4] rfl) hrun
    · have hrun := ite_f hrun c_
      refine lv_iload_n (pc := 28) hx hb dX1_person_28 rfl (lv_at hl 3 rfl) ?_
      refine lv_i2l (pc := 29) hx hb dX1_person_29 rfl ?_
      refine lv_lconst (v := (0 : Int64)) (pc := 30) hx hb dX1_person_30 (by decide) ?_
      refine lv_ldc2 (pc := 31) hx hb hown (hts _ q592) dX1_person_31 ?_
      refine V_bd (pc := 34) C hL rfl hrun (fun rr1 e1 => Z_runS (rest := []) C hH (m_X1_isIn hl9 e1) wS_X1_127 rfl ⟨by decide, by decide⟩ rfl (Nat.le_of_ble_eq_true rfl) hl.1 dX1_person_34) (fun v21 h22 H locs cells slots hH hL hrun => ?_)
      refine lv_if_eq (tgt := 57) (pc := 37) hx hb dX1_person_37 (by decide) (fun c_ => ?_) (fun c_ => ?_)
      · have hrun := ite_t hrun c_
        exact b_X1_person_57 C x0 x1 x2 x3 x4 h22 H locs cells slots ls hH hL (lv_sub hl [0, 1, 2, 3, 4] rfl) hrun
      · have hrun := ite_f hrun c_
        refine lv_iload (pc := 40) hx hb dX1_person_40 (lv_at hl 4 rfl) ?_
        refine lv_i2l (pc := 42) hx hb dX1_person_42 rfl ?_
        refine lv_lconst (v := (0 : Int64)) (pc := 43) hx hb dX1_person_43 (by decide) ?_
        refine lv_ldc2 (pc := 44) hx hb hown (hts _ q593) dX1_person_44 ?_
        refine V_bd (pc := 47) C hL rfl hrun (fun rr1 e1 => Z_runS (rest := []) C hH (m_X1_isIn hl9 e1) wS_X1_127 rfl ⟨by decide, by decide⟩ rfl (Nat.le_of_ble_eq_true rfl) hl.1 dX1_person_47) (fun v23 h24 H locs cells slots hH hL hrun => ?_)
        refine lv_if_eq (tgt := 57) (pc := 50) hx hb dX1_person_50 (by decide) (fun c_ => ?_) (fun c_ => ?_)
        · have hrun := ite_t hrun c_
          exact b_X1_person_57 C x0 x1 x2 x3 x4 h24 H locs cells slots ls hH hL (lv_sub hl [0, 1, 2, 3, 4] rfl) hrun
        · have hrun := ite_f hrun c_
          refine lv_iconst (v := (1 : Int32)) (pc := 53) hx hb dX1_person_53 (by decide) ?_
          refine lv_goto (tgt := 58) (pc := 54) hx hb dX1_person_54 (by decide) ?_
          exact b_X1_person_58 C x0 x1 x2 x3 x4 (1 : Int32) h24 H locs cells slots ls hH hL (lv_sub hl [0, 1, 2, 3, 4] rfl) hrun

theorem m_X1_person {l : Launch} {D : va_G} {Hs : Heap} {h : Hp} {rr : (Int32 ⊕ Ex) × Hp} (hl9 : l.stackTraces = false) {x0 : Nat} {x1 : Int32} {x2 : Int32} {x3 : Int32} {x4 : Int32} (hrun : f_X1_person x0 x1 x2 x3 x4 h = some rr) : CM l yX1_person (ws_ yX1_person cX1_person 5 (some .int)) 9 353 iI [rv x0, .int x1, .int x2, .int x3, .int x4] D Hs h rr := by
  refine CM.of (lv := [(0, rv x0), (1, .int x1), (2, .int x2), (3, .int x3), (4, .int x4)]) (plainFor_of_name (by decide)) hl9 (by simp [lv_args, rv_cat, cat_i, cat_l, cat_f, cat_d]) (by simp [lg_sl, rv_cat, cat_i, cat_l, cat_f, cat_d]) ?_
  intro p e R s m args below meth c H ls C hH hl hin
  exact b_X1_person C x0 x1 x2 x3 x4 _ H [] _ _ ls hH (fun _ q => nomatch q) (lv_sub hl [0, 1, 2, 3, 4] rfl) hrun

/-! MassclaimLaw.person(LMassclaim;IIII[J)I -/
def f_X0_person_17  (y0 : Nat) (h : Hp) : Rt Int32 :=
  some (.inl (1 : Int32), h)
def f_X0_person_21  (y0 : Nat) (h : Hp) : Rt Int32 :=
  some (.inl (2 : Int32), h)
def f_X0_person  (x0 : Nat) (x1 : Int32) (x2 : Int32) (x3 : Int32) (x4 : Int32) (x5 : Nat) (h : Hp) : Rt Int32 :=
  gd (kC h x0 = 1) <| bdH (f_X1_person x0 x1 x2 x3 x4 h)
  (fun v1 h2 => gd (kC h2 x5 = 102 ∧ ixo (0 : Int32) (kN h2 x5)) <| vl (tL h2 x5 ((0 : Int32)).toNatClampNeg (v1.toInt64)) fun h5 => some (.inl (0 : Int32), h5))
  (fun ex6 h7 => if ex6.1 = 902 then
  (f_X0_person_17 ex6.2 h7)
  else
  if ex6.1 = 903 then
  (f_X0_person_21 ex6.2 h7)
  else
  none)
theorem b_X0_person_17 {rr : (Int32 ⊕ Ex) × Hp}  (C : CX p l R s m args meth c D Hs cX0_person "MassclaimLaw" 7 (some .int) [(0, 14, 17, 13), (0, 14, 21, 19)] 10 377)  : ∀ (y0 : Nat) (h : Hp) (H : Heap) (locs : List Loc) (cells slots : Nat) (ls : Array Slot), HP D Hs h H → LO Hs locs → lv_has ls 7 [] → f_X0_person_17 y0 h = some rr → W p l e R s m args below meth c H locs cells slots (ZM D Hs iI rr below args s) (F0 m 17 ls [rv y0]) := by
  obtain ⟨⟨hx, hb, hml, hown, hts⟩, -⟩ := id C
  have hl9 := C.2.1.2.2.1
  intro y0 h H locs cells slots ls hH hL hl hrun
  unfold f_X0_person_17 at hrun
  refine V_astore (i := 6) (lv' := [(6, rv y0)]) (pc := 17) hx hb dX0_person_17 hl (by decide) rfl (fun ls hl => ?_)
  refine lv_iconst (v := (1 : Int32)) (pc := 19) hx hb dX0_person_19 (by decide) ?_
  exact V_iret (pc := 20) C hH hL hrun dX0_person_20

theorem b_X0_person_21 {rr : (Int32 ⊕ Ex) × Hp}  (C : CX p l R s m args meth c D Hs cX0_person "MassclaimLaw" 7 (some .int) [(0, 14, 17, 13), (0, 14, 21, 19)] 10 377)  : ∀ (y0 : Nat) (h : Hp) (H : Heap) (locs : List Loc) (cells slots : Nat) (ls : Array Slot), HP D Hs h H → LO Hs locs → lv_has ls 7 [] → f_X0_person_21 y0 h = some rr → W p l e R s m args below meth c H locs cells slots (ZM D Hs iI rr below args s) (F0 m 21 ls [rv y0]) := by
  obtain ⟨⟨hx, hb, hml, hown, hts⟩, -⟩ := id C
  have hl9 := C.2.1.2.2.1
  intro y0 h H locs cells slots ls hH hL hl hrun
  unfold f_X0_person_21 at hrun
  refine V_astore (i := 6) (lv' := [(6, rv y0)]) (pc := 21) hx hb dX0_person_21 hl (by decide) rfl (fun ls hl => ?_)
  refine lv_iconst (v := (2 : Int32)) (pc := 23) hx hb dX0_person_23 (by decide) ?_
  exact V_iret (pc := 24) C hH hL hrun dX0_person_24

theorem b_X0_person {rr : (Int32 ⊕ Ex) × Hp}  (C : CX p l R s m args meth c D Hs cX0_person "MassclaimLaw" 7 (some .int) [(0, 14, 17, 13), (0, 14, 21, 19)] 10 377)  : ∀ (x0 : Nat) (x1 : Int32) (x2 : Int32) (x3 : Int32) (x4 : Int32) (x5 : Nat) (h : Hp) (H : Heap) (locs : List Loc) (cells slots : Nat) (ls : Array Slot), HP D Hs h H → LO Hs locs → lv_has ls 7 [(0, rv x0), (1, .int x1), (2, .int x2), (3, .int x3), (4, .int x4), (5, rv x5)] → f_X0_person x0 x1 x2 x3 x4 x5 h = some rr → W p l e R s m args below meth c H locs cells slots (ZM D Hs iI rr below args s) (F0 m 0 ls []) := by
  obtain ⟨⟨hx, hb, hml, hown, hts⟩, -⟩ := id C
  have hl9 := C.2.1.2.2.1
  intro x0 x1 x2 x3 x4 x5 h H locs cells slots ls hH hL hl hrun
  unfold f_X0_person at hrun
  refine V_aload (pc := 0) hx hb dX0_person_0 (lv_at hl 5 rfl) ?_
  refine lv_iconst (v := (0 : Int32)) (pc := 2) hx hb dX0_person_2 (by decide) ?_
  refine V_aload_n (pc := 3) hx hb dX0_person_3 rfl (lv_at hl 0 rfl) ?_
  refine lv_iload_n (pc := 4) hx hb dX0_person_4 rfl (lv_at hl 1 rfl) ?_
  refine lv_iload_n (pc := 5) hx hb dX0_person_5 rfl (lv_at hl 2 rfl) ?_
  refine lv_iload_n (pc := 6) hx hb dX0_person_6 rfl (lv_at hl 3 rfl) ?_
  refine lv_iload (pc := 7) hx hb dX0_person_7 (lv_at hl 4 rfl) ?_
  obtain ⟨c3, hrun⟩ := gd_some hrun
  refine V_bdH (pc := 9) hL hrun (fun rr1 e1 => Z_runV (rest := [.int (0 : Int32), rv x5]) C hH (m_X1_person hl9 e1) wV_X0_15 c3 rfl (by decide) rfl rfl ⟨by decide, by decide⟩ rfl (by simp [csum, rv_cat, cat_i, cat_l, cat_f, cat_d]) hl.1 dX0_person_9) (fun v1 h2 H locs cells slots hH hL hrun => ?_) (fun x_ q_ ce_ h7 H locs cells slots hH hL hrun hc_ hv_ hcl_ => ?_)
  · refine lv_i2l (pc := 12) hx hb dX0_person_12 rfl ?_
    obtain ⟨c4, hrun⟩ := gd_some hrun
    refine V_last (pc := 13) C hH hL dX0_person_13 c4 hrun (fun h5 H locs hH hL hrun => ?_)
    refine lv_goto (tgt := 25) (pc := 14) hx hb dX0_person_14 (by decide) ?_
    refine lv_iconst (v := (0 : Int32)) (pc := 25) hx hb dX0_person_25 (by decide) ?_
    exact V_iret (pc := 26) C hH hL hrun dX0_person_26
  · by_cases n902 : x_ = 902
    · subst n902
      have hrun := ite_t hrun rfl
      refine vx_catch (E := "java/lang/IllegalArgumentException") (name := "java/lang/IllegalArgumentException") hown (tableOf []) ⟨0, 14, 17, 13⟩ (tableOf [(0, 14, 21, 19)]) (by rw [C.2.1.2.2.2.2]; rfl) (fun z hz => nomatch hz) (by decide) (by decide) (hts _ q449) (va_Nw.use rfl (C.2.1.2.2.2.1.2.1 _ q463 rfl)) hc_ hv_ hcl_ ?_
      exact b_X0_person_17 C (q_ + 1) h7 H locs cells slots ls hH hL (lv_sub hl [] rfl) hrun
    have hrun := ite_f hrun n902
    by_cases n903 : x_ = 903
    · subst n903
      have hrun := ite_t hrun rfl
      refine vx_catch (E := "java/lang/IllegalStateException") (name := "java/lang/IllegalStateException") hown (tableOf [(0, 14, 17, 13)]) ⟨0, 14, 21, 19⟩ (tableOf []) (by rw [C.2.1.2.2.2.2]; rfl) (fun z hz => by simp only [tableOf, List.map, List.mem_cons, List.not_mem_nil, or_false] at hz; rcases hz with rfl <;> first | exact Or.inr ⟨by decide, "java/lang/IllegalArgumentException", hts _ q449, nc_at C (by decide)⟩) (by decide) (by decide) (hts _ q585) (va_Nw.use rfl (C.2.1.2.2.2.1.2.1 _ q702 rfl)) hc_ hv_ hcl_ ?_
      exact b_X0_person_21 C (q_ + 1) h7 H locs cells slots ls hH hL (lv_sub hl [] rfl) hrun
    have hrun := ite_f hrun n903
    cases hrun

theorem m_X0_person {l : Launch} {D : va_G} {Hs : Heap} {h : Hp} {rr : (Int32 ⊕ Ex) × Hp} (hl9 : l.stackTraces = false) {x0 : Nat} {x1 : Int32} {x2 : Int32} {x3 : Int32} {x4 : Int32} {x5 : Nat} (hrun : f_X0_person x0 x1 x2 x3 x4 x5 h = some rr) : CM l yX0_person (wsW_ yX0_person cX0_person 7 (some .int) [(0, 14, 17, 13), (0, 14, 21, 19)]) 10 377 iI [rv x0, .int x1, .int x2, .int x3, .int x4, rv x5] D Hs h rr := by
  refine CM.ofH (lv := [(0, rv x0), (1, .int x1), (2, .int x2), (3, .int x3), (4, .int x4), (5, rv x5)]) (plainFor_of_name (by decide)) hl9 (by simp [lv_args, rv_cat, cat_i, cat_l, cat_f, cat_d]) (by simp [lg_sl, rv_cat, cat_i, cat_l, cat_f, cat_d]) ?_
  intro p e R s m args below meth c H ls C hH hl hin
  exact b_X0_person C x0 x1 x2 x3 x4 x5 _ H [] _ _ ls hH (fun _ q => nomatch q) (lv_sub hl [0, 1, 2, 3, 4, 5] rfl) hrun

/-! MassclaimModel$Person.<init>()V -/
def f_X6_init  (x0 : Nat) (h : Hp) : Rt Unit :=
  gd (kC h x0 = 6) <| vl (sI h 505 x0 (-1 : Int32)) fun h2 => na h2 102 (3 : Int32) fun q3 h4 => gd (kC h4 x0 = 6) <| vl (sR h4 507 x0 q3) fun h6 => gd (kC h6 x0 = 6) <| vl (sI h6 508 x0 (1 : Int32)) fun h8 => gd (kC h8 x0 = 6) <| vl (sI h8 509 x0 (-1 : Int32)) fun h10 => gd (kC h10 x0 = 6) <| vl (sI h10 513 x0 (-1 : Int32)) fun h12 => nw h12 18 3 fun q13 h14 => gd (kC h14 q13 = 18) <| bd (f_J2_init q13 h14) fun _ h16 => gd (kC h16 x0 = 6) <| vl (sR h16 521 x0 q13) fun h19 => some (.inl (), h19)
theorem b_X6_init {rr : (Unit ⊕ Ex) × Hp}  (C : CX p l R s m args meth c D Hs cX6_init "MassclaimModel$Person" 1 none [] 4 80) (hin : meth.name = "<init>")  : ∀ (x0 : Nat) (h : Hp) (H : Heap) (locs : List Loc) (cells slots : Nat) (ls : Array Slot), HP D Hs h H → LO Hs locs → lv_has ls 1 [(0, rv x0)] → f_X6_init x0 h = some rr → W p l e R s m args below meth c H locs cells slots (ZM D Hs iV rr below args s) (F0 m 0 ls []) := by
  obtain ⟨⟨hx, hb, hml, hown, hts⟩, -⟩ := id C
  have hl9 := C.2.1.2.2.1
  intro x0 h H locs cells slots ls hH hL hl hrun
  unfold f_X6_init at hrun
  refine V_aload_n (pc := 0) hx hb dX6_init_0 rfl (lv_at hl 0 rfl) ?_
  obtain ⟨c1, hrun⟩ := gd_some hrun
  refine V_objInit (pc := 1) C q1984 q113 q114 (hH.pos c1) dX6_init_1 (by decide) (by simp [csum, rv_cat, cat_i, cat_l, cat_f, cat_d]) hl.1 ?_
  refine V_aload_n (pc := 4) hx hb dX6_init_4 rfl (lv_at hl 0 rfl) ?_
  refine lv_iconst (v := (-1 : Int32)) (pc := 5) hx hb dX6_init_5 (by decide) ?_
  refine V_putI (pc := 6) C hH hL fl_X6_9 dX6_init_6 c1 (fok_i _) rfl (fun q => Bool.noConfusion q) hrun (fun h2 H locs hH hL hrun => ?_)
  refine V_aload_n (pc := 9) hx hb dX6_init_9 rfl (lv_at hl 0 rfl) ?_
  refine lv_iconst (v := (3 : Int32)) (pc := 10) hx hb dX6_init_10 (by decide) ?_
  refine V_newa (at_ := .long) (pc := 11) C hH (Or.inr ⟨rfl, rfl⟩) q195 dX6_init_11 hrun (fun q3 h4 H cells slots hH hrun => ?_)
  obtain ⟨c5, hrun⟩ := gd_some hrun
  refine V_putR (pc := 13) C hH hL fl_X6_15 dX6_init_13 c5 (fok_a _ _) rfl (fun _ => hin) hrun (fun h6 H locs hH hL hrun => ?_)
  refine V_aload_n (pc := 16) hx hb dX6_init_16 rfl (lv_at hl 0 rfl) ?_
  refine lv_iconst (v := (1 : Int32)) (pc := 17) hx hb dX6_init_17 (by decide) ?_
  obtain ⟨c7, hrun⟩ := gd_some hrun
  refine V_putI (pc := 18) C hH hL fl_X6_19 dX6_init_18 c7 (fok_z (Or.inr rfl)) rfl (fun q => Bool.noConfusion q) hrun (fun h8 H locs hH hL hrun => ?_)
  refine V_aload_n (pc := 21) hx hb dX6_init_21 rfl (lv_at hl 0 rfl) ?_
  refine lv_iconst (v := (-1 : Int32)) (pc := 22) hx hb dX6_init_22 (by decide) ?_
  obtain ⟨c9, hrun⟩ := gd_some hrun
  refine V_putI (pc := 23) C hH hL fl_X6_23 dX6_init_23 c9 (fok_i _) rfl (fun q => Bool.noConfusion q) hrun (fun h10 H locs hH hL hrun => ?_)
  refine V_aload_n (pc := 26) hx hb dX6_init_26 rfl (lv_at hl 0 rfl) ?_
  refine lv_iconst (v := (-1 : Int32)) (pc := 27) hx hb dX6_init_27 (by decide) ?_
  obtain ⟨c11, hrun⟩ := gd_some hrun
  refine V_putI (pc := 28) C hH hL fl_X6_26 dX6_init_28 c11 (fok_i _) rfl (fun q => Bool.noConfusion q) hrun (fun h12 H locs hH hL hrun => ?_)
  refine V_aload_n (pc := 31) hx hb dX6_init_31 rfl (lv_at hl 0 rfl) ?_
  refine V_new (pc := 32) C hH nl_X6_29 dX6_init_32 hrun (fun q13 h14 H cells slots hH hrun => ?_)
  refine lv_dup (pc := 35) hx hb dX6_init_35 (rv_cat _) ?_
  obtain ⟨c17, hrun⟩ := gd_some hrun
  refine V_bd (pc := 36) C hL rfl hrun (fun rr1 e1 => Z_runI (rest := [rv q13, rv x0]) C hH (m_J2_init hl9 e1) wI_X6_31 (hH.pos c17) rfl ⟨by decide, by decide⟩ rfl (by simp [csum, rv_cat, cat_i, cat_l, cat_f, cat_d]) hl.1 dX6_init_36) (fun _ h16 H locs cells slots hH hL hrun => ?_)
  obtain ⟨c18, hrun⟩ := gd_some hrun
  refine V_putR (pc := 39) C hH hL fl_X6_32 dX6_init_39 c18 (fok_o _ _) rfl (fun _ => hin) hrun (fun h19 H locs hH hL hrun => ?_)
  exact V_vret (pc := 42) C hH hL hrun dX6_init_42

theorem m_X6_init {l : Launch} {D : va_G} {Hs : Heap} {h : Hp} {rr : (Unit ⊕ Ex) × Hp} (hl9 : l.stackTraces = false) {x0 : Nat} (hrun : f_X6_init x0 h = some rr) : CM l yX6_init (ws_ yX6_init cX6_init 1 none) 4 80 iV [rv x0] D Hs h rr := by
  refine CM.of (lv := [(0, rv x0)]) (plainFor_of_name (by decide)) hl9 (by simp [lv_args, rv_cat, cat_i, cat_l, cat_f, cat_d]) (by simp [lg_sl, rv_cat, cat_i, cat_l, cat_f, cat_d]) ?_
  intro p e R s m args below meth c H ls C hH hl hin
  exact b_X6_init C hin x0 _ H [] _ _ ls hH (fun _ q => nomatch q) (lv_sub hl [0] rfl) hrun

/-! MassclaimModel.person(IIII)I -/
def f_X4_person_95  (h : Hp) : Rt Int32 :=
  some (.inl (0 : Int32), h)
def f_X4_person_88  (x0 : Nat) (x1 : Int32) (x2 : Int32) (x3 : Int32) (x4 : Int32) (y0 : Nat) (y1 : Int32) (h : Hp) : Rt Int32 :=
  gd (kC h y0 = 4) <| bd (f_X4_isGood y0 y1 (2 : Int32) h) fun v1 h2 => if v1 = 0 then
  (f_X4_person_95  h2)
  else
  (nw h2 6 22 fun q4 h5 => gd (kC h5 q4 = 6) <| bd (f_X6_init q4 h5) fun _ h7 => gd (kC h7 q4 = 6) <| vl (sI h7 500 q4 x1) fun h10 => gd (kC h10 q4 = 6) <| vl (sI h10 501 q4 x2) fun h12 => gd (kC h12 q4 = 6) <| vl (sI h12 502 q4 x3) fun h14 => gd (kC h14 q4 = 6) <| vl (sI h14 503 q4 x4) fun h16 => gd (kC h16 x0 = 4) <| gd (kC h16 (kR h16 302 x0) = 18) <| bd (f_J2_add (kR h16 302 x0) q4 h16) fun v18 h19 => gd (kC h19 x0 = 4) <| gd (kC h19 (kR h19 302 x0) = 18) <| bd (f_J2_size (kR h19 302 x0) h19) fun v22 h23 => some (.inl (v22 - (1 : Int32)), h23))
def f_X4_person_58  (x0 : Nat) (x1 : Int32) (x2 : Int32) (x3 : Int32) (x4 : Int32) (y0 : Int32) (h : Hp) : Rt Int32 :=
  gd (kC h x0 = 4) <| bd (f_X4_isGood x0 y0 (1 : Int32) h) fun v25 h26 => if v25 = 0 then
  (f_X4_person_95  h26)
  else
  (gd (kC h26 x0 = 4) <| gd (kC h26 (kR h26 302 x0) = 18) <| bd (f_J2_size (kR h26 302 x0) h26) fun v29 h30 => if (50 : Int32) ≤ v29 then
  (f_X4_person_88 x0 x1 x2 x3 x4 x0 (0 : Int32) h30)
  else
  (f_X4_person_88 x0 x1 x2 x3 x4 x0 (1 : Int32) h30))
def f_X4_person_57  (x0 : Nat) (x1 : Int32) (x2 : Int32) (x3 : Int32) (x4 : Int32) (h : Hp) : Rt Int32 :=
  f_X4_person_58 x0 x1 x2 x3 x4 (0 : Int32) h
def f_X4_person  (x0 : Nat) (x1 : Int32) (x2 : Int32) (x3 : Int32) (x4 : Int32) (h : Hp) : Rt Int32 :=
  gd (kC h x0 = 4) <| bd (f_X4_isWithin (x1.toInt64) (-30000 : Int64) ((kI h 301 x0).toInt64) h) fun v33 h34 => if v33 = 0 then
  (f_X4_person_57 x0 x1 x2 x3 x4 h34)
  else
  (bd (f_X4_isWithin (x2.toInt64) (0 : Int64) (9 : Int64) h34) fun v35 h36 => if v35 = 0 then
  (f_X4_person_57 x0 x1 x2 x3 x4 h36)
  else
  (bd (f_X4_isWithin (x3.toInt64) (0 : Int64) (3 : Int64) h36) fun v37 h38 => if v37 = 0 then
  (f_X4_person_57 x0 x1 x2 x3 x4 h38)
  else
  (bd (f_X4_isWithin (x4.toInt64) (0 : Int64) (600 : Int64) h38) fun v39 h40 => if v39 = 0 then
  (f_X4_person_57 x0 x1 x2 x3 x4 h40)
  else
  (f_X4_person_58 x0 x1 x2 x3 x4 (1 : Int32) h40))))
theorem b_X4_person_95 {rr : (Int32 ⊕ Ex) × Hp}  (C : CX p l R s m args meth c D Hs cX4_person "MassclaimModel" 7 (some .int) [] 8 331)  : ∀ (h : Hp) (H : Heap) (locs : List Loc) (cells slots : Nat) (ls : Array Slot), HP D Hs h H → LO Hs locs → lv_has ls 7 [] → f_X4_person_95 h = some rr → W p l e R s m args below meth c H locs cells slots (ZM D Hs iI rr below args s) (F0 m 95 ls []) := by
  obtain ⟨⟨hx, hb, hml, hown, hts⟩, -⟩ := id C
  have hl9 := C.2.1.2.2.1
  intro h H locs cells slots ls hH hL hl hrun
  unfold f_X4_person_95 at hrun
  refine lv_iconst (v := (0 : Int32)) (pc := 95) hx hb dX4_person_95 (by decide) ?_
  exact V_iret (pc := 96) C hH hL hrun dX4_person_96

theorem b_X4_person_88 {rr : (Int32 ⊕ Ex) × Hp}  (C : CX p l R s m args meth c D Hs cX4_person "MassclaimModel" 7 (some .int) [] 8 331)  : ∀ (x0 : Nat) (x1 : Int32) (x2 : Int32) (x3 : Int32) (x4 : Int32) (y0 : Nat) (y1 : Int32) (h : Hp) (H : Heap) (locs : List Loc) (cells slots : Nat) (ls : Array Slot), HP D Hs h H → LO Hs locs → lv_has ls 7 [(0, rv x0), (1, .int x1), (2, .int x2), (3, .int x3), (4, .int x4)] → f_X4_person_88 x0 x1 x2 x3 x4 y0 y1 h = some rr → W p l e R s m args below meth c H locs cells slots (ZM D Hs iI rr below args s) (F0 m 88 ls [.int y1, rv y0]) := by
  obtain ⟨⟨hx, hb, hml, hown, hts⟩, -⟩ := id C
  have hl9 := C.2.1.2.2.1
  intro x0 x1 x2 x3 x4 y0 y1 h H locs cells slots ls hH hL hl hrun
  unfold f_X4_person_88 at hrun
  refine lv_iconst (v := (2 : Int32)) (pc := 88) hx hb dX4_person_88 (by decide) ?_
  obtain ⟨c3, hrun⟩ := gd_some hrun
  refine V_bd (pc := 89) C hL rfl hrun (fun rr1 e1 => Z_runV (rest := []) C hH (m_X4_isGood hl9 e1) wV_X4_104 c3 rfl (by decide) rfl rfl ⟨by decide, by decide⟩ rfl (Nat.le_of_ble_eq_true rfl) hl.1 dX4_person_89) (fun v1 h2 H locs cells slots hH hL hrun => ?_)
  refine lv_if_ne (tgt := 97) (pc := 92) hx hb dX4_person_92 (by decide) (fun c_ => ?_) (fun c_ => ?_)
  · have hrun := ite_f hrun c_
    refine V_new (pc := 97) C hH nl_X4_112 dX4_person_97 hrun (fun q4 h5 H cells slots hH hrun => ?_)
    refine lv_dup (pc := 100) hx hb dX4_person_100 (rv_cat _) ?_
    obtain ⟨c8, hrun⟩ := gd_some hrun
    refine V_bd (pc := 101) C hL rfl hrun (fun rr1 e1 => Z_runIN (rest := [rv q4]) C hH (m_X6_init hl9 e1) wIN_X4_175 (hH.pos c8) rfl ⟨by decide, by decide⟩ rfl (by simp [csum, rv_cat, cat_i, cat_l, cat_f, cat_d]) hl.1 dX4_person_101) (fun _ h7 H locs cells slots hH hL hrun => ?_)
    refine V_astore (i := 6) (lv' := [(6, rv q4), (0, rv x0), (1, .int x1), (2, .int x2), (3, .int x3), (4, .int x4)]) (pc := 104) hx hb dX4_person_104 hl (by decide) rfl (fun ls hl => ?_)
    refine V_aload (pc := 106) hx hb dX4_person_106 (lv_at hl 0 rfl) ?_
    refine lv_iload_n (pc := 108) hx hb dX4_person_108 rfl (lv_at hl 2 rfl) ?_
    obtain ⟨c9, hrun⟩ := gd_some hrun
    refine V_putI (pc := 109) C hH hL fl_X4_176 dX4_person_109 c9 (fok_i _) rfl (fun q => Bool.noConfusion q) hrun (fun h10 H locs hH hL hrun => ?_)
    refine V_aload (pc := 112) hx hb dX4_person_112 (lv_at hl 0 rfl) ?_
    refine lv_iload_n (pc := 114) hx hb dX4_person_114 rfl (lv_at hl 3 rfl) ?_
    obtain ⟨c11, hrun⟩ := gd_some hrun
    refine V_putI (pc := 115) C hH hL fl_X4_179 dX4_person_115 c11 (fok_i _) rfl (fun q => Bool.noConfusion q) hrun (fun h12 H locs hH hL hrun => ?_)
    refine V_aload (pc := 118) hx hb dX4_person_118 (lv_at hl 0 rfl) ?_
    refine lv_iload_n (pc := 120) hx hb dX4_person_120 rfl (lv_at hl 4 rfl) ?_
    obtain ⟨c13, hrun⟩ := gd_some hrun
    refine V_putI (pc := 121) C hH hL fl_X4_180 dX4_person_121 c13 (fok_i _) rfl (fun q => Bool.noConfusion q) hrun (fun h14 H locs hH hL hrun => ?_)
    refine V_aload (pc := 124) hx hb dX4_person_124 (lv_at hl 0 rfl) ?_
    refine lv_iload (pc := 126) hx hb dX4_person_126 (lv_at hl 5 rfl) ?_
    obtain ⟨c15, hrun⟩ := gd_some hrun
    refine V_putI (pc := 128) C hH hL fl_X4_183 dX4_person_128 c15 (fok_i _) rfl (fun q => Bool.noConfusion q) hrun (fun h16 H locs hH hL hrun => ?_)
    refine V_aload_n (pc := 131) hx hb dX4_person_131 rfl (lv_at hl 1 rfl) ?_
    obtain ⟨c17, hrun⟩ := gd_some hrun
    refine V_getR (pc := 132) C hH fr_X4_16 dX4_person_132 c17 rfl ?_
    refine V_aload (pc := 135) hx hb dX4_person_135 (lv_at hl 0 rfl) ?_
    obtain ⟨c20, hrun⟩ := gd_some hrun
    refine V_bd (pc := 137) C hL rfl hrun (fun rr1 e1 => Z_runV (rest := []) C hH (m_J2_add hl9 e1) wV_X4_186 c20 rfl (by decide) rfl rfl ⟨by decide, by decide⟩ rfl (Nat.le_of_ble_eq_true rfl) hl.1 dX4_person_137) (fun v18 h19 H locs cells slots hH hL hrun => ?_)
    refine lv_pop (pc := 140) hx hb dX4_person_140 rfl ?_
    refine V_aload_n (pc := 141) hx hb dX4_person_141 rfl (lv_at hl 1 rfl) ?_
    obtain ⟨c21, hrun⟩ := gd_some hrun
    refine V_getR (pc := 142) C hH fr_X4_16 dX4_person_142 c21 rfl ?_
    obtain ⟨c24, hrun⟩ := gd_some hrun
    refine V_bd (pc := 145) C hL rfl hrun (fun rr1 e1 => Z_runV (rest := []) C hH (m_J2_size hl9 e1) wV_X4_94 c24 rfl (by decide) rfl rfl ⟨by decide, by decide⟩ rfl (Nat.le_of_ble_eq_true rfl) hl.1 dX4_person_145) (fun v22 h23 H locs cells slots hH hL hrun => ?_)
    refine lv_iconst (v := (1 : Int32)) (pc := 148) hx hb dX4_person_148 (by decide) ?_
    refine lv_isub (pc := 149) hx hb dX4_person_149 ?_
    exact V_iret (pc := 150) C hH hL hrun dX4_person_150
  · have hrun := ite_t hrun c_
    exact b_X4_person_95 C h2 H locs cells slots ls hH hL (lv_sub hl [] rfl) hrun

theorem b_X4_person_58 {rr : (Int32 ⊕ Ex) × Hp}  (C : CX p l R s m args meth c D Hs cX4_person "MassclaimModel" 7 (some .int) [] 8 331)  : ∀ (x0 : Nat) (x1 : Int32) (x2 : Int32) (x3 : Int32) (x4 : Int32) (y0 : Int32) (h : Hp) (H : Heap) (locs : List Loc) (cells slots : Nat) (ls : Array Slot), HP D Hs h H → LO Hs locs → lv_has ls 7 [(0, rv x0), (1, .int x1), (2, .int x2), (3, .int x3), (4, .int x4)] → f_X4_person_58 x0 x1 x2 x3 x4 y0 h = some rr → W p l e R s m args below meth c H locs cells slots (ZM D Hs iI rr below args s) (F0 m 58 ls [.int y0]) := by
  obtain ⟨⟨hx, hb, hml, hown, hts⟩, -⟩ := id C
  have hl9 := C.2.1.2.2.1
  intro x0 x1 x2 x3 x4 y0 h H locs cells slots ls hH hL hl hrun
  unfold f_X4_person_58 at hrun
  refine lv_istore (i := 5) (lv' := [(5, .int y0), (0, rv x0), (1, .int x1), (2, .int x2), (3, .int x3), (4, .int x4)]) (pc := 58) hx hb dX4_person_58 hl (by decide) rfl (fun ls hl => ?_)
  refine V_aload_n (pc := 60) hx hb dX4_person_60 rfl (lv_at hl 1 rfl) ?_
  refine lv_iload (pc := 61) hx hb dX4_person_61 (lv_at hl 0 rfl) ?_
  refine lv_iconst (v := (1 : Int32)) (pc := 63) hx hb dX4_person_63 (by decide) ?_
  obtain ⟨c27, hrun⟩ := gd_some hrun
  refine V_bd (pc := 64) C hL rfl hrun (fun rr1 e1 => Z_runV (rest := []) C hH (m_X4_isGood hl9 e1) wV_X4_104 c27 rfl (by decide) rfl rfl ⟨by decide, by decide⟩ rfl (Nat.le_of_ble_eq_true rfl) hl.1 dX4_person_64) (fun v25 h26 H locs cells slots hH hL hrun => ?_)
  refine lv_if_eq (tgt := 95) (pc := 67) hx hb dX4_person_67 (by decide) (fun c_ => ?_) (fun c_ => ?_)
  · have hrun := ite_t hrun c_
    exact b_X4_person_95 C h26 H locs cells slots ls hH hL (lv_sub hl [] rfl) hrun
  · have hrun := ite_f hrun c_
    refine V_aload_n (pc := 70) hx hb dX4_person_70 rfl (lv_at hl 1 rfl) ?_
    refine V_aload_n (pc := 71) hx hb dX4_person_71 rfl (lv_at hl 1 rfl) ?_
    obtain ⟨c28, hrun⟩ := gd_some hrun
    refine V_getR (pc := 72) C hH fr_X4_16 dX4_person_72 c28 rfl ?_
    obtain ⟨c31, hrun⟩ := gd_some hrun
    refine V_bd (pc := 75) C hL rfl hrun (fun rr1 e1 => Z_runV (rest := [rv x0]) C hH (m_J2_size hl9 e1) wV_X4_94 c31 rfl (by decide) rfl rfl ⟨by decide, by decide⟩ rfl (by simp [csum, rv_cat, cat_i, cat_l, cat_f, cat_d]) hl.1 dX4_person_75) (fun v29 h30 H locs cells slots hH hL hrun => ?_)
    refine lv_bipush (v := (50 : Int32)) (pc := 78) hx hb dX4_person_78 (by decide) ?_
    refine lv_icmp_ge (tgt := 87) (pc := 80) hx hb dX4_person_80 (by decide) (fun c_ => ?_) (fun c_ => ?_)
    · have hrun := ite_t hrun c_
      refine lv_iconst (v := (0 : Int32)) (pc := 87) hx hb dX4_person_87 (by decide) ?_
      exact b_X4_person_88 C x0 x1 x2 x3 x4 x0 (0 : Int32) h30 H locs cells slots ls hH hL (lv_sub hl [1, 2, 3, 4, 5] rfl) hrun
    · have hrun := ite_f hrun c_
      refine lv_iconst (v := (1 : Int32)) (pc := 83) hx hb dX4_person_83 (by decide) ?_
      refine lv_goto (tgt := 88) (pc := 84) hx hb dX4_person_84 (by decide) ?_
      exact b_X4_person_88 C x0 x1 x2 x3 x4 x0 (1 : Int32) h30 H locs cells slots ls hH hL (lv_sub hl [1, 2, 3, 4, 5] rfl) hrun

theorem b_X4_person_57 {rr : (Int32 ⊕ Ex) × Hp}  (C : CX p l R s m args meth c D Hs cX4_person "MassclaimModel" 7 (some .int) [] 8 331)  : ∀ (x0 : Nat) (x1 : Int32) (x2 : Int32) (x3 : Int32) (x4 : Int32) (h : Hp) (H : Heap) (locs : List Loc) (cells slots : Nat) (ls : Array Slot), HP D Hs h H → LO Hs locs → lv_has ls 7 [(0, rv x0), (1, .int x1), (2, .int x2), (3, .int x3), (4, .int x4)] → f_X4_person_57 x0 x1 x2 x3 x4 h = some rr → W p l e R s m args below meth c H locs cells slots (ZM D Hs iI rr below args s) (F0 m 57 ls []) := by
  obtain ⟨⟨hx, hb, hml, hown, hts⟩, -⟩ := id C
  have hl9 := C.2.1.2.2.1
  intro x0 x1 x2 x3 x4 h H locs cells slots ls hH hL hl hrun
  unfold f_X4_person_57 at hrun
  refine lv_iconst (v := (0 : Int32)) (pc := 57) hx hb dX4_person_57 (by decide) ?_
  exact b_X4_person_58 C x0 x1 x2 x3 x4 (0 : Int32) h H locs cells slots ls hH hL (lv_sub hl [0, 1, 2, 3, 4] rfl) hrun

theorem b_X4_person {rr : (Int32 ⊕ Ex) × Hp}  (C : CX p l R s m args meth c D Hs cX4_person "MassclaimModel" 7 (some .int) [] 8 331)  : ∀ (x0 : Nat) (x1 : Int32) (x2 : Int32) (x3 : Int32) (x4 : Int32) (h : Hp) (H : Heap) (locs : List Loc) (cells slots : Nat) (ls : Array Slot), HP D Hs h H → LO Hs locs → lv_has ls 7 [(0, rv x0), (1, .int x1), (2, .int x2), (3, .int x3), (4, .int x4)] → f_X4_person x0 x1 x2 x3 x4 h = some rr → W p l e R s m args below meth c H locs cells slots (ZM D Hs iI rr below args s) (F0 m 0 ls []) := by
  obtain ⟨⟨hx, hb, hml, hown, hts⟩, -⟩ := id C
  have hl9 := C.2.1.2.2.1
  intro x0 x1 x2 x3 x4 h H locs cells slots ls hH hL hl hrun
  unfold f_X4_person at hrun
  refine lv_iload_n (pc := 0) hx hb dX4_person_0 rfl (lv_at hl 1 rfl) ?_
  refine lv_i2l (pc := 1) hx hb dX4_person_1 rfl ?_
  refine lv_ldc2 (pc := 2) hx hb hown (hts _ q1976) dX4_person_2 ?_
  refine V_aload_n (pc := 5) hx hb dX4_person_5 rfl (lv_at hl 0 rfl) ?_
  obtain ⟨c32, hrun⟩ := gd_some hrun
  refine V_getI (pc := 6) C hH fr_X4_43 dX4_person_6 c32 rfl ?_
  refine lv_i2l (pc := 9) hx hb dX4_person_9 rfl ?_
  refine V_bd (pc := 10) C hL rfl hrun (fun rr1 e1 => Z_runS (rest := []) C hH (m_X4_isWithin hl9 e1) wS_X4_100 rfl ⟨by decide, by decide⟩ rfl (Nat.le_of_ble_eq_true rfl) hl.1 dX4_person_10) (fun v33 h34 H locs cells slots hH hL hrun => ?_)
  refine lv_if_eq (tgt := 57) (pc := 13) hx hb dX4_person_13 (by decide) (fun c_ => ?_) (fun c_ => ?_)
  · have hrun := ite_t hrun c_
    exact b_X4_person_57 C x0 x1 x2 x3 x4 h34 H locs cells slots ls hH hL (lv_sub hl [0, 1, 2, 3, 4] rfl) hrun
  · have hrun := ite_f hrun c_
    refine lv_iload_n (pc := 16) hx hb dX4_person_16 rfl (lv_at hl 2 rfl) ?_
    refine lv_i2l (pc := 17) hx hb dX4_person_17 rfl ?_
    refine lv_lconst (v := (0 : Int64)) (pc := 18) hx hb dX4_person_18 (by decide) ?_
    refine lv_ldc2 (pc := 19) hx hb hown (hts _ q1977) dX4_person_19 ?_
    refine V_bd (pc := 22) C hL rfl hrun (fun rr1 e1 => Z_runS (rest := []) C hH (m_X4_isWithin hl9 e1) wS_X4_100 rfl ⟨by decide, by decide⟩ rfl (Nat.le_of_ble_eq_true rfl) hl.1 dX4_person_22) (fun v35 h36 H locs cells slots hH hL hrun => ?_)
    refine lv_if_eq (tgt := 57) (pc := 25) hx hb dX4_person_25 (by decide) (fun c_ => ?_) (fun c_ => ?_)
    · have hrun := ite_t hrun c_
      exact b_X4_person_57 C x0 x1 x2 x3 x4 h36 H locs cells slots ls hH hL (lv_sub hl [0, 1, 2, 3, 4] rfl) hrun
    · have hrun := ite_f hrun c_
      refine lv_iload_n (pc := 28) hx hb dX4_person_28 rfl (lv_at hl 3 rfl) ?_
      refine lv_i2l (pc := 29) hx hb dX4_person_29 rfl ?_
      refine lv_lconst (v := (0 : Int64)) (pc := 30) hx hb dX4_person_30 (by decide) ?_
      refine lv_ldc2 (pc := 31) hx hb hown (hts _ q1978) dX4_person_31 ?_
      refine V_bd (pc := 34) C hL rfl hrun (fun rr1 e1 => Z_runS (rest := []) C hH (m_X4_isWithin hl9 e1) wS_X4_100 rfl ⟨by decide, by decide⟩ rfl (Nat.le_of_ble_eq_true rfl) hl.1 dX4_person_34) (fun v37 h38 H locs cells slots hH hL hrun => ?_)
      refine lv_if_eq (tgt := 57) (pc := 37) hx hb dX4_person_37 (by decide) (fun c_ => ?_) (fun c_ => ?_)
      · have hrun := ite_t hrun c_
        exact b_X4_person_57 C x0 x1 x2 x3 x4 h38 H locs cells slots ls hH hL (lv_sub hl [0, 1, 2, 3, 4] rfl) hrun
      · have hrun := ite_f hrun c_
        refine lv_iload (pc := 40) hx hb dX4_person_40 (lv_at hl 4 rfl) ?_
        refine lv_i2l (pc := 42) hx hb dX4_person_42 rfl ?_
        refine lv_lconst (v := (0 : Int64)) (pc := 43) hx hb dX4_person_43 (by decide) ?_
        refine lv_ldc2 (pc := 44) hx hb hown (hts _ q1979) dX4_person_44 ?_
        refine V_bd (pc := 47) C hL rfl hrun (fun rr1 e1 => Z_runS (rest := []) C hH (m_X4_isWithin hl9 e1) wS_X4_100 rfl ⟨by decide, by decide⟩ rfl (Nat.le_of_ble_eq_true rfl) hl.1 dX4_person_47) (fun v39 h40 H locs cells slots hH hL hrun => ?_)
        refine lv_if_eq (tgt := 57) (pc := 50) hx hb dX4_person_50 (by decide) (fun c_ => ?_) (fun c_ => ?_)
        · have hrun := ite_t hrun c_
          exact b_X4_person_57 C x0 x1 x2 x3 x4 h40 H locs cells slots ls hH hL (lv_sub hl [0, 1, 2, 3, 4] rfl) hrun
        · have hrun := ite_f hrun c_
          refine lv_iconst (v := (1 : Int32)) (pc := 53) hx hb dX4_person_53 (by decide) ?_
          refine lv_goto (tgt := 58) (pc := 54) hx hb dX4_person_54 (by decide) ?_
          exact b_X4_person_58 C x0 x1 x2 x3 x4 (1 : Int32) h40 H locs cells slots ls hH hL (lv_sub hl [0, 1, 2, 3, 4] rfl) hrun

theorem m_X4_person {l : Launch} {D : va_G} {Hs : Heap} {h : Hp} {rr : (Int32 ⊕ Ex) × Hp} (hl9 : l.stackTraces = false) {x0 : Nat} {x1 : Int32} {x2 : Int32} {x3 : Int32} {x4 : Int32} (hrun : f_X4_person x0 x1 x2 x3 x4 h = some rr) : CM l yX4_person (ws_ yX4_person cX4_person 7 (some .int)) 8 331 iI [rv x0, .int x1, .int x2, .int x3, .int x4] D Hs h rr := by
  refine CM.of (lv := [(0, rv x0), (1, .int x1), (2, .int x2), (3, .int x3), (4, .int x4)]) (plainFor_of_name (by decide)) hl9 (by simp [lv_args, rv_cat, cat_i, cat_l, cat_f, cat_d]) (by simp [lg_sl, rv_cat, cat_i, cat_l, cat_f, cat_d]) ?_
  intro p e R s m args below meth c H ls C hH hl hin
  exact b_X4_person C x0 x1 x2 x3 x4 _ H [] _ _ ls hH (fun _ q => nomatch q) (lv_sub hl [0, 1, 2, 3, 4] rfl) hrun

/-! Massclaim.sick(II)I -/
def f_X1_sick_68  (x2 : Int32) (x3 : Nat) (x4 : Int32) (y0 : Nat) (y1 : Int32) (h : Hp) : Rt Int32 :=
  gd (kC h y0 = 5) <| vl (sI h 406 y0 y1) fun h2 => gd (kC h2 x3 = 5) <| vl (sI h2 405 x3 x2) fun h4 => some (.inl x4, h4)
def f_X1_sick_42  (x0 : Nat) (x2 : Int32) (x3 : Nat) (y0 : Int32) (h : Hp) : Rt Int32 :=
  bd (f_X1_requireState y0 h) fun _ h6 => gd (kC h6 x3 = 5) <| vl (kI h6 405 x3) fun v8 => if v8 = 0 then
  (gd (kC h6 x0 = 1) <| f_X1_sick_68 x2 x3 v8 x3 (kI h6 18 x0) h6)
  else
  (f_X1_sick_68 x2 x3 v8 x3 (kI h6 406 x3) h6)
def f_X1_sick  (x0 : Nat) (x1 : Int32) (x2 : Int32) (h : Hp) : Rt Int32 :=
  gd (kC h x0 = 1) <| gd (kC h (kR h 0 x0) = 2) <| bd (f_X2_at (kR h 0 x0) x1 h) fun v11 h12 => gd (v11 = 0 ∨ kC h12 v11 = 5) <| gd (kC h12 v11 = 5) <| bd (f_X1_isIn (x2.toInt64) (((kI h12 405 v11) + (1 : Int32)).toInt64) (5 : Int64) h12) fun v16 h17 => bd (f_X1_requireArgument v16 h17) fun _ h19 => gd (kC h19 v11 = 5) <| bd (f_X5_isDead v11 h19) fun v20 h21 => if v20 = 0 then
  (f_X1_sick_42 x0 x2 v11 (1 : Int32) h21)
  else
  (f_X1_sick_42 x0 x2 v11 (0 : Int32) h21)
theorem b_X1_sick_68 {rr : (Int32 ⊕ Ex) × Hp}  (C : CX p l R s m args meth c D Hs cX1_sick "Massclaim" 5 (some .int) [] 8 131)  : ∀ (x2 : Int32) (x3 : Nat) (x4 : Int32) (y0 : Nat) (y1 : Int32) (h : Hp) (H : Heap) (locs : List Loc) (cells slots : Nat) (ls : Array Slot), HP D Hs h H → LO Hs locs → lv_has ls 5 [(2, .int x2), (3, rv x3), (4, .int x4)] → f_X1_sick_68 x2 x3 x4 y0 y1 h = some rr → W p l e R s m args below meth c H locs cells slots (ZM D Hs iI rr below args s) (F0 m 68 ls [.int y1, rv y0]) := by
  obtain ⟨⟨hx, hb, hml, hown, hts⟩, -⟩ := id C
  have hl9 := C.2.1.2.2.1
  intro x2 x3 x4 y0 y1 h H locs cells slots ls hH hL hl hrun
  unfold f_X1_sick_68 at hrun
  obtain ⟨c1, hrun⟩ := gd_some hrun
  refine V_putNI (pc := 68) C hH hL fn_X1_185 dX1_sick_68 c1 (fok_i _) rfl hrun (fun h2 H locs hH hL hrun => ?_)
  refine V_aload_n (pc := 71) hx hb dX1_sick_71 rfl (lv_at hl 1 rfl) ?_
  refine lv_iload_n (pc := 72) hx hb dX1_sick_72 rfl (lv_at hl 0 rfl) ?_
  obtain ⟨c3, hrun⟩ := gd_some hrun
  refine V_putNI (pc := 73) C hH hL fn_X1_145 dX1_sick_73 c3 (fok_i _) rfl hrun (fun h4 H locs hH hL hrun => ?_)
  refine lv_iload (pc := 76) hx hb dX1_sick_76 (lv_at hl 2 rfl) ?_
  exact V_iret (pc := 78) C hH hL hrun dX1_sick_78

theorem b_X1_sick_42 {rr : (Int32 ⊕ Ex) × Hp}  (C : CX p l R s m args meth c D Hs cX1_sick "Massclaim" 5 (some .int) [] 8 131)  : ∀ (x0 : Nat) (x2 : Int32) (x3 : Nat) (y0 : Int32) (h : Hp) (H : Heap) (locs : List Loc) (cells slots : Nat) (ls : Array Slot), HP D Hs h H → LO Hs locs → lv_has ls 5 [(0, rv x0), (2, .int x2), (3, rv x3)] → f_X1_sick_42 x0 x2 x3 y0 h = some rr → W p l e R s m args below meth c H locs cells slots (ZM D Hs iI rr below args s) (F0 m 42 ls [.int y0]) := by
  obtain ⟨⟨hx, hb, hml, hown, hts⟩, -⟩ := id C
  have hl9 := C.2.1.2.2.1
  intro x0 x2 x3 y0 h H locs cells slots ls hH hL hl hrun
  unfold f_X1_sick_42 at hrun
  refine V_bd (pc := 42) C hL rfl hrun (fun rr1 e1 => Z_runS (rest := []) C hH (m_X1_requireState hl9 e1) wS_X1_182 rfl ⟨by decide, by decide⟩ rfl (Nat.le_of_ble_eq_true rfl) hl.1 dX1_sick_42) (fun _ h6 H locs cells slots hH hL hrun => ?_)
  refine V_aload_n (pc := 45) hx hb dX1_sick_45 rfl (lv_at hl 2 rfl) ?_
  obtain ⟨c7, hrun⟩ := gd_some hrun
  refine V_getNI (pc := 46) C hH fn_X1_145 dX1_sick_46 c7 rfl ?_
  refine lv_topi (fun v8 ev8 => ?_)
  have hrun := vl_at hrun v8 ev8
  refine lv_istore (i := 4) (lv' := [(4, .int v8), (0, rv x0), (2, .int x2), (3, rv x3)]) (pc := 49) hx hb dX1_sick_49 hl (by decide) (by simp [rv_cat, cat_i, cat_l, cat_f, cat_d]) (fun ls hl => ?_)
  refine V_aload_n (pc := 51) hx hb dX1_sick_51 rfl (lv_at hl 3 rfl) ?_
  refine lv_iload (pc := 52) hx hb dX1_sick_52 (lv_at hl 0 rfl) ?_
  refine lv_if_ne (tgt := 64) (pc := 54) hx hb dX1_sick_54 (by decide) (fun c_ => ?_) (fun c_ => ?_)
  · have hrun := ite_f hrun c_
    refine V_aload_n (pc := 64) hx hb dX1_sick_64 rfl (lv_at hl 3 rfl) ?_
    refine V_getNI (pc := 65) C hH fn_X1_185 dX1_sick_65 c7 rfl ?_
    exact b_X1_sick_68 C x2 x3 v8 x3 (kI h6 406 x3) h6 H locs cells slots ls hH hL (lv_sub hl [2, 3, 0] rfl) hrun
  · have hrun := ite_t hrun c_
    refine V_aload_n (pc := 57) hx hb dX1_sick_57 rfl (lv_at hl 1 rfl) ?_
    obtain ⟨c9, hrun⟩ := gd_some hrun
    refine V_getI (pc := 58) C hH fr_X1_115 dX1_sick_58 c9 rfl ?_
    refine lv_goto (tgt := 68) (pc := 61) hx hb dX1_sick_61 (by decide) ?_
    exact b_X1_sick_68 C x2 x3 v8 x3 (kI h6 18 x0) h6 H locs cells slots ls hH hL (lv_sub hl [2, 3, 0] rfl) hrun

theorem b_X1_sick {rr : (Int32 ⊕ Ex) × Hp}  (C : CX p l R s m args meth c D Hs cX1_sick "Massclaim" 5 (some .int) [] 8 131)  : ∀ (x0 : Nat) (x1 : Int32) (x2 : Int32) (h : Hp) (H : Heap) (locs : List Loc) (cells slots : Nat) (ls : Array Slot), HP D Hs h H → LO Hs locs → lv_has ls 5 [(0, rv x0), (1, .int x1), (2, .int x2)] → f_X1_sick x0 x1 x2 h = some rr → W p l e R s m args below meth c H locs cells slots (ZM D Hs iI rr below args s) (F0 m 0 ls []) := by
  obtain ⟨⟨hx, hb, hml, hown, hts⟩, -⟩ := id C
  have hl9 := C.2.1.2.2.1
  intro x0 x1 x2 h H locs cells slots ls hH hL hl hrun
  unfold f_X1_sick at hrun
  refine V_aload_n (pc := 0) hx hb dX1_sick_0 rfl (lv_at hl 0 rfl) ?_
  obtain ⟨c10, hrun⟩ := gd_some hrun
  refine V_getR (pc := 1) C hH fr_X1_42 dX1_sick_1 c10 rfl ?_
  refine lv_iload_n (pc := 4) hx hb dX1_sick_4 rfl (lv_at hl 1 rfl) ?_
  obtain ⟨c13, hrun⟩ := gd_some hrun
  refine V_bd (pc := 5) C hL rfl hrun (fun rr1 e1 => Z_runV (rest := []) C hH (m_X2_at hl9 e1) wV_X1_136 c13 rfl (by decide) rfl rfl ⟨by decide, by decide⟩ rfl (Nat.le_of_ble_eq_true rfl) hl.1 dX1_sick_5) (fun v11 h12 H locs cells slots hH hL hrun => ?_)
  obtain ⟨c14, hrun⟩ := gd_some hrun
  refine V_castX (pc := 8) (ci := 4) C hH rfl (by decide) q376 dX1_sick_8 c14 ?_
  refine V_astore_n (i := 3) (lv' := [(3, rv v11), (0, rv x0), (1, .int x1), (2, .int x2)]) (pc := 11) hx hb dX1_sick_11 rfl hl (by decide) rfl (fun ls hl => ?_)
  refine lv_iload_n (pc := 12) hx hb dX1_sick_12 rfl (lv_at hl 3 rfl) ?_
  refine lv_i2l (pc := 13) hx hb dX1_sick_13 rfl ?_
  refine V_aload_n (pc := 14) hx hb dX1_sick_14 rfl (lv_at hl 0 rfl) ?_
  obtain ⟨c15, hrun⟩ := gd_some hrun
  refine V_getNI (pc := 15) C hH fn_X1_145 dX1_sick_15 c15 rfl ?_
  refine lv_iconst (v := (1 : Int32)) (pc := 18) hx hb dX1_sick_18 (by decide) ?_
  refine lv_iadd (pc := 19) hx hb dX1_sick_19 ?_
  refine lv_i2l (pc := 20) hx hb dX1_sick_20 rfl ?_
  refine lv_ldc2 (pc := 21) hx hb hown (hts _ q866) dX1_sick_21 ?_
  refine V_bd (pc := 24) C hL rfl hrun (fun rr1 e1 => Z_runS (rest := []) C hH (m_X1_isIn hl9 e1) wS_X1_127 rfl ⟨by decide, by decide⟩ rfl (Nat.le_of_ble_eq_true rfl) hl.1 dX1_sick_24) (fun v16 h17 H locs cells slots hH hL hrun => ?_)
  refine V_bd (pc := 27) C hL rfl hrun (fun rr1 e1 => Z_runS (rest := []) C hH (m_X1_requireArgument hl9 e1) wS_X1_131 rfl ⟨by decide, by decide⟩ rfl (Nat.le_of_ble_eq_true rfl) hl.1 dX1_sick_27) (fun _ h19 H locs cells slots hH hL hrun => ?_)
  refine V_aload_n (pc := 30) hx hb dX1_sick_30 rfl (lv_at hl 0 rfl) ?_
  obtain ⟨c22, hrun⟩ := gd_some hrun
  refine V_bd (pc := 31) C hL rfl hrun (fun rr1 e1 => Z_runV (rest := []) C hH (m_X5_isDead hl9 e1) wV_X1_179 c22 rfl (by decide) rfl rfl ⟨by decide, by decide⟩ rfl (Nat.le_of_ble_eq_true rfl) hl.1 dX1_sick_31) (fun v20 h21 H locs cells slots hH hL hrun => ?_)
  refine lv_if_ne (tgt := 41) (pc := 34) hx hb dX1_sick_34 (by decide) (fun c_ => ?_) (fun c_ => ?_)
  · have hrun := ite_f hrun c_
    refine lv_iconst (v := (0 : Int32)) (pc := 41) hx hb dX1_sick_41 (by decide) ?_
    exact b_X1_sick_42 C x0 x2 v11 (0 : Int32) h21 H locs cells slots ls hH hL (lv_sub hl [1, 3, 0] rfl) hrun
  · have hrun := ite_t hrun c_
    refine lv_iconst (v := (1 : Int32)) (pc := 37) hx hb dX1_sick_37 (by decide) ?_
    refine lv_goto (tgt := 42) (pc := 38) hx hb dX1_sick_38 (by decide) ?_
    exact b_X1_sick_42 C x0 x2 v11 (1 : Int32) h21 H locs cells slots ls hH hL (lv_sub hl [1, 3, 0] rfl) hrun

theorem m_X1_sick {l : Launch} {D : va_G} {Hs : Heap} {h : Hp} {rr : (Int32 ⊕ Ex) × Hp} (hl9 : l.stackTraces = false) {x0 : Nat} {x1 : Int32} {x2 : Int32} (hrun : f_X1_sick x0 x1 x2 h = some rr) : CM l yX1_sick (ws_ yX1_sick cX1_sick 5 (some .int)) 8 131 iI [rv x0, .int x1, .int x2] D Hs h rr := by
  refine CM.of (lv := [(0, rv x0), (1, .int x1), (2, .int x2)]) (plainFor_of_name (by decide)) hl9 (by simp [lv_args, rv_cat, cat_i, cat_l, cat_f, cat_d]) (by simp [lg_sl, rv_cat, cat_i, cat_l, cat_f, cat_d]) ?_
  intro p e R s m args below meth c H ls C hH hl hin
  exact b_X1_sick C x0 x1 x2 _ H [] _ _ ls hH (fun _ q => nomatch q) (lv_sub hl [0, 1, 2] rfl) hrun

/-! MassclaimLaw.sick(LMassclaim;II[J)I -/
def f_X0_sick_13  (y0 : Nat) (h : Hp) : Rt Int32 :=
  some (.inl (1 : Int32), h)
def f_X0_sick_17  (y0 : Nat) (h : Hp) : Rt Int32 :=
  some (.inl (2 : Int32), h)
def f_X0_sick_21  (y0 : Nat) (h : Hp) : Rt Int32 :=
  some (.inl (3 : Int32), h)
def f_X0_sick  (x0 : Nat) (x1 : Int32) (x2 : Int32) (x3 : Nat) (h : Hp) : Rt Int32 :=
  gd (kC h x0 = 1) <| bdH (f_X1_sick x0 x1 x2 h)
  (fun v1 h2 => gd (kC h2 x3 = 102 ∧ ixo (0 : Int32) (kN h2 x3)) <| vl (tL h2 x3 ((0 : Int32)).toNatClampNeg (v1.toInt64)) fun h5 => some (.inl (0 : Int32), h5))
  (fun ex6 h7 => if ex6.1 = 901 then
  (f_X0_sick_13 ex6.2 h7)
  else
  if ex6.1 = 902 then
  (f_X0_sick_17 ex6.2 h7)
  else
  if ex6.1 = 903 then
  (f_X0_sick_21 ex6.2 h7)
  else
  none)
theorem b_X0_sick_13 {rr : (Int32 ⊕ Ex) × Hp}  (C : CX p l R s m args meth c D Hs cX0_sick "MassclaimLaw" 5 (some .int) [(0, 10, 13, 25), (0, 10, 17, 13), (0, 10, 21, 19)] 9 155)  : ∀ (y0 : Nat) (h : Hp) (H : Heap) (locs : List Loc) (cells slots : Nat) (ls : Array Slot), HP D Hs h H → LO Hs locs → lv_has ls 5 [] → f_X0_sick_13 y0 h = some rr → W p l e R s m args below meth c H locs cells slots (ZM D Hs iI rr below args s) (F0 m 13 ls [rv y0]) := by
  obtain ⟨⟨hx, hb, hml, hown, hts⟩, -⟩ := id C
  have hl9 := C.2.1.2.2.1
  intro y0 h H locs cells slots ls hH hL hl hrun
  unfold f_X0_sick_13 at hrun
  refine V_astore (i := 4) (lv' := [(4, rv y0)]) (pc := 13) hx hb dX0_sick_13 hl (by decide) rfl (fun ls hl => ?_)
  refine lv_iconst (v := (1 : Int32)) (pc := 15) hx hb dX0_sick_15 (by decide) ?_
  exact V_iret (pc := 16) C hH hL hrun dX0_sick_16

theorem b_X0_sick_17 {rr : (Int32 ⊕ Ex) × Hp}  (C : CX p l R s m args meth c D Hs cX0_sick "MassclaimLaw" 5 (some .int) [(0, 10, 13, 25), (0, 10, 17, 13), (0, 10, 21, 19)] 9 155)  : ∀ (y0 : Nat) (h : Hp) (H : Heap) (locs : List Loc) (cells slots : Nat) (ls : Array Slot), HP D Hs h H → LO Hs locs → lv_has ls 5 [] → f_X0_sick_17 y0 h = some rr → W p l e R s m args below meth c H locs cells slots (ZM D Hs iI rr below args s) (F0 m 17 ls [rv y0]) := by
  obtain ⟨⟨hx, hb, hml, hown, hts⟩, -⟩ := id C
  have hl9 := C.2.1.2.2.1
  intro y0 h H locs cells slots ls hH hL hl hrun
  unfold f_X0_sick_17 at hrun
  refine V_astore (i := 4) (lv' := [(4, rv y0)]) (pc := 17) hx hb dX0_sick_17 hl (by decide) rfl (fun ls hl => ?_)
  refine lv_iconst (v := (2 : Int32)) (pc := 19) hx hb dX0_sick_19 (by decide) ?_
  exact V_iret (pc := 20) C hH hL hrun dX0_sick_20

theorem b_X0_sick_21 {rr : (Int32 ⊕ Ex) × Hp}  (C : CX p l R s m args meth c D Hs cX0_sick "MassclaimLaw" 5 (some .int) [(0, 10, 13, 25), (0, 10, 17, 13), (0, 10, 21, 19)] 9 155)  : ∀ (y0 : Nat) (h : Hp) (H : Heap) (locs : List Loc) (cells slots : Nat) (ls : Array Slot), HP D Hs h H → LO Hs locs → lv_has ls 5 [] → f_X0_sick_21 y0 h = some rr → W p l e R s m args below meth c H locs cells slots (ZM D Hs iI rr below args s) (F0 m 21 ls [rv y0]) := by
  obtain ⟨⟨hx, hb, hml, hown, hts⟩, -⟩ := id C
  have hl9 := C.2.1.2.2.1
  intro y0 h H locs cells slots ls hH hL hl hrun
  unfold f_X0_sick_21 at hrun
  refine V_astore (i := 4) (lv' := [(4, rv y0)]) (pc := 21) hx hb dX0_sick_21 hl (by decide) rfl (fun ls hl => ?_)
  refine lv_iconst (v := (3 : Int32)) (pc := 23) hx hb dX0_sick_23 (by decide) ?_
  exact V_iret (pc := 24) C hH hL hrun dX0_sick_24

theorem b_X0_sick {rr : (Int32 ⊕ Ex) × Hp}  (C : CX p l R s m args meth c D Hs cX0_sick "MassclaimLaw" 5 (some .int) [(0, 10, 13, 25), (0, 10, 17, 13), (0, 10, 21, 19)] 9 155)  : ∀ (x0 : Nat) (x1 : Int32) (x2 : Int32) (x3 : Nat) (h : Hp) (H : Heap) (locs : List Loc) (cells slots : Nat) (ls : Array Slot), HP D Hs h H → LO Hs locs → lv_has ls 5 [(0, rv x0), (1, .int x1), (2, .int x2), (3, rv x3)] → f_X0_sick x0 x1 x2 x3 h = some rr → W p l e R s m args below meth c H locs cells slots (ZM D Hs iI rr below args s) (F0 m 0 ls []) := by
  obtain ⟨⟨hx, hb, hml, hown, hts⟩, -⟩ := id C
  have hl9 := C.2.1.2.2.1
  intro x0 x1 x2 x3 h H locs cells slots ls hH hL hl hrun
  unfold f_X0_sick at hrun
  refine V_aload_n (pc := 0) hx hb dX0_sick_0 rfl (lv_at hl 3 rfl) ?_
  refine lv_iconst (v := (0 : Int32)) (pc := 1) hx hb dX0_sick_1 (by decide) ?_
  refine V_aload_n (pc := 2) hx hb dX0_sick_2 rfl (lv_at hl 0 rfl) ?_
  refine lv_iload_n (pc := 3) hx hb dX0_sick_3 rfl (lv_at hl 1 rfl) ?_
  refine lv_iload_n (pc := 4) hx hb dX0_sick_4 rfl (lv_at hl 2 rfl) ?_
  obtain ⟨c3, hrun⟩ := gd_some hrun
  refine V_bdH (pc := 5) hL hrun (fun rr1 e1 => Z_runV (rest := [.int (0 : Int32), rv x3]) C hH (m_X1_sick hl9 e1) wV_X0_21 c3 rfl (by decide) rfl rfl ⟨by decide, by decide⟩ rfl (by simp [csum, rv_cat, cat_i, cat_l, cat_f, cat_d]) hl.1 dX0_sick_5) (fun v1 h2 H locs cells slots hH hL hrun => ?_) (fun x_ q_ ce_ h7 H locs cells slots hH hL hrun hc_ hv_ hcl_ => ?_)
  · refine lv_i2l (pc := 8) hx hb dX0_sick_8 rfl ?_
    obtain ⟨c4, hrun⟩ := gd_some hrun
    refine V_last (pc := 9) C hH hL dX0_sick_9 c4 hrun (fun h5 H locs hH hL hrun => ?_)
    refine lv_goto (tgt := 25) (pc := 10) hx hb dX0_sick_10 (by decide) ?_
    refine lv_iconst (v := (0 : Int32)) (pc := 25) hx hb dX0_sick_25 (by decide) ?_
    exact V_iret (pc := 26) C hH hL hrun dX0_sick_26
  · by_cases n901 : x_ = 901
    · subst n901
      have hrun := ite_t hrun rfl
      refine vx_catch (E := "java/lang/IndexOutOfBoundsException") (name := "java/lang/IndexOutOfBoundsException") hown (tableOf []) ⟨0, 10, 13, 25⟩ (tableOf [(0, 10, 17, 13), (0, 10, 21, 19)]) (by rw [C.2.1.2.2.2.2]; rfl) (fun z hz => nomatch hz) (by decide) (by decide) (hts _ q829) (va_Nw.use rfl (C.2.1.2.2.2.1.2.1 _ q537 rfl)) hc_ hv_ hcl_ ?_
      exact b_X0_sick_13 C (q_ + 1) h7 H locs cells slots ls hH hL (lv_sub hl [] rfl) hrun
    have hrun := ite_f hrun n901
    by_cases n902 : x_ = 902
    · subst n902
      have hrun := ite_t hrun rfl
      refine vx_catch (E := "java/lang/IllegalArgumentException") (name := "java/lang/IllegalArgumentException") hown (tableOf [(0, 10, 13, 25)]) ⟨0, 10, 17, 13⟩ (tableOf [(0, 10, 21, 19)]) (by rw [C.2.1.2.2.2.2]; rfl) (fun z hz => by simp only [tableOf, List.map, List.mem_cons, List.not_mem_nil, or_false] at hz; rcases hz with rfl <;> first | exact Or.inr ⟨by decide, "java/lang/IndexOutOfBoundsException", hts _ q829, nc_at C (by decide)⟩) (by decide) (by decide) (hts _ q449) (va_Nw.use rfl (C.2.1.2.2.2.1.2.1 _ q463 rfl)) hc_ hv_ hcl_ ?_
      exact b_X0_sick_17 C (q_ + 1) h7 H locs cells slots ls hH hL (lv_sub hl [] rfl) hrun
    have hrun := ite_f hrun n902
    by_cases n903 : x_ = 903
    · subst n903
      have hrun := ite_t hrun rfl
      refine vx_catch (E := "java/lang/IllegalStateException") (name := "java/lang/IllegalStateException") hown (tableOf [(0, 10, 13, 25), (0, 10, 17, 13)]) ⟨0, 10, 21, 19⟩ (tableOf []) (by rw [C.2.1.2.2.2.2]; rfl) (fun z hz => by simp only [tableOf, List.map, List.mem_cons, List.not_mem_nil, or_false] at hz; rcases hz with rfl | rfl <;> first | exact Or.inr ⟨by decide, "java/lang/IndexOutOfBoundsException", hts _ q829, nc_at C (by decide)⟩ | exact Or.inr ⟨by decide, "java/lang/IllegalArgumentException", hts _ q449, nc_at C (by decide)⟩) (by decide) (by decide) (hts _ q585) (va_Nw.use rfl (C.2.1.2.2.2.1.2.1 _ q702 rfl)) hc_ hv_ hcl_ ?_
      exact b_X0_sick_21 C (q_ + 1) h7 H locs cells slots ls hH hL (lv_sub hl [] rfl) hrun
    have hrun := ite_f hrun n903
    cases hrun

theorem m_X0_sick {l : Launch} {D : va_G} {Hs : Heap} {h : Hp} {rr : (Int32 ⊕ Ex) × Hp} (hl9 : l.stackTraces = false) {x0 : Nat} {x1 : Int32} {x2 : Int32} {x3 : Nat} (hrun : f_X0_sick x0 x1 x2 x3 h = some rr) : CM l yX0_sick (wsW_ yX0_sick cX0_sick 5 (some .int) [(0, 10, 13, 25), (0, 10, 17, 13), (0, 10, 21, 19)]) 9 155 iI [rv x0, .int x1, .int x2, rv x3] D Hs h rr := by
  refine CM.ofH (lv := [(0, rv x0), (1, .int x1), (2, .int x2), (3, rv x3)]) (plainFor_of_name (by decide)) hl9 (by simp [lv_args, rv_cat, cat_i, cat_l, cat_f, cat_d]) (by simp [lg_sl, rv_cat, cat_i, cat_l, cat_f, cat_d]) ?_
  intro p e R s m args below meth c H ls C hH hl hin
  exact b_X0_sick C x0 x1 x2 x3 _ H [] _ _ ls hH (fun _ q => nomatch q) (lv_sub hl [0, 1, 2, 3] rfl) hrun

/-! MassclaimModel.isPerson(I)Z -/
def f_X4_isPerson  (x0 : Nat) (x1 : Int32) (h : Hp) : Rt Int32 :=
  gd (kC h x0 = 4) <| gd (kC h (kR h 302 x0) = 18) <| bd (f_J2_size (kR h 302 x0) h) fun v2 h3 => bd (f_X4_isWithin (x1.toInt64) (0 : Int64) ((v2 - (1 : Int32)).toInt64) h3) fun v5 h6 => gd (b01 v5) <| some (.inl v5, h6)
theorem b_X4_isPerson {rr : (Int32 ⊕ Ex) × Hp}  (C : CX p l R s m args meth c D Hs cX4_isPerson "MassclaimModel" 2 (some .boolean) [] 2 25)  : ∀ (x0 : Nat) (x1 : Int32) (h : Hp) (H : Heap) (locs : List Loc) (cells slots : Nat) (ls : Array Slot), HP D Hs h H → LO Hs locs → lv_has ls 2 [(0, rv x0), (1, .int x1)] → f_X4_isPerson x0 x1 h = some rr → W p l e R s m args below meth c H locs cells slots (ZM D Hs iI rr below args s) (F0 m 0 ls []) := by
  obtain ⟨⟨hx, hb, hml, hown, hts⟩, -⟩ := id C
  have hl9 := C.2.1.2.2.1
  intro x0 x1 h H locs cells slots ls hH hL hl hrun
  unfold f_X4_isPerson at hrun
  refine lv_iload_n (pc := 0) hx hb dX4_isPerson_0 rfl (lv_at hl 1 rfl) ?_
  refine lv_i2l (pc := 1) hx hb dX4_isPerson_1 rfl ?_
  refine lv_lconst (v := (0 : Int64)) (pc := 2) hx hb dX4_isPerson_2 (by decide) ?_
  refine V_aload_n (pc := 3) hx hb dX4_isPerson_3 rfl (lv_at hl 0 rfl) ?_
  obtain ⟨c1, hrun⟩ := gd_some hrun
  refine V_getR (pc := 4) C hH fr_X4_16 dX4_isPerson_4 c1 rfl ?_
  obtain ⟨c4, hrun⟩ := gd_some hrun
  refine V_bd (pc := 7) C hL rfl hrun (fun rr1 e1 => Z_runV (rest := [.long (0 : Int64), .long (x1.toInt64)]) C hH (m_J2_size hl9 e1) wV_X4_94 c4 rfl (by decide) rfl rfl ⟨by decide, by decide⟩ rfl (Nat.le_of_ble_eq_true rfl) hl.1 dX4_isPerson_7) (fun v2 h3 H locs cells slots hH hL hrun => ?_)
  refine lv_iconst (v := (1 : Int32)) (pc := 10) hx hb dX4_isPerson_10 (by decide) ?_
  refine lv_isub (pc := 11) hx hb dX4_isPerson_11 ?_
  refine lv_i2l (pc := 12) hx hb dX4_isPerson_12 rfl ?_
  refine V_bd (pc := 13) C hL rfl hrun (fun rr1 e1 => Z_runS (rest := []) C hH (m_X4_isWithin hl9 e1) wS_X4_100 rfl ⟨by decide, by decide⟩ rfl (Nat.le_of_ble_eq_true rfl) hl.1 dX4_isPerson_13) (fun v5 h6 H locs cells slots hH hL hrun => ?_)
  obtain ⟨c7, hrun⟩ := gd_some hrun
  exact V_zret (pc := 16) C hH hL c7 hrun dX4_isPerson_16

theorem m_X4_isPerson {l : Launch} {D : va_G} {Hs : Heap} {h : Hp} {rr : (Int32 ⊕ Ex) × Hp} (hl9 : l.stackTraces = false) {x0 : Nat} {x1 : Int32} (hrun : f_X4_isPerson x0 x1 h = some rr) : CM l yX4_isPerson (ws_ yX4_isPerson cX4_isPerson 2 (some .boolean)) 2 25 iI [rv x0, .int x1] D Hs h rr := by
  refine CM.of (lv := [(0, rv x0), (1, .int x1)]) (plainFor_of_name (by decide)) hl9 (by simp [lv_args, rv_cat, cat_i, cat_l, cat_f, cat_d]) (by simp [lg_sl, rv_cat, cat_i, cat_l, cat_f, cat_d]) ?_
  intro p e R s m args below meth c H ls C hH hl hin
  exact b_X4_isPerson C x0 x1 _ H [] _ _ ls hH (fun _ q => nomatch q) (lv_sub hl [0, 1] rfl) hrun

/-! MassclaimModel.sick(II)I -/
def f_X4_sick_62  (h : Hp) : Rt Int32 :=
  some (.inl (0 : Int32), h)
def f_X4_sick_92  (x4 : Int32) (y0 : Nat) (y1 : Int32) (h : Hp) : Rt Int32 :=
  gd (kC h y0 = 6) <| vl (sI h 505 y0 y1) fun h2 => some (.inl x4, h2)
def f_X4_sick  (x0 : Nat) (x1 : Int32) (x2 : Int32) (h : Hp) : Rt Int32 :=
  gd (kC h x0 = 4) <| bd (f_X4_isPerson x0 x1 h) fun v3 h4 => gd (kC h4 x0 = 4) <| bd (f_X4_isGood x0 v3 (1 : Int32) h4) fun v6 h7 => if v6 = 0 then
  (some (.inl (0 : Int32), h7))
  else
  (gd (kC h7 x0 = 4) <| gd (kC h7 (kR h7 302 x0) = 18) <| bd (f_J2_get (kR h7 302 x0) x1 h7) fun v10 h11 => gd (v10 = 0 ∨ kC h11 v10 = 6) <| gd (kC h11 v10 = 6) <| bd (f_X4_isWithin (x2.toInt64) (((kI h11 504 v10) + (1 : Int32)).toInt64) (5 : Int64) h11) fun v15 h16 => gd (kC h16 x0 = 4) <| bd (f_X4_isGood x0 v15 (2 : Int32) h16) fun v17 h18 => if v17 = 0 then
  (f_X4_sick_62  h18)
  else
  (gd (kC h18 v10 = 6) <| bd (f_X6_lives v10 h18) fun v20 h21 => gd (kC h21 x0 = 4) <| bd (f_X4_isGood x0 v20 (3 : Int32) h21) fun v23 h24 => if v23 = 0 then
  (f_X4_sick_62  h24)
  else
  (gd (kC h24 v10 = 6) <| vl (kI h24 504 v10) fun v27 => vl (sI h24 504 v10 x2) fun h28 => if v27 = 0 then
  (gd (kC h28 x0 = 4) <| f_X4_sick_92 v27 v10 (kI h28 301 x0) h28)
  else
  (gd (kC h28 v10 = 6) <| f_X4_sick_92 v27 v10 (kI h28 505 v10) h28))))
theorem b_X4_sick_62 {rr : (Int32 ⊕ Ex) × Hp}  (C : CX p l R s m args meth c D Hs cX4_sick "MassclaimModel" 5 (some .int) [] 4 64)  : ∀ (h : Hp) (H : Heap) (locs : List Loc) (cells slots : Nat) (ls : Array Slot), HP D Hs h H → LO Hs locs → lv_has ls 5 [] → f_X4_sick_62 h = some rr → W p l e R s m args below meth c H locs cells slots (ZM D Hs iI rr below args s) (F0 m 62 ls []) := by
  obtain ⟨⟨hx, hb, hml, hown, hts⟩, -⟩ := id C
  have hl9 := C.2.1.2.2.1
  intro h H locs cells slots ls hH hL hl hrun
  unfold f_X4_sick_62 at hrun
  refine lv_iconst (v := (0 : Int32)) (pc := 62) hx hb dX4_sick_62 (by decide) ?_
  exact V_iret (pc := 63) C hH hL hrun dX4_sick_63

theorem b_X4_sick_92 {rr : (Int32 ⊕ Ex) × Hp}  (C : CX p l R s m args meth c D Hs cX4_sick "MassclaimModel" 5 (some .int) [] 4 64)  : ∀ (x4 : Int32) (y0 : Nat) (y1 : Int32) (h : Hp) (H : Heap) (locs : List Loc) (cells slots : Nat) (ls : Array Slot), HP D Hs h H → LO Hs locs → lv_has ls 5 [(4, .int x4)] → f_X4_sick_92 x4 y0 y1 h = some rr → W p l e R s m args below meth c H locs cells slots (ZM D Hs iI rr below args s) (F0 m 92 ls [.int y1, rv y0]) := by
  obtain ⟨⟨hx, hb, hml, hown, hts⟩, -⟩ := id C
  have hl9 := C.2.1.2.2.1
  intro x4 y0 y1 h H locs cells slots ls hH hL hl hrun
  unfold f_X4_sick_92 at hrun
  obtain ⟨c1, hrun⟩ := gd_some hrun
  refine V_putI (pc := 92) C hH hL fl_X4_196 dX4_sick_92 c1 (fok_i _) rfl (fun q => Bool.noConfusion q) hrun (fun h2 H locs hH hL hrun => ?_)
  refine lv_iload (pc := 95) hx hb dX4_sick_95 (lv_at hl 0 rfl) ?_
  exact V_iret (pc := 97) C hH hL hrun dX4_sick_97

theorem b_X4_sick {rr : (Int32 ⊕ Ex) × Hp}  (C : CX p l R s m args meth c D Hs cX4_sick "MassclaimModel" 5 (some .int) [] 4 64)  : ∀ (x0 : Nat) (x1 : Int32) (x2 : Int32) (h : Hp) (H : Heap) (locs : List Loc) (cells slots : Nat) (ls : Array Slot), HP D Hs h H → LO Hs locs → lv_has ls 5 [(0, rv x0), (1, .int x1), (2, .int x2)] → f_X4_sick x0 x1 x2 h = some rr → W p l e R s m args below meth c H locs cells slots (ZM D Hs iI rr below args s) (F0 m 0 ls []) := by
  obtain ⟨⟨hx, hb, hml, hown, hts⟩, -⟩ := id C
  have hl9 := C.2.1.2.2.1
  intro x0 x1 x2 h H locs cells slots ls hH hL hl hrun
  unfold f_X4_sick at hrun
  refine V_aload_n (pc := 0) hx hb dX4_sick_0 rfl (lv_at hl 0 rfl) ?_
  refine V_aload_n (pc := 1) hx hb dX4_sick_1 rfl (lv_at hl 0 rfl) ?_
  refine lv_iload_n (pc := 2) hx hb dX4_sick_2 rfl (lv_at hl 1 rfl) ?_
  obtain ⟨c5, hrun⟩ := gd_some hrun
  refine V_bd (pc := 3) C hL rfl hrun (fun rr1 e1 => Z_runV (rest := [rv x0]) C hH (m_X4_isPerson hl9 e1) wV_X4_190 c5 rfl (by decide) rfl rfl ⟨by decide, by decide⟩ rfl (by simp [csum, rv_cat, cat_i, cat_l, cat_f, cat_d]) hl.1 dX4_sick_3) (fun v3 h4 H locs cells slots hH hL hrun => ?_)
  refine lv_iconst (v := (1 : Int32)) (pc := 6) hx hb dX4_sick_6 (by decide) ?_
  obtain ⟨c8, hrun⟩ := gd_some hrun
  refine V_bd (pc := 7) C hL rfl hrun (fun rr1 e1 => Z_runV (rest := []) C hH (m_X4_isGood hl9 e1) wV_X4_104 c8 rfl (by decide) rfl rfl ⟨by decide, by decide⟩ rfl (Nat.le_of_ble_eq_true rfl) hl.1 dX4_sick_7) (fun v6 h7 H locs cells slots hH hL hrun => ?_)
  refine lv_if_ne (tgt := 15) (pc := 10) hx hb dX4_sick_10 (by decide) (fun c_ => ?_) (fun c_ => ?_)
  · have hrun := ite_f hrun c_
    refine V_aload_n (pc := 15) hx hb dX4_sick_15 rfl (lv_at hl 0 rfl) ?_
    obtain ⟨c9, hrun⟩ := gd_some hrun
    refine V_getR (pc := 16) C hH fr_X4_16 dX4_sick_16 c9 rfl ?_
    refine lv_iload_n (pc := 19) hx hb dX4_sick_19 rfl (lv_at hl 1 rfl) ?_
    obtain ⟨c12, hrun⟩ := gd_some hrun
    refine V_bd (pc := 20) C hL rfl hrun (fun rr1 e1 => Z_runV (rest := []) C hH (m_J2_get hl9 e1) wV_X4_108 c12 rfl (by decide) rfl rfl ⟨by decide, by decide⟩ rfl (Nat.le_of_ble_eq_true rfl) hl.1 dX4_sick_20) (fun v10 h11 H locs cells slots hH hL hrun => ?_)
    obtain ⟨c13, hrun⟩ := gd_some hrun
    refine V_castX (pc := 23) (ci := 5) C hH rfl (by decide) q1946 dX4_sick_23 c13 ?_
    refine V_astore_n (i := 3) (lv' := [(3, rv v10), (0, rv x0), (1, .int x1), (2, .int x2)]) (pc := 26) hx hb dX4_sick_26 rfl hl (by decide) rfl (fun ls hl => ?_)
    refine V_aload_n (pc := 27) hx hb dX4_sick_27 rfl (lv_at hl 1 rfl) ?_
    refine lv_iload_n (pc := 28) hx hb dX4_sick_28 rfl (lv_at hl 3 rfl) ?_
    refine lv_i2l (pc := 29) hx hb dX4_sick_29 rfl ?_
    refine V_aload_n (pc := 30) hx hb dX4_sick_30 rfl (lv_at hl 0 rfl) ?_
    obtain ⟨c14, hrun⟩ := gd_some hrun
    refine V_getI (pc := 31) C hH fr_X4_117 dX4_sick_31 c14 rfl ?_
    refine lv_iconst (v := (1 : Int32)) (pc := 34) hx hb dX4_sick_34 (by decide) ?_
    refine lv_iadd (pc := 35) hx hb dX4_sick_35 ?_
    refine lv_i2l (pc := 36) hx hb dX4_sick_36 rfl ?_
    refine lv_ldc2 (pc := 37) hx hb hown (hts _ q2071) dX4_sick_37 ?_
    refine V_bd (pc := 40) C hL rfl hrun (fun rr1 e1 => Z_runS (rest := [rv x0]) C hH (m_X4_isWithin hl9 e1) wS_X4_100 rfl ⟨by decide, by decide⟩ rfl (by simp [csum, rv_cat, cat_i, cat_l, cat_f, cat_d]) hl.1 dX4_sick_40) (fun v15 h16 H locs cells slots hH hL hrun => ?_)
    refine lv_iconst (v := (2 : Int32)) (pc := 43) hx hb dX4_sick_43 (by decide) ?_
    obtain ⟨c19, hrun⟩ := gd_some hrun
    refine V_bd (pc := 44) C hL rfl hrun (fun rr1 e1 => Z_runV (rest := []) C hH (m_X4_isGood hl9 e1) wV_X4_104 c19 rfl (by decide) rfl rfl ⟨by decide, by decide⟩ rfl (Nat.le_of_ble_eq_true rfl) hl.1 dX4_sick_44) (fun v17 h18 H locs cells slots hH hL hrun => ?_)
    refine lv_if_eq (tgt := 62) (pc := 47) hx hb dX4_sick_47 (by decide) (fun c_ => ?_) (fun c_ => ?_)
    · have hrun := ite_t hrun c_
      exact b_X4_sick_62 C h18 H locs cells slots ls hH hL (lv_sub hl [] rfl) hrun
    · have hrun := ite_f hrun c_
      refine V_aload_n (pc := 50) hx hb dX4_sick_50 rfl (lv_at hl 1 rfl) ?_
      refine V_aload_n (pc := 51) hx hb dX4_sick_51 rfl (lv_at hl 0 rfl) ?_
      obtain ⟨c22, hrun⟩ := gd_some hrun
      refine V_bd (pc := 52) C hL rfl hrun (fun rr1 e1 => Z_runV (rest := [rv x0]) C hH (m_X6_lives hl9 e1) wV_X4_136 c22 rfl (by decide) rfl rfl ⟨by decide, by decide⟩ rfl (by simp [csum, rv_cat, cat_i, cat_l, cat_f, cat_d]) hl.1 dX4_sick_52) (fun v20 h21 H locs cells slots hH hL hrun => ?_)
      refine lv_iconst (v := (3 : Int32)) (pc := 55) hx hb dX4_sick_55 (by decide) ?_
      obtain ⟨c25, hrun⟩ := gd_some hrun
      refine V_bd (pc := 56) C hL rfl hrun (fun rr1 e1 => Z_runV (rest := []) C hH (m_X4_isGood hl9 e1) wV_X4_104 c25 rfl (by decide) rfl rfl ⟨by decide, by decide⟩ rfl (Nat.le_of_ble_eq_true rfl) hl.1 dX4_sick_56) (fun v23 h24 H locs cells slots hH hL hrun => ?_)
      refine lv_if_ne (tgt := 64) (pc := 59) hx hb dX4_sick_59 (by decide) (fun c_ => ?_) (fun c_ => ?_)
      · have hrun := ite_f hrun c_
        refine V_aload_n (pc := 64) hx hb dX4_sick_64 rfl (lv_at hl 0 rfl) ?_
        obtain ⟨c26, hrun⟩ := gd_some hrun
        refine V_getI (pc := 65) C hH fr_X4_117 dX4_sick_65 c26 rfl ?_
        refine lv_topi (fun v27 ev27 => ?_)
        have hrun := vl_at hrun v27 ev27
        refine lv_istore (i := 4) (lv' := [(4, .int v27), (3, rv v10), (0, rv x0), (1, .int x1), (2, .int x2)]) (pc := 68) hx hb dX4_sick_68 hl (by decide) (by simp [rv_cat, cat_i, cat_l, cat_f, cat_d]) (fun ls hl => ?_)
        refine V_aload_n (pc := 70) hx hb dX4_sick_70 rfl (lv_at hl 1 rfl) ?_
        refine lv_iload_n (pc := 71) hx hb dX4_sick_71 rfl (lv_at hl 4 rfl) ?_
        refine V_putI (pc := 72) C hH hL fl_X4_117 dX4_sick_72 c26 (fok_i _) rfl (fun q => Bool.noConfusion q) hrun (fun h28 H locs hH hL hrun => ?_)
        refine V_aload_n (pc := 75) hx hb dX4_sick_75 rfl (lv_at hl 1 rfl) ?_
        refine lv_iload (pc := 76) hx hb dX4_sick_76 (lv_at hl 0 rfl) ?_
        refine lv_if_ne (tgt := 88) (pc := 78) hx hb dX4_sick_78 (by decide) (fun c_ => ?_) (fun c_ => ?_)
        · have hrun := ite_f hrun c_
          refine V_aload_n (pc := 88) hx hb dX4_sick_88 rfl (lv_at hl 1 rfl) ?_
          obtain ⟨c29, hrun⟩ := gd_some hrun
          refine V_getI (pc := 89) C hH fr_X4_196 dX4_sick_89 c29 rfl ?_
          exact b_X4_sick_92 C v27 v10 (kI h28 505 v10) h28 H locs cells slots ls hH hL (lv_sub hl [0] rfl) hrun
        · have hrun := ite_t hrun c_
          refine V_aload_n (pc := 81) hx hb dX4_sick_81 rfl (lv_at hl 2 rfl) ?_
          obtain ⟨c30, hrun⟩ := gd_some hrun
          refine V_getI (pc := 82) C hH fr_X4_43 dX4_sick_82 c30 rfl ?_
          refine lv_goto (tgt := 92) (pc := 85) hx hb dX4_sick_85 (by decide) ?_
          exact b_X4_sick_92 C v27 v10 (kI h28 301 x0) h28 H locs cells slots ls hH hL (lv_sub hl [0] rfl) hrun
      · have hrun := ite_t hrun c_
        exact b_X4_sick_62 C h24 H locs cells slots ls hH hL (lv_sub hl [] rfl) hrun
  · have hrun := ite_t hrun c_
    refine lv_iconst (v := (0 : Int32)) (pc := 13) hx hb dX4_sick_13 (by decide) ?_
    exact V_iret (pc := 14) C hH hL hrun dX4_sick_14

theorem m_X4_sick {l : Launch} {D : va_G} {Hs : Heap} {h : Hp} {rr : (Int32 ⊕ Ex) × Hp} (hl9 : l.stackTraces = false) {x0 : Nat} {x1 : Int32} {x2 : Int32} (hrun : f_X4_sick x0 x1 x2 h = some rr) : CM l yX4_sick (ws_ yX4_sick cX4_sick 5 (some .int)) 4 64 iI [rv x0, .int x1, .int x2] D Hs h rr := by
  refine CM.of (lv := [(0, rv x0), (1, .int x1), (2, .int x2)]) (plainFor_of_name (by decide)) hl9 (by simp [lv_args, rv_cat, cat_i, cat_l, cat_f, cat_d]) (by simp [lg_sl, rv_cat, cat_i, cat_l, cat_f, cat_d]) ?_
  intro p e R s m args below meth c H ls C hH hl hin
  exact b_X4_sick C x0 x1 x2 _ H [] _ _ ls hH (fun _ q => nomatch q) (lv_sub hl [0, 1, 2] rfl) hrun

/-! Massclaim$Person.lies()J -/
def f_X5_lies_4  : Nat → Nat → Int64 → Int32 → Hp → Rt Int64
  | 0, _, _, _, _ => none
  | n + 1, x0, x1, x3, h => gd (kC h x0 = 5) <| gd (kC h (kR h 419 x0) = 18) <| bd (f_J2_size (kR h 419 x0) h) fun v2 h3 => if v2 ≤ x3 then
  (some (.inl x1, h3))
  else
  (gd (kC h3 x0 = 5) <| gd (kC h3 (kR h3 419 x0) = 18) <| bd (f_J2_get (kR h3 419 x0) x3 h3) fun v6 h7 => gd (v6 = 0 ∨ kC h7 v6 = 14) <| gd (kC h7 v6 = 14) <| vl (x1 + (kL h7 1300 v6)) fun v11 => vl (x3 + (1 : Int32)) fun v12 => f_X5_lies_4 n x0 v11 v12 h7)
def f_X5_lies  (x0 : Nat) (h : Hp) : Rt Int64 :=
  f_X5_lies_4 FU x0 (0 : Int64) (0 : Int32) h
theorem b_X5_lies_4 {rr : (Int64 ⊕ Ex) × Hp}  (C : CX p l R s m args meth c D Hs cX5_lies "Massclaim$Person" 4 (some .long) [] 4 64)  : ∀ (n : Nat) (x0 : Nat) (x1 : Int64) (x3 : Int32) (h : Hp) (H : Heap) (locs : List Loc) (cells slots : Nat) (ls : Array Slot), HP D Hs h H → LO Hs locs → lv_has ls 4 [(0, rv x0), (1, .long x1), (3, .int x3)] → f_X5_lies_4 n x0 x1 x3 h = some rr → W p l e R s m args below meth c H locs cells slots (ZM D Hs iL rr below args s) (F0 m 4 ls []) := by
  obtain ⟨⟨hx, hb, hml, hown, hts⟩, -⟩ := id C
  have hl9 := C.2.1.2.2.1
  intro n
  induction n with
  | zero =>
    intro x0 x1 x3 h H locs cells slots ls hH hL hl hrun
    cases (show (none : Option _) = some rr from hrun)
  | succ n ih =>
    intro x0 x1 x3 h H locs cells slots ls hH hL hl hrun
    rw [f_X5_lies_4] at hrun
    refine lv_iload_n (pc := 4) hx hb dX5_lies_4 rfl (lv_at hl 2 rfl) ?_
    refine V_aload_n (pc := 5) hx hb dX5_lies_5 rfl (lv_at hl 0 rfl) ?_
    obtain ⟨c1, hrun⟩ := gd_some hrun
    refine V_getR (pc := 6) C hH fr_X5_32 dX5_lies_6 c1 rfl ?_
    obtain ⟨c4, hrun⟩ := gd_some hrun
    refine V_bd5 (pc := 9) C hL rfl hrun (fun rr1 e1 => Z_runF (rest := [.int x3]) C hH (m_J2_size hl9 e1) rfl wF_X5_110_J2 c4 (by decide) rfl ⟨by decide, by decide⟩ rfl (Nat.le_of_ble_eq_true rfl) hl.1 dX5_lies_9) (fun v2 h3 H locs cells slots hH hL hrun => ?_)
    refine lv_icmp_ge (tgt := 42) (pc := 14) hx hb dX5_lies_14 (by decide) (fun c_ => ?_) (fun c_ => ?_)
    · have hrun := ite_t hrun c_
      refine lv_lload_n (pc := 42) hx hb dX5_lies_42 rfl (lv_at hl 1 rfl) ?_
      exact V_lret (pc := 43) C hH hL hrun dX5_lies_43
    · have hrun := ite_f hrun c_
      refine lv_lload_n (pc := 17) hx hb dX5_lies_17 rfl (lv_at hl 1 rfl) ?_
      refine V_aload_n (pc := 18) hx hb dX5_lies_18 rfl (lv_at hl 0 rfl) ?_
      obtain ⟨c5, hrun⟩ := gd_some hrun
      refine V_getR (pc := 19) C hH fr_X5_32 dX5_lies_19 c5 rfl ?_
      refine lv_iload_n (pc := 22) hx hb dX5_lies_22 rfl (lv_at hl 2 rfl) ?_
      obtain ⟨c8, hrun⟩ := gd_some hrun
      refine V_bd5 (pc := 23) C hL rfl hrun (fun rr1 e1 => Z_runF (rest := [.long x1]) C hH (m_J2_get hl9 e1) rfl wF_X5_111_J2 c8 (by decide) rfl ⟨by decide, by decide⟩ rfl (Nat.le_of_ble_eq_true rfl) hl.1 dX5_lies_23) (fun v6 h7 H locs cells slots hH hL hrun => ?_)
      obtain ⟨c9, hrun⟩ := gd_some hrun
      refine V_castX (pc := 28) (ci := 13) C hH rfl (by decide) q402 dX5_lies_28 c9 ?_
      obtain ⟨c10, hrun⟩ := gd_some hrun
      refine V_getNL (pc := 31) C hH fn_X5_117 dX5_lies_31 c10 rfl ?_
      refine lv_ladd (pc := 34) hx hb dX5_lies_34 ?_
      refine lv_topl (fun v11 ev11 => ?_)
      have hrun := vl_at hrun v11 ev11
      refine lv_lstore_n (i := 1) (lv' := [(1, .long v11), (0, rv x0), (3, .int x3)]) (pc := 35) hx hb dX5_lies_35 rfl hl (by decide) (by simp [rv_cat, cat_i, cat_l, cat_f, cat_d]) (fun ls hl => ?_)
      obtain ⟨v12, ev12⟩ : ∃ y : Int32, y = x3 + (1 : Int32) := ⟨_, rfl⟩
      have hrun := vl_at hrun v12 ev12
      refine lv_iinc (v := v12) (lv' := [(3, .int v12), (1, .long v11), (0, rv x0)]) (pc := 36) hx hb dX5_lies_36 hl (k := 2) rfl (by rw [ev12]; rfl) (by decide) (by first | rfl | simp [rv_cat, cat_i, cat_l, cat_f, cat_d]) (fun ls hl => ?_)
      refine lv_goto (tgt := 4) (pc := 39) hx hb dX5_lies_39 (by decide) ?_
      exact ih x0 v11 v12 h7 H locs cells slots ls hH hL (lv_sub hl [2, 1, 0] rfl) hrun

theorem b_X5_lies {rr : (Int64 ⊕ Ex) × Hp}  (C : CX p l R s m args meth c D Hs cX5_lies "Massclaim$Person" 4 (some .long) [] 4 64)  : ∀ (x0 : Nat) (h : Hp) (H : Heap) (locs : List Loc) (cells slots : Nat) (ls : Array Slot), HP D Hs h H → LO Hs locs → lv_has ls 4 [(0, rv x0)] → f_X5_lies x0 h = some rr → W p l e R s m args below meth c H locs cells slots (ZM D Hs iL rr below args s) (F0 m 0 ls []) := by
  obtain ⟨⟨hx, hb, hml, hown, hts⟩, -⟩ := id C
  have hl9 := C.2.1.2.2.1
  intro x0 h H locs cells slots ls hH hL hl hrun
  unfold f_X5_lies at hrun
  refine lv_lconst (v := (0 : Int64)) (pc := 0) hx hb dX5_lies_0 (by decide) ?_
  refine lv_lstore_n (i := 1) (lv' := [(1, .long (0 : Int64)), (0, rv x0)]) (pc := 1) hx hb dX5_lies_1 rfl hl (by decide) (by simp [rv_cat, cat_i, cat_l, cat_f, cat_d]) (fun ls hl => ?_)
  refine lv_iconst (v := (0 : Int32)) (pc := 2) hx hb dX5_lies_2 (by decide) ?_
  refine lv_istore_n (i := 3) (lv' := [(3, .int (0 : Int32)), (1, .long (0 : Int64)), (0, rv x0)]) (pc := 3) hx hb dX5_lies_3 rfl hl (by decide) rfl (fun ls hl => ?_)
  exact b_X5_lies_4 C FU x0 (0 : Int64) (0 : Int32) h H locs cells slots ls hH hL (lv_sub hl [2, 1, 0] rfl) hrun

theorem m_X5_lies {l : Launch} {D : va_G} {Hs : Heap} {h : Hp} {rr : (Int64 ⊕ Ex) × Hp} (hl9 : l.stackTraces = false) {x0 : Nat} (hrun : f_X5_lies x0 h = some rr) : CM l yX5_lies (ws_ yX5_lies cX5_lies 4 (some .long)) 4 64 iL [rv x0] D Hs h rr := by
  refine CM.of (lv := [(0, rv x0)]) (plainFor_of_name (by decide)) hl9 (by simp [lv_args, rv_cat, cat_i, cat_l, cat_f, cat_d]) (by simp [lg_sl, rv_cat, cat_i, cat_l, cat_f, cat_d]) ?_
  intro p e R s m args below meth c H ls C hH hl hin
  exact b_X5_lies C x0 _ H [] _ _ ls hH (fun _ q => nomatch q) (lv_sub hl [0] rfl) hrun

/-! Massclaim.die(II)J -/
def f_X1_die_36  (x2 : Int32) (x3 : Nat) (y0 : Int32) (h : Hp) : Rt Int64 :=
  bd (f_X1_requireState y0 h) fun _ h2 => na h2 102 x2 fun q3 h4 => gd (kC h4 x3 = 5) <| vl (sR h4 420 x3 q3) fun h6 => gd (kC h6 x3 = 5) <| bd (f_X5_lies x3 h6) fun v8 h9 => vl ((kL h6 417 x3) + v8) fun v10 => gd (kC h9 x3 = 5) <| vl (sL h9 417 x3 (0 : Int64)) fun h12 => gd (kC h12 x3 = 5) <| gd (kC h12 (kR h12 419 x3) = 18) <| bd (f_J2_clear (kR h12 419 x3) h12) fun _ h15 => gd (kC h15 x3 = 5) <| bd (f_X5_gets x3 v10 h15) fun _ h18 => some (.inl v10, h18)
def f_X1_die  (x0 : Nat) (x1 : Int32) (x2 : Int32) (h : Hp) : Rt Int64 :=
  gd (kC h x0 = 1) <| gd (kC h (kR h 0 x0) = 2) <| bd (f_X2_at (kR h 0 x0) x1 h) fun v21 h22 => gd (v21 = 0 ∨ kC h22 v21 = 5) <| bd (f_X1_isIn (x2.toInt64) (1 : Int64) (3 : Int64) h22) fun v25 h26 => bd (f_X1_requireArgument v25 h26) fun _ h28 => gd (kC h28 v21 = 5) <| bd (f_X5_isDead v21 h28) fun v29 h30 => if v29 = 0 then
  (f_X1_die_36 x2 v21 (1 : Int32) h30)
  else
  (f_X1_die_36 x2 v21 (0 : Int32) h30)
theorem b_X1_die_36 {rr : (Int64 ⊕ Ex) × Hp}  (C : CX p l R s m args meth c D Hs cX1_die "Massclaim" 6 (some .long) [] 8 131)  : ∀ (x2 : Int32) (x3 : Nat) (y0 : Int32) (h : Hp) (H : Heap) (locs : List Loc) (cells slots : Nat) (ls : Array Slot), HP D Hs h H → LO Hs locs → lv_has ls 6 [(2, .int x2), (3, rv x3)] → f_X1_die_36 x2 x3 y0 h = some rr → W p l e R s m args below meth c H locs cells slots (ZM D Hs iL rr below args s) (F0 m 36 ls [.int y0]) := by
  obtain ⟨⟨hx, hb, hml, hown, hts⟩, -⟩ := id C
  have hl9 := C.2.1.2.2.1
  intro x2 x3 y0 h H locs cells slots ls hH hL hl hrun
  unfold f_X1_die_36 at hrun
  refine V_bd (pc := 36) C hL rfl hrun (fun rr1 e1 => Z_runS (rest := []) C hH (m_X1_requireState hl9 e1) wS_X1_182 rfl ⟨by decide, by decide⟩ rfl (Nat.le_of_ble_eq_true rfl) hl.1 dX1_die_36) (fun _ h2 H locs cells slots hH hL hrun => ?_)
  refine V_aload_n (pc := 39) hx hb dX1_die_39 rfl (lv_at hl 1 rfl) ?_
  refine lv_iload_n (pc := 40) hx hb dX1_die_40 rfl (lv_at hl 0 rfl) ?_
  refine V_newa (at_ := .long) (pc := 41) C hH (Or.inr ⟨rfl, rfl⟩) q195 dX1_die_41 hrun (fun q3 h4 H cells slots hH hrun => ?_)
  obtain ⟨c5, hrun⟩ := gd_some hrun
  refine V_putNR (pc := 43) C hH hL fn_X1_188 dX1_die_43 c5 (fok_a _ _) rfl hrun (fun h6 H locs hH hL hrun => ?_)
  refine V_aload_n (pc := 46) hx hb dX1_die_46 rfl (lv_at hl 1 rfl) ?_
  obtain ⟨c7, hrun⟩ := gd_some hrun
  refine V_getNL (pc := 47) C hH fn_X1_191 dX1_die_47 c7 rfl ?_
  refine V_aload_n (pc := 50) hx hb dX1_die_50 rfl (lv_at hl 1 rfl) ?_
  refine V_bd (pc := 51) C hL rfl hrun (fun rr1 e1 => Z_runV (rest := [.long (kL h6 417 x3)]) C hH (m_X5_lies hl9 e1) wV_X1_194 c7 rfl (by decide) rfl rfl ⟨by decide, by decide⟩ rfl (Nat.le_of_ble_eq_true rfl) hl.1 dX1_die_51) (fun v8 h9 H locs cells slots hH hL hrun => ?_)
  refine lv_ladd (pc := 54) hx hb dX1_die_54 ?_
  refine lv_topl (fun v10 ev10 => ?_)
  have hrun := vl_at hrun v10 ev10
  refine lv_lstore (i := 4) (lv' := [(4, .long v10), (2, .int x2), (3, rv x3)]) (pc := 55) hx hb dX1_die_55 hl (by decide) (by simp [rv_cat, cat_i, cat_l, cat_f, cat_d]) (fun ls hl => ?_)
  refine V_aload_n (pc := 57) hx hb dX1_die_57 rfl (lv_at hl 2 rfl) ?_
  refine lv_lconst (v := (0 : Int64)) (pc := 58) hx hb dX1_die_58 (by decide) ?_
  obtain ⟨c11, hrun⟩ := gd_some hrun
  refine V_putNL (pc := 59) C hH hL fn_X1_191 dX1_die_59 c11 (fok_l _) rfl hrun (fun h12 H locs hH hL hrun => ?_)
  refine V_aload_n (pc := 62) hx hb dX1_die_62 rfl (lv_at hl 2 rfl) ?_
  obtain ⟨c13, hrun⟩ := gd_some hrun
  refine V_getNR (pc := 63) C hH fn_X1_198 dX1_die_63 c13 rfl ?_
  obtain ⟨c16, hrun⟩ := gd_some hrun
  refine V_bd5 (pc := 66) C hL rfl hrun (fun rr1 e1 => Z_runF (rest := []) C hH (m_J2_clear hl9 e1) rfl wF_X1_202_J2 c16 (by decide) rfl ⟨by decide, by decide⟩ rfl (Nat.le_of_ble_eq_true rfl) hl.1 dX1_die_66) (fun _ h15 H locs cells slots hH hL hrun => ?_)
  refine V_aload_n (pc := 71) hx hb dX1_die_71 rfl (lv_at hl 2 rfl) ?_
  refine lv_lload (pc := 72) hx hb dX1_die_72 (lv_at hl 0 rfl) ?_
  obtain ⟨c19, hrun⟩ := gd_some hrun
  refine V_bd (pc := 74) C hL rfl hrun (fun rr1 e1 => Z_runV (rest := []) C hH (m_X5_gets hl9 e1) wV_X1_204 c19 rfl (by decide) rfl rfl ⟨by decide, by decide⟩ rfl (Nat.le_of_ble_eq_true rfl) hl.1 dX1_die_74) (fun _ h18 H locs cells slots hH hL hrun => ?_)
  refine lv_lload (pc := 77) hx hb dX1_die_77 (lv_at hl 0 rfl) ?_
  exact V_lret (pc := 79) C hH hL hrun dX1_die_79

theorem b_X1_die {rr : (Int64 ⊕ Ex) × Hp}  (C : CX p l R s m args meth c D Hs cX1_die "Massclaim" 6 (some .long) [] 8 131)  : ∀ (x0 : Nat) (x1 : Int32) (x2 : Int32) (h : Hp) (H : Heap) (locs : List Loc) (cells slots : Nat) (ls : Array Slot), HP D Hs h H → LO Hs locs → lv_has ls 6 [(0, rv x0), (1, .int x1), (2, .int x2)] → f_X1_die x0 x1 x2 h = some rr → W p l e R s m args below meth c H locs cells slots (ZM D Hs iL rr below args s) (F0 m 0 ls []) := by
  obtain ⟨⟨hx, hb, hml, hown, hts⟩, -⟩ := id C
  have hl9 := C.2.1.2.2.1
  intro x0 x1 x2 h H locs cells slots ls hH hL hl hrun
  unfold f_X1_die at hrun
  refine V_aload_n (pc := 0) hx hb dX1_die_0 rfl (lv_at hl 0 rfl) ?_
  obtain ⟨c20, hrun⟩ := gd_some hrun
  refine V_getR (pc := 1) C hH fr_X1_42 dX1_die_1 c20 rfl ?_
  refine lv_iload_n (pc := 4) hx hb dX1_die_4 rfl (lv_at hl 1 rfl) ?_
  obtain ⟨c23, hrun⟩ := gd_some hrun
  refine V_bd (pc := 5) C hL rfl hrun (fun rr1 e1 => Z_runV (rest := []) C hH (m_X2_at hl9 e1) wV_X1_136 c23 rfl (by decide) rfl rfl ⟨by decide, by decide⟩ rfl (Nat.le_of_ble_eq_true rfl) hl.1 dX1_die_5) (fun v21 h22 H locs cells slots hH hL hrun => ?_)
  obtain ⟨c24, hrun⟩ := gd_some hrun
  refine V_castX (pc := 8) (ci := 4) C hH rfl (by decide) q376 dX1_die_8 c24 ?_
  refine V_astore_n (i := 3) (lv' := [(3, rv v21), (0, rv x0), (1, .int x1), (2, .int x2)]) (pc := 11) hx hb dX1_die_11 rfl hl (by decide) rfl (fun ls hl => ?_)
  refine lv_iload_n (pc := 12) hx hb dX1_die_12 rfl (lv_at hl 3 rfl) ?_
  refine lv_i2l (pc := 13) hx hb dX1_die_13 rfl ?_
  refine lv_lconst (v := (1 : Int64)) (pc := 14) hx hb dX1_die_14 (by decide) ?_
  refine lv_ldc2 (pc := 15) hx hb hown (hts _ q592) dX1_die_15 ?_
  refine V_bd (pc := 18) C hL rfl hrun (fun rr1 e1 => Z_runS (rest := []) C hH (m_X1_isIn hl9 e1) wS_X1_127 rfl ⟨by decide, by decide⟩ rfl (Nat.le_of_ble_eq_true rfl) hl.1 dX1_die_18) (fun v25 h26 H locs cells slots hH hL hrun => ?_)
  refine V_bd (pc := 21) C hL rfl hrun (fun rr1 e1 => Z_runS (rest := []) C hH (m_X1_requireArgument hl9 e1) wS_X1_131 rfl ⟨by decide, by decide⟩ rfl (Nat.le_of_ble_eq_true rfl) hl.1 dX1_die_21) (fun _ h28 H locs cells slots hH hL hrun => ?_)
  refine V_aload_n (pc := 24) hx hb dX1_die_24 rfl (lv_at hl 0 rfl) ?_
  obtain ⟨c31, hrun⟩ := gd_some hrun
  refine V_bd (pc := 25) C hL rfl hrun (fun rr1 e1 => Z_runV (rest := []) C hH (m_X5_isDead hl9 e1) wV_X1_179 c31 rfl (by decide) rfl rfl ⟨by decide, by decide⟩ rfl (Nat.le_of_ble_eq_true rfl) hl.1 dX1_die_25) (fun v29 h30 H locs cells slots hH hL hrun => ?_)
  refine lv_if_ne (tgt := 35) (pc := 28) hx hb dX1_die_28 (by decide) (fun c_ => ?_) (fun c_ => ?_)
  · have hrun := ite_f hrun c_
    refine lv_iconst (v := (0 : Int32)) (pc := 35) hx hb dX1_die_35 (by decide) ?_
    exact b_X1_die_36 C x2 v21 (0 : Int32) h30 H locs cells slots ls hH hL (lv_sub hl [3, 0] rfl) hrun
  · have hrun := ite_t hrun c_
    refine lv_iconst (v := (1 : Int32)) (pc := 31) hx hb dX1_die_31 (by decide) ?_
    refine lv_goto (tgt := 36) (pc := 32) hx hb dX1_die_32 (by decide) ?_
    exact b_X1_die_36 C x2 v21 (1 : Int32) h30 H locs cells slots ls hH hL (lv_sub hl [3, 0] rfl) hrun

theorem m_X1_die {l : Launch} {D : va_G} {Hs : Heap} {h : Hp} {rr : (Int64 ⊕ Ex) × Hp} (hl9 : l.stackTraces = false) {x0 : Nat} {x1 : Int32} {x2 : Int32} (hrun : f_X1_die x0 x1 x2 h = some rr) : CM l yX1_die (ws_ yX1_die cX1_die 6 (some .long)) 8 131 iL [rv x0, .int x1, .int x2] D Hs h rr := by
  refine CM.of (lv := [(0, rv x0), (1, .int x1), (2, .int x2)]) (plainFor_of_name (by decide)) hl9 (by simp [lv_args, rv_cat, cat_i, cat_l, cat_f, cat_d]) (by simp [lg_sl, rv_cat, cat_i, cat_l, cat_f, cat_d]) ?_
  intro p e R s m args below meth c H ls C hH hl hin
  exact b_X1_die C x0 x1 x2 _ H [] _ _ ls hH (fun _ q => nomatch q) (lv_sub hl [0, 1, 2] rfl) hrun

/-! MassclaimLaw.die(LMassclaim;II[J)I -/
def f_X0_die_12  (y0 : Nat) (h : Hp) : Rt Int32 :=
  some (.inl (1 : Int32), h)
def f_X0_die_16  (y0 : Nat) (h : Hp) : Rt Int32 :=
  some (.inl (2 : Int32), h)
def f_X0_die_20  (y0 : Nat) (h : Hp) : Rt Int32 :=
  some (.inl (3 : Int32), h)
def f_X0_die  (x0 : Nat) (x1 : Int32) (x2 : Int32) (x3 : Nat) (h : Hp) : Rt Int32 :=
  gd (kC h x0 = 1) <| bdH (f_X1_die x0 x1 x2 h)
  (fun v1 h2 => gd (kC h2 x3 = 102 ∧ ixo (0 : Int32) (kN h2 x3)) <| vl (tL h2 x3 ((0 : Int32)).toNatClampNeg v1) fun h5 => some (.inl (0 : Int32), h5))
  (fun ex6 h7 => if ex6.1 = 901 then
  (f_X0_die_12 ex6.2 h7)
  else
  if ex6.1 = 902 then
  (f_X0_die_16 ex6.2 h7)
  else
  if ex6.1 = 903 then
  (f_X0_die_20 ex6.2 h7)
  else
  none)
theorem b_X0_die_12 {rr : (Int32 ⊕ Ex) × Hp}  (C : CX p l R s m args meth c D Hs cX0_die "MassclaimLaw" 5 (some .int) [(0, 9, 12, 25), (0, 9, 16, 13), (0, 9, 20, 19)] 9 156)  : ∀ (y0 : Nat) (h : Hp) (H : Heap) (locs : List Loc) (cells slots : Nat) (ls : Array Slot), HP D Hs h H → LO Hs locs → lv_has ls 5 [] → f_X0_die_12 y0 h = some rr → W p l e R s m args below meth c H locs cells slots (ZM D Hs iI rr below args s) (F0 m 12 ls [rv y0]) := by
  obtain ⟨⟨hx, hb, hml, hown, hts⟩, -⟩ := id C
  have hl9 := C.2.1.2.2.1
  intro y0 h H locs cells slots ls hH hL hl hrun
  unfold f_X0_die_12 at hrun
  refine V_astore (i := 4) (lv' := [(4, rv y0)]) (pc := 12) hx hb dX0_die_12 hl (by decide) rfl (fun ls hl => ?_)
  refine lv_iconst (v := (1 : Int32)) (pc := 14) hx hb dX0_die_14 (by decide) ?_
  exact V_iret (pc := 15) C hH hL hrun dX0_die_15

theorem b_X0_die_16 {rr : (Int32 ⊕ Ex) × Hp}  (C : CX p l R s m args meth c D Hs cX0_die "MassclaimLaw" 5 (some .int) [(0, 9, 12, 25), (0, 9, 16, 13), (0, 9, 20, 19)] 9 156)  : ∀ (y0 : Nat) (h : Hp) (H : Heap) (locs : List Loc) (cells slots : Nat) (ls : Array Slot), HP D Hs h H → LO Hs locs → lv_has ls 5 [] → f_X0_die_16 y0 h = some rr → W p l e R s m args below meth c H locs cells slots (ZM D Hs iI rr below args s) (F0 m 16 ls [rv y0]) := by
  obtain ⟨⟨hx, hb, hml, hown, hts⟩, -⟩ := id C
  have hl9 := C.2.1.2.2.1
  intro y0 h H locs cells slots ls hH hL hl hrun
  unfold f_X0_die_16 at hrun
  refine V_astore (i := 4) (lv' := [(4, rv y0)]) (pc := 16) hx hb dX0_die_16 hl (by decide) rfl (fun ls hl => ?_)
  refine lv_iconst (v := (2 : Int32)) (pc := 18) hx hb dX0_die_18 (by decide) ?_
  exact V_iret (pc := 19) C hH hL hrun dX0_die_19

theorem b_X0_die_20 {rr : (Int32 ⊕ Ex) × Hp}  (C : CX p l R s m args meth c D Hs cX0_die "MassclaimLaw" 5 (some .int) [(0, 9, 12, 25), (0, 9, 16, 13), (0, 9, 20, 19)] 9 156)  : ∀ (y0 : Nat) (h : Hp) (H : Heap) (locs : List Loc) (cells slots : Nat) (ls : Array Slot), HP D Hs h H → LO Hs locs → lv_has ls 5 [] → f_X0_die_20 y0 h = some rr → W p l e R s m args below meth c H locs cells slots (ZM D Hs iI rr below args s) (F0 m 20 ls [rv y0]) := by
  obtain ⟨⟨hx, hb, hml, hown, hts⟩, -⟩ := id C
  have hl9 := C.2.1.2.2.1
  intro y0 h H locs cells slots ls hH hL hl hrun
  unfold f_X0_die_20 at hrun
  refine V_astore (i := 4) (lv' := [(4, rv y0)]) (pc := 20) hx hb dX0_die_20 hl (by decide) rfl (fun ls hl => ?_)
  refine lv_iconst (v := (3 : Int32)) (pc := 22) hx hb dX0_die_22 (by decide) ?_
  exact V_iret (pc := 23) C hH hL hrun dX0_die_23

theorem b_X0_die {rr : (Int32 ⊕ Ex) × Hp}  (C : CX p l R s m args meth c D Hs cX0_die "MassclaimLaw" 5 (some .int) [(0, 9, 12, 25), (0, 9, 16, 13), (0, 9, 20, 19)] 9 156)  : ∀ (x0 : Nat) (x1 : Int32) (x2 : Int32) (x3 : Nat) (h : Hp) (H : Heap) (locs : List Loc) (cells slots : Nat) (ls : Array Slot), HP D Hs h H → LO Hs locs → lv_has ls 5 [(0, rv x0), (1, .int x1), (2, .int x2), (3, rv x3)] → f_X0_die x0 x1 x2 x3 h = some rr → W p l e R s m args below meth c H locs cells slots (ZM D Hs iI rr below args s) (F0 m 0 ls []) := by
  obtain ⟨⟨hx, hb, hml, hown, hts⟩, -⟩ := id C
  have hl9 := C.2.1.2.2.1
  intro x0 x1 x2 x3 h H locs cells slots ls hH hL hl hrun
  unfold f_X0_die at hrun
  refine V_aload_n (pc := 0) hx hb dX0_die_0 rfl (lv_at hl 3 rfl) ?_
  refine lv_iconst (v := (0 : Int32)) (pc := 1) hx hb dX0_die_1 (by decide) ?_
  refine V_aload_n (pc := 2) hx hb dX0_die_2 rfl (lv_at hl 0 rfl) ?_
  refine lv_iload_n (pc := 3) hx hb dX0_die_3 rfl (lv_at hl 1 rfl) ?_
  refine lv_iload_n (pc := 4) hx hb dX0_die_4 rfl (lv_at hl 2 rfl) ?_
  obtain ⟨c3, hrun⟩ := gd_some hrun
  refine V_bdH (pc := 5) hL hrun (fun rr1 e1 => Z_runV (rest := [.int (0 : Int32), rv x3]) C hH (m_X1_die hl9 e1) wV_X0_27 c3 rfl (by decide) rfl rfl ⟨by decide, by decide⟩ rfl (by simp [csum, rv_cat, cat_i, cat_l, cat_f, cat_d]) hl.1 dX0_die_5) (fun v1 h2 H locs cells slots hH hL hrun => ?_) (fun x_ q_ ce_ h7 H locs cells slots hH hL hrun hc_ hv_ hcl_ => ?_)
  · obtain ⟨c4, hrun⟩ := gd_some hrun
    refine V_last (pc := 8) C hH hL dX0_die_8 c4 hrun (fun h5 H locs hH hL hrun => ?_)
    refine lv_goto (tgt := 24) (pc := 9) hx hb dX0_die_9 (by decide) ?_
    refine lv_iconst (v := (0 : Int32)) (pc := 24) hx hb dX0_die_24 (by decide) ?_
    exact V_iret (pc := 25) C hH hL hrun dX0_die_25
  · by_cases n901 : x_ = 901
    · subst n901
      have hrun := ite_t hrun rfl
      refine vx_catch (E := "java/lang/IndexOutOfBoundsException") (name := "java/lang/IndexOutOfBoundsException") hown (tableOf []) ⟨0, 9, 12, 25⟩ (tableOf [(0, 9, 16, 13), (0, 9, 20, 19)]) (by rw [C.2.1.2.2.2.2]; rfl) (fun z hz => nomatch hz) (by decide) (by decide) (hts _ q829) (va_Nw.use rfl (C.2.1.2.2.2.1.2.1 _ q537 rfl)) hc_ hv_ hcl_ ?_
      exact b_X0_die_12 C (q_ + 1) h7 H locs cells slots ls hH hL (lv_sub hl [] rfl) hrun
    have hrun := ite_f hrun n901
    by_cases n902 : x_ = 902
    · subst n902
      have hrun := ite_t hrun rfl
      refine vx_catch (E := "java/lang/IllegalArgumentException") (name := "java/lang/IllegalArgumentException") hown (tableOf [(0, 9, 12, 25)]) ⟨0, 9, 16, 13⟩ (tableOf [(0, 9, 20, 19)]) (by rw [C.2.1.2.2.2.2]; rfl) (fun z hz => by simp only [tableOf, List.map, List.mem_cons, List.not_mem_nil, or_false] at hz; rcases hz with rfl <;> first | exact Or.inr ⟨by decide, "java/lang/IndexOutOfBoundsException", hts _ q829, nc_at C (by decide)⟩) (by decide) (by decide) (hts _ q449) (va_Nw.use rfl (C.2.1.2.2.2.1.2.1 _ q463 rfl)) hc_ hv_ hcl_ ?_
      exact b_X0_die_16 C (q_ + 1) h7 H locs cells slots ls hH hL (lv_sub hl [] rfl) hrun
    have hrun := ite_f hrun n902
    by_cases n903 : x_ = 903
    · subst n903
      have hrun := ite_t hrun rfl
      refine vx_catch (E := "java/lang/IllegalStateException") (name := "java/lang/IllegalStateException") hown (tableOf [(0, 9, 12, 25), (0, 9, 16, 13)]) ⟨0, 9, 20, 19⟩ (tableOf []) (by rw [C.2.1.2.2.2.2]; rfl) (fun z hz => by simp only [tableOf, List.map, List.mem_cons, List.not_mem_nil, or_false] at hz; rcases hz with rfl | rfl <;> first | exact Or.inr ⟨by decide, "java/lang/IndexOutOfBoundsException", hts _ q829, nc_at C (by decide)⟩ | exact Or.inr ⟨by decide, "java/lang/IllegalArgumentException", hts _ q449, nc_at C (by decide)⟩) (by decide) (by decide) (hts _ q585) (va_Nw.use rfl (C.2.1.2.2.2.1.2.1 _ q702 rfl)) hc_ hv_ hcl_ ?_
      exact b_X0_die_20 C (q_ + 1) h7 H locs cells slots ls hH hL (lv_sub hl [] rfl) hrun
    have hrun := ite_f hrun n903
    cases hrun

theorem m_X0_die {l : Launch} {D : va_G} {Hs : Heap} {h : Hp} {rr : (Int32 ⊕ Ex) × Hp} (hl9 : l.stackTraces = false) {x0 : Nat} {x1 : Int32} {x2 : Int32} {x3 : Nat} (hrun : f_X0_die x0 x1 x2 x3 h = some rr) : CM l yX0_die (wsW_ yX0_die cX0_die 5 (some .int) [(0, 9, 12, 25), (0, 9, 16, 13), (0, 9, 20, 19)]) 9 156 iI [rv x0, .int x1, .int x2, rv x3] D Hs h rr := by
  refine CM.ofH (lv := [(0, rv x0), (1, .int x1), (2, .int x2), (3, rv x3)]) (plainFor_of_name (by decide)) hl9 (by simp [lv_args, rv_cat, cat_i, cat_l, cat_f, cat_d]) (by simp [lg_sl, rv_cat, cat_i, cat_l, cat_f, cat_d]) ?_
  intro p e R s m args below meth c H ls C hH hl hin
  exact b_X0_die C x0 x1 x2 x3 _ H [] _ _ ls hH (fun _ q => nomatch q) (lv_sub hl [0, 1, 2, 3] rfl) hrun

/-! MassclaimModel.yearly(LMassclaimModel$Person;)J -/
def f_X4_yearly_4  : Nat → Nat → Int64 → Int32 → Hp → Rt Int64
  | 0, _, _, _, _ => none
  | n + 1, x0, x1, x3, h => gd (kC h x0 = 6) <| gd (kC h (kR h 521 x0) = 18) <| bd (f_J2_size (kR h 521 x0) h) fun v2 h3 => if v2 ≤ x3 then
  (some (.inl x1, h3))
  else
  (gd (kC h3 x0 = 6) <| gd (kC h3 (kR h3 521 x0) = 18) <| bd (f_J2_get (kR h3 521 x0) x3 h3) fun v6 h7 => gd (v6 = 0 ∨ kC h7 v6 = 15) <| gd (kC h7 v6 = 15) <| vl (x1 + (kL h7 1400 v6)) fun v11 => vl (x3 + (1 : Int32)) fun v12 => f_X4_yearly_4 n x0 v11 v12 h7)
def f_X4_yearly  (x0 : Nat) (h : Hp) : Rt Int64 :=
  f_X4_yearly_4 FU x0 (0 : Int64) (0 : Int32) h
theorem b_X4_yearly_4 {rr : (Int64 ⊕ Ex) × Hp}  (C : CX p l R s m args meth c D Hs cX4_yearly "MassclaimModel" 4 (some .long) [] 4 64)  : ∀ (n : Nat) (x0 : Nat) (x1 : Int64) (x3 : Int32) (h : Hp) (H : Heap) (locs : List Loc) (cells slots : Nat) (ls : Array Slot), HP D Hs h H → LO Hs locs → lv_has ls 4 [(0, rv x0), (1, .long x1), (3, .int x3)] → f_X4_yearly_4 n x0 x1 x3 h = some rr → W p l e R s m args below meth c H locs cells slots (ZM D Hs iL rr below args s) (F0 m 4 ls []) := by
  obtain ⟨⟨hx, hb, hml, hown, hts⟩, -⟩ := id C
  have hl9 := C.2.1.2.2.1
  intro n
  induction n with
  | zero =>
    intro x0 x1 x3 h H locs cells slots ls hH hL hl hrun
    cases (show (none : Option _) = some rr from hrun)
  | succ n ih =>
    intro x0 x1 x3 h H locs cells slots ls hH hL hl hrun
    rw [f_X4_yearly_4] at hrun
    refine lv_iload_n (pc := 4) hx hb dX4_yearly_4 rfl (lv_at hl 2 rfl) ?_
    refine V_aload_n (pc := 5) hx hb dX4_yearly_5 rfl (lv_at hl 0 rfl) ?_
    obtain ⟨c1, hrun⟩ := gd_some hrun
    refine V_getR (pc := 6) C hH fr_X4_150 dX4_yearly_6 c1 rfl ?_
    obtain ⟨c4, hrun⟩ := gd_some hrun
    refine V_bd (pc := 9) C hL rfl hrun (fun rr1 e1 => Z_runV (rest := [.int x3]) C hH (m_J2_size hl9 e1) wV_X4_94 c4 rfl (by decide) rfl rfl ⟨by decide, by decide⟩ rfl (Nat.le_of_ble_eq_true rfl) hl.1 dX4_yearly_9) (fun v2 h3 H locs cells slots hH hL hrun => ?_)
    refine lv_icmp_ge (tgt := 38) (pc := 12) hx hb dX4_yearly_12 (by decide) (fun c_ => ?_) (fun c_ => ?_)
    · have hrun := ite_t hrun c_
      refine lv_lload_n (pc := 38) hx hb dX4_yearly_38 rfl (lv_at hl 1 rfl) ?_
      exact V_lret (pc := 39) C hH hL hrun dX4_yearly_39
    · have hrun := ite_f hrun c_
      refine lv_lload_n (pc := 15) hx hb dX4_yearly_15 rfl (lv_at hl 1 rfl) ?_
      refine V_aload_n (pc := 16) hx hb dX4_yearly_16 rfl (lv_at hl 0 rfl) ?_
      obtain ⟨c5, hrun⟩ := gd_some hrun
      refine V_getR (pc := 17) C hH fr_X4_150 dX4_yearly_17 c5 rfl ?_
      refine lv_iload_n (pc := 20) hx hb dX4_yearly_20 rfl (lv_at hl 2 rfl) ?_
      obtain ⟨c8, hrun⟩ := gd_some hrun
      refine V_bd (pc := 21) C hL rfl hrun (fun rr1 e1 => Z_runV (rest := [.long x1]) C hH (m_J2_get hl9 e1) wV_X4_108 c8 rfl (by decide) rfl rfl ⟨by decide, by decide⟩ rfl (Nat.le_of_ble_eq_true rfl) hl.1 dX4_yearly_21) (fun v6 h7 H locs cells slots hH hL hrun => ?_)
      obtain ⟨c9, hrun⟩ := gd_some hrun
      refine V_castX (pc := 24) (ci := 14) C hH rfl (by decide) q1971 dX4_yearly_24 c9 ?_
      obtain ⟨c10, hrun⟩ := gd_some hrun
      refine V_getL (pc := 27) C hH fr_X4_164 dX4_yearly_27 c10 rfl ?_
      refine lv_ladd (pc := 30) hx hb dX4_yearly_30 ?_
      refine lv_topl (fun v11 ev11 => ?_)
      have hrun := vl_at hrun v11 ev11
      refine lv_lstore_n (i := 1) (lv' := [(1, .long v11), (0, rv x0), (3, .int x3)]) (pc := 31) hx hb dX4_yearly_31 rfl hl (by decide) (by simp [rv_cat, cat_i, cat_l, cat_f, cat_d]) (fun ls hl => ?_)
      obtain ⟨v12, ev12⟩ : ∃ y : Int32, y = x3 + (1 : Int32) := ⟨_, rfl⟩
      have hrun := vl_at hrun v12 ev12
      refine lv_iinc (v := v12) (lv' := [(3, .int v12), (1, .long v11), (0, rv x0)]) (pc := 32) hx hb dX4_yearly_32 hl (k := 2) rfl (by rw [ev12]; rfl) (by decide) (by first | rfl | simp [rv_cat, cat_i, cat_l, cat_f, cat_d]) (fun ls hl => ?_)
      refine lv_goto (tgt := 4) (pc := 35) hx hb dX4_yearly_35 (by decide) ?_
      exact ih x0 v11 v12 h7 H locs cells slots ls hH hL (lv_sub hl [2, 1, 0] rfl) hrun

theorem b_X4_yearly {rr : (Int64 ⊕ Ex) × Hp}  (C : CX p l R s m args meth c D Hs cX4_yearly "MassclaimModel" 4 (some .long) [] 4 64)  : ∀ (x0 : Nat) (h : Hp) (H : Heap) (locs : List Loc) (cells slots : Nat) (ls : Array Slot), HP D Hs h H → LO Hs locs → lv_has ls 4 [(0, rv x0)] → f_X4_yearly x0 h = some rr → W p l e R s m args below meth c H locs cells slots (ZM D Hs iL rr below args s) (F0 m 0 ls []) := by
  obtain ⟨⟨hx, hb, hml, hown, hts⟩, -⟩ := id C
  have hl9 := C.2.1.2.2.1
  intro x0 h H locs cells slots ls hH hL hl hrun
  unfold f_X4_yearly at hrun
  refine lv_lconst (v := (0 : Int64)) (pc := 0) hx hb dX4_yearly_0 (by decide) ?_
  refine lv_lstore_n (i := 1) (lv' := [(1, .long (0 : Int64)), (0, rv x0)]) (pc := 1) hx hb dX4_yearly_1 rfl hl (by decide) (by simp [rv_cat, cat_i, cat_l, cat_f, cat_d]) (fun ls hl => ?_)
  refine lv_iconst (v := (0 : Int32)) (pc := 2) hx hb dX4_yearly_2 (by decide) ?_
  refine lv_istore_n (i := 3) (lv' := [(3, .int (0 : Int32)), (1, .long (0 : Int64)), (0, rv x0)]) (pc := 3) hx hb dX4_yearly_3 rfl hl (by decide) rfl (fun ls hl => ?_)
  exact b_X4_yearly_4 C FU x0 (0 : Int64) (0 : Int32) h H locs cells slots ls hH hL (lv_sub hl [2, 1, 0] rfl) hrun

theorem m_X4_yearly {l : Launch} {D : va_G} {Hs : Heap} {h : Hp} {rr : (Int64 ⊕ Ex) × Hp} (hl9 : l.stackTraces = false) {x0 : Nat} (hrun : f_X4_yearly x0 h = some rr) : CM l yX4_yearly (ws_ yX4_yearly cX4_yearly 4 (some .long)) 4 64 iL [rv x0] D Hs h rr := by
  refine CM.of (lv := [(0, rv x0)]) (plainFor_of_name (by decide)) hl9 (by simp [lv_args, rv_cat, cat_i, cat_l, cat_f, cat_d]) (by simp [lg_sl, rv_cat, cat_i, cat_l, cat_f, cat_d]) ?_
  intro p e R s m args below meth c H ls C hH hl hin
  exact b_X4_yearly C x0 _ H [] _ _ ls hH (fun _ q => nomatch q) (lv_sub hl [0] rfl) hrun

/-! MassclaimModel.toHeirs(LMassclaimModel$Person;J)V -/
def f_X4_toHeirs_11  : Nat → Nat → Int64 → Int64 → Int32 → Hp → Rt Unit
  | 0, _, _, _, _, _ => none
  | n + 1, x0, x1, x3, x5, h => gd (kC h x0 = 6) <| if (kI h 506 x0) ≤ x5 then
  (gd (kC h (kR h 507 x0) = 102 ∧ ixo (0 : Int32) (kN h (kR h 507 x0))) <| gd (kC h (kR h 507 x0) = 102 ∧ ixo (0 : Int32) (kN h (kR h 507 x0))) <| vl (tL h (kR h 507 x0) ((0 : Int32)).toNatClampNeg ((jL h (kR h 507 x0) ((0 : Int32)).toNatClampNeg) + (x1 - (x3 * ((kI h 506 x0).toInt64))))) fun h4 => gd (kC h4 x0 = 6) <| vl (sL h4 518 x0 ((kL h4 518 x0) + x1)) fun h6 => some (.inl (), h6))
  else
  (gd (kC h (kR h 507 x0) = 102 ∧ ixo x5 (kN h (kR h 507 x0))) <| gd (kC h (kR h 507 x0) = 102 ∧ ixo x5 (kN h (kR h 507 x0))) <| vl (tL h (kR h 507 x0) (x5).toNatClampNeg ((jL h (kR h 507 x0) (x5).toNatClampNeg) + x3)) fun h9 => vl (x5 + (1 : Int32)) fun v10 => f_X4_toHeirs_11 n x0 x1 x3 v10 h9)
def f_X4_toHeirs  (x0 : Nat) (x1 : Int64) (h : Hp) : Rt Unit :=
  gd (kC h x0 = 6) <| gd (¬ ((kI h 506 x0).toInt64) = 0) <| vl (x1 / ((kI h 506 x0).toInt64)) fun v13 => f_X4_toHeirs_11 FU x0 x1 v13 (0 : Int32) h
theorem b_X4_toHeirs_11 {rr : (Unit ⊕ Ex) × Hp}  (C : CX p l R s m args meth c D Hs cX4_toHeirs "MassclaimModel" 6 none [] 1 0)  : ∀ (n : Nat) (x0 : Nat) (x1 : Int64) (x3 : Int64) (x5 : Int32) (h : Hp) (H : Heap) (locs : List Loc) (cells slots : Nat) (ls : Array Slot), HP D Hs h H → LO Hs locs → lv_has ls 6 [(0, rv x0), (1, .long x1), (3, .long x3), (5, .int x5)] → f_X4_toHeirs_11 n x0 x1 x3 x5 h = some rr → W p l e R s m args below meth c H locs cells slots (ZM D Hs iV rr below args s) (F0 m 11 ls []) := by
  obtain ⟨⟨hx, hb, hml, hown, hts⟩, -⟩ := id C
  have hl9 := C.2.1.2.2.1
  intro n
  induction n with
  | zero =>
    intro x0 x1 x3 x5 h H locs cells slots ls hH hL hl hrun
    cases (show (none : Option _) = some rr from hrun)
  | succ n ih =>
    intro x0 x1 x3 x5 h H locs cells slots ls hH hL hl hrun
    rw [f_X4_toHeirs_11] at hrun
    refine lv_iload (pc := 11) hx hb dX4_toHeirs_11 (lv_at hl 3 rfl) ?_
    refine V_aload_n (pc := 13) hx hb dX4_toHeirs_13 rfl (lv_at hl 0 rfl) ?_
    obtain ⟨c1, hrun⟩ := gd_some hrun
    refine V_getI (pc := 14) C hH fr_X4_199 dX4_toHeirs_14 c1 rfl ?_
    refine lv_icmp_ge (tgt := 37) (pc := 17) hx hb dX4_toHeirs_17 (by decide) (fun c_ => ?_) (fun c_ => ?_)
    · have hrun := ite_t hrun c_
      refine V_aload_n (pc := 37) hx hb dX4_toHeirs_37 rfl (lv_at hl 0 rfl) ?_
      refine V_getR (pc := 38) C hH fr_X4_210 dX4_toHeirs_38 c1 rfl ?_
      refine lv_iconst (v := (0 : Int32)) (pc := 41) hx hb dX4_toHeirs_41 (by decide) ?_
      refine lv_dup2_11 (pc := 42) hx hb dX4_toHeirs_42 rfl (rv_cat _) ?_
      obtain ⟨c2, hrun⟩ := gd_some hrun
      refine V_lald (pc := 43) C hH dX4_toHeirs_43 c2 ?_
      refine lv_lload_n (pc := 44) hx hb dX4_toHeirs_44 rfl (lv_at hl 1 rfl) ?_
      refine lv_lload_n (pc := 45) hx hb dX4_toHeirs_45 rfl (lv_at hl 2 rfl) ?_
      refine V_aload_n (pc := 46) hx hb dX4_toHeirs_46 rfl (lv_at hl 0 rfl) ?_
      refine V_getI (pc := 47) C hH fr_X4_199 dX4_toHeirs_47 c1 rfl ?_
      refine lv_i2l (pc := 50) hx hb dX4_toHeirs_50 rfl ?_
      refine lv_lmul (pc := 51) hx hb dX4_toHeirs_51 ?_
      refine lv_lsub (pc := 52) hx hb dX4_toHeirs_52 ?_
      refine lv_ladd (pc := 53) hx hb dX4_toHeirs_53 ?_
      obtain ⟨c3, hrun⟩ := gd_some hrun
      refine V_last (pc := 54) C hH hL dX4_toHeirs_54 c3 hrun (fun h4 H locs hH hL hrun => ?_)
      refine V_aload_n (pc := 55) hx hb dX4_toHeirs_55 rfl (lv_at hl 0 rfl) ?_
      refine lv_dup (pc := 56) hx hb dX4_toHeirs_56 (rv_cat _) ?_
      obtain ⟨c5, hrun⟩ := gd_some hrun
      refine V_getL (pc := 57) C hH fr_X4_147 dX4_toHeirs_57 c5 rfl ?_
      refine lv_lload_n (pc := 60) hx hb dX4_toHeirs_60 rfl (lv_at hl 1 rfl) ?_
      refine lv_ladd (pc := 61) hx hb dX4_toHeirs_61 ?_
      refine V_putL (pc := 62) C hH hL fl_X4_147 dX4_toHeirs_62 c5 (fok_l _) rfl (fun q => Bool.noConfusion q) hrun (fun h6 H locs hH hL hrun => ?_)
      exact V_vret (pc := 65) C hH hL hrun dX4_toHeirs_65
    · have hrun := ite_f hrun c_
      refine V_aload_n (pc := 20) hx hb dX4_toHeirs_20 rfl (lv_at hl 0 rfl) ?_
      refine V_getR (pc := 21) C hH fr_X4_210 dX4_toHeirs_21 c1 rfl ?_
      refine lv_iload (pc := 24) hx hb dX4_toHeirs_24 (lv_at hl 3 rfl) ?_
      refine lv_dup2_11 (pc := 26) hx hb dX4_toHeirs_26 rfl (rv_cat _) ?_
      obtain ⟨c7, hrun⟩ := gd_some hrun
      refine V_lald (pc := 27) C hH dX4_toHeirs_27 c7 ?_
      refine lv_lload_n (pc := 28) hx hb dX4_toHeirs_28 rfl (lv_at hl 2 rfl) ?_
      refine lv_ladd (pc := 29) hx hb dX4_toHeirs_29 ?_
      obtain ⟨c8, hrun⟩ := gd_some hrun
      refine V_last (pc := 30) C hH hL dX4_toHeirs_30 c8 hrun (fun h9 H locs hH hL hrun => ?_)
      obtain ⟨v10, ev10⟩ : ∃ y : Int32, y = x5 + (1 : Int32) := ⟨_, rfl⟩
      have hrun := vl_at hrun v10 ev10
      refine lv_iinc (v := v10) (lv' := [(5, .int v10), (0, rv x0), (1, .long x1), (3, .long x3)]) (pc := 31) hx hb dX4_toHeirs_31 hl (k := 3) rfl (by rw [ev10]; rfl) (by decide) (by first | rfl | simp [rv_cat, cat_i, cat_l, cat_f, cat_d]) (fun ls hl => ?_)
      refine lv_goto (tgt := 11) (pc := 34) hx hb dX4_toHeirs_34 (by decide) ?_
      exact ih x0 x1 x3 v10 h9 H locs cells slots ls hH hL (lv_sub hl [1, 2, 3, 0] rfl) hrun

theorem b_X4_toHeirs {rr : (Unit ⊕ Ex) × Hp}  (C : CX p l R s m args meth c D Hs cX4_toHeirs "MassclaimModel" 6 none [] 1 0)  : ∀ (x0 : Nat) (x1 : Int64) (h : Hp) (H : Heap) (locs : List Loc) (cells slots : Nat) (ls : Array Slot), HP D Hs h H → LO Hs locs → lv_has ls 6 [(0, rv x0), (1, .long x1)] → f_X4_toHeirs x0 x1 h = some rr → W p l e R s m args below meth c H locs cells slots (ZM D Hs iV rr below args s) (F0 m 0 ls []) := by
  obtain ⟨⟨hx, hb, hml, hown, hts⟩, -⟩ := id C
  have hl9 := C.2.1.2.2.1
  intro x0 x1 h H locs cells slots ls hH hL hl hrun
  unfold f_X4_toHeirs at hrun
  refine lv_lload_n (pc := 0) hx hb dX4_toHeirs_0 rfl (lv_at hl 1 rfl) ?_
  refine V_aload_n (pc := 1) hx hb dX4_toHeirs_1 rfl (lv_at hl 0 rfl) ?_
  obtain ⟨c11, hrun⟩ := gd_some hrun
  refine V_getI (pc := 2) C hH fr_X4_199 dX4_toHeirs_2 c11 rfl ?_
  refine lv_i2l (pc := 5) hx hb dX4_toHeirs_5 rfl ?_
  obtain ⟨c12, hrun⟩ := gd_some hrun
  refine lv_ldiv (pc := 6) hx hb dX4_toHeirs_6 c12 ?_
  refine lv_topl (fun v13 ev13 => ?_)
  have hrun := vl_at hrun v13 ev13
  refine lv_lstore_n (i := 3) (lv' := [(3, .long v13), (0, rv x0), (1, .long x1)]) (pc := 7) hx hb dX4_toHeirs_7 rfl hl (by decide) rfl (fun ls hl => ?_)
  refine lv_iconst (v := (0 : Int32)) (pc := 8) hx hb dX4_toHeirs_8 (by decide) ?_
  refine lv_istore (i := 5) (lv' := [(5, .int (0 : Int32)), (3, .long v13), (0, rv x0), (1, .long x1)]) (pc := 9) hx hb dX4_toHeirs_9 hl (by decide) rfl (fun ls hl => ?_)
  exact b_X4_toHeirs_11 C FU x0 x1 v13 (0 : Int32) h H locs cells slots ls hH hL (lv_sub hl [2, 3, 1, 0] rfl) hrun

theorem m_X4_toHeirs {l : Launch} {D : va_G} {Hs : Heap} {h : Hp} {rr : (Unit ⊕ Ex) × Hp} (hl9 : l.stackTraces = false) {x0 : Nat} {x1 : Int64} (hrun : f_X4_toHeirs x0 x1 h = some rr) : CM l yX4_toHeirs (ws_ yX4_toHeirs cX4_toHeirs 6 none) 1 0 iV [rv x0, .long x1] D Hs h rr := by
  refine CM.of (lv := [(0, rv x0), (1, .long x1)]) (plainFor_of_name (by decide)) hl9 (by simp [lv_args, rv_cat, cat_i, cat_l, cat_f, cat_d]) (by simp [lg_sl, rv_cat, cat_i, cat_l, cat_f, cat_d]) ?_
  intro p e R s m args below meth c H ls C hH hl hin
  exact b_X4_toHeirs C x0 x1 _ H [] _ _ ls hH (fun _ q => nomatch q) (lv_sub hl [0, 1] rfl) hrun

/-! MassclaimModel.die(II)J -/
def f_X4_die_52  (h : Hp) : Rt Int64 :=
  some (.inl (0 : Int64), h)
def f_X4_die  (x0 : Nat) (x1 : Int32) (x2 : Int32) (h : Hp) : Rt Int64 :=
  gd (kC h x0 = 4) <| bd (f_X4_isPerson x0 x1 h) fun v1 h2 => gd (kC h2 x0 = 4) <| bd (f_X4_isGood x0 v1 (1 : Int32) h2) fun v4 h5 => if v4 = 0 then
  (f_X4_die_52  h5)
  else
  (bd (f_X4_isWithin (x2.toInt64) (1 : Int64) (3 : Int64) h5) fun v7 h8 => gd (kC h8 x0 = 4) <| bd (f_X4_isGood x0 v7 (2 : Int32) h8) fun v9 h10 => if v9 = 0 then
  (f_X4_die_52  h10)
  else
  (gd (kC h10 x0 = 4) <| gd (kC h10 (kR h10 302 x0) = 18) <| bd (f_J2_get (kR h10 302 x0) x1 h10) fun v13 h14 => gd (v13 = 0 ∨ kC h14 v13 = 6) <| gd (kC h14 v13 = 6) <| bd (f_X6_lives v13 h14) fun v17 h18 => gd (kC h18 x0 = 4) <| bd (f_X4_isGood x0 v17 (3 : Int32) h18) fun v20 h21 => if v20 = 0 then
  (f_X4_die_52  h21)
  else
  (gd (kC h21 x0 = 4) <| gd (kC h21 (kR h21 302 x0) = 18) <| bd (f_J2_get (kR h21 302 x0) x1 h21) fun v24 h25 => gd (v24 = 0 ∨ kC h25 v24 = 6) <| gd (kC h25 v24 = 6) <| vl (sI h25 506 v24 x2) fun h29 => gd (kC h29 v24 = 6) <| bd (f_X4_yearly v24 h29) fun v31 h32 => vl ((kL h29 519 v24) + v31) fun v33 => gd (kC h32 v24 = 6) <| vl (sL h32 519 v24 (0 : Int64)) fun h35 => gd (kC h35 v24 = 6) <| gd (kC h35 (kR h35 521 v24) = 18) <| bd (f_J2_clear (kR h35 521 v24) h35) fun _ h38 => bd (f_X4_toHeirs v24 v33 h38) fun _ h41 => some (.inl v33, h41))))
theorem b_X4_die_52 {rr : (Int64 ⊕ Ex) × Hp}  (C : CX p l R s m args meth c D Hs cX4_die "MassclaimModel" 6 (some .long) [] 5 87)  : ∀ (h : Hp) (H : Heap) (locs : List Loc) (cells slots : Nat) (ls : Array Slot), HP D Hs h H → LO Hs locs → lv_has ls 6 [] → f_X4_die_52 h = some rr → W p l e R s m args below meth c H locs cells slots (ZM D Hs iL rr below args s) (F0 m 52 ls []) := by
  obtain ⟨⟨hx, hb, hml, hown, hts⟩, -⟩ := id C
  have hl9 := C.2.1.2.2.1
  intro h H locs cells slots ls hH hL hl hrun
  unfold f_X4_die_52 at hrun
  refine lv_lconst (v := (0 : Int64)) (pc := 52) hx hb dX4_die_52 (by decide) ?_
  exact V_lret (pc := 53) C hH hL hrun dX4_die_53

theorem b_X4_die {rr : (Int64 ⊕ Ex) × Hp}  (C : CX p l R s m args meth c D Hs cX4_die "MassclaimModel" 6 (some .long) [] 5 87)  : ∀ (x0 : Nat) (x1 : Int32) (x2 : Int32) (h : Hp) (H : Heap) (locs : List Loc) (cells slots : Nat) (ls : Array Slot), HP D Hs h H → LO Hs locs → lv_has ls 6 [(0, rv x0), (1, .int x1), (2, .int x2)] → f_X4_die x0 x1 x2 h = some rr → W p l e R s m args below meth c H locs cells slots (ZM D Hs iL rr below args s) (F0 m 0 ls []) := by
  obtain ⟨⟨hx, hb, hml, hown, hts⟩, -⟩ := id C
  have hl9 := C.2.1.2.2.1
  intro x0 x1 x2 h H locs cells slots ls hH hL hl hrun
  unfold f_X4_die at hrun
  refine V_aload_n (pc := 0) hx hb dX4_die_0 rfl (lv_at hl 0 rfl) ?_
  refine V_aload_n (pc := 1) hx hb dX4_die_1 rfl (lv_at hl 0 rfl) ?_
  refine lv_iload_n (pc := 2) hx hb dX4_die_2 rfl (lv_at hl 1 rfl) ?_
  obtain ⟨c3, hrun⟩ := gd_some hrun
  refine V_bd (pc := 3) C hL rfl hrun (fun rr1 e1 => Z_runV (rest := [rv x0]) C hH (m_X4_isPerson hl9 e1) wV_X4_190 c3 rfl (by decide) rfl rfl ⟨by decide, by decide⟩ rfl (by simp [csum, rv_cat, cat_i, cat_l, cat_f, cat_d]) hl.1 dX4_die_3) (fun v1 h2 H locs cells slots hH hL hrun => ?_)
  refine lv_iconst (v := (1 : Int32)) (pc := 6) hx hb dX4_die_6 (by decide) ?_
  obtain ⟨c6, hrun⟩ := gd_some hrun
  refine V_bd (pc := 7) C hL rfl hrun (fun rr1 e1 => Z_runV (rest := []) C hH (m_X4_isGood hl9 e1) wV_X4_104 c6 rfl (by decide) rfl rfl ⟨by decide, by decide⟩ rfl (Nat.le_of_ble_eq_true rfl) hl.1 dX4_die_7) (fun v4 h5 H locs cells slots hH hL hrun => ?_)
  refine lv_if_eq (tgt := 52) (pc := 10) hx hb dX4_die_10 (by decide) (fun c_ => ?_) (fun c_ => ?_)
  · have hrun := ite_t hrun c_
    exact b_X4_die_52 C h5 H locs cells slots ls hH hL (lv_sub hl [] rfl) hrun
  · have hrun := ite_f hrun c_
    refine V_aload_n (pc := 13) hx hb dX4_die_13 rfl (lv_at hl 0 rfl) ?_
    refine lv_iload_n (pc := 14) hx hb dX4_die_14 rfl (lv_at hl 2 rfl) ?_
    refine lv_i2l (pc := 15) hx hb dX4_die_15 rfl ?_
    refine lv_lconst (v := (1 : Int64)) (pc := 16) hx hb dX4_die_16 (by decide) ?_
    refine lv_ldc2 (pc := 17) hx hb hown (hts _ q1978) dX4_die_17 ?_
    refine V_bd (pc := 20) C hL rfl hrun (fun rr1 e1 => Z_runS (rest := [rv x0]) C hH (m_X4_isWithin hl9 e1) wS_X4_100 rfl ⟨by decide, by decide⟩ rfl (by simp [csum, rv_cat, cat_i, cat_l, cat_f, cat_d]) hl.1 dX4_die_20) (fun v7 h8 H locs cells slots hH hL hrun => ?_)
    refine lv_iconst (v := (2 : Int32)) (pc := 23) hx hb dX4_die_23 (by decide) ?_
    obtain ⟨c11, hrun⟩ := gd_some hrun
    refine V_bd (pc := 24) C hL rfl hrun (fun rr1 e1 => Z_runV (rest := []) C hH (m_X4_isGood hl9 e1) wV_X4_104 c11 rfl (by decide) rfl rfl ⟨by decide, by decide⟩ rfl (Nat.le_of_ble_eq_true rfl) hl.1 dX4_die_24) (fun v9 h10 H locs cells slots hH hL hrun => ?_)
    refine lv_if_eq (tgt := 52) (pc := 27) hx hb dX4_die_27 (by decide) (fun c_ => ?_) (fun c_ => ?_)
    · have hrun := ite_t hrun c_
      exact b_X4_die_52 C h10 H locs cells slots ls hH hL (lv_sub hl [] rfl) hrun
    · have hrun := ite_f hrun c_
      refine V_aload_n (pc := 30) hx hb dX4_die_30 rfl (lv_at hl 0 rfl) ?_
      refine V_aload_n (pc := 31) hx hb dX4_die_31 rfl (lv_at hl 0 rfl) ?_
      obtain ⟨c12, hrun⟩ := gd_some hrun
      refine V_getR (pc := 32) C hH fr_X4_16 dX4_die_32 c12 rfl ?_
      refine lv_iload_n (pc := 35) hx hb dX4_die_35 rfl (lv_at hl 1 rfl) ?_
      obtain ⟨c15, hrun⟩ := gd_some hrun
      refine V_bd (pc := 36) C hL rfl hrun (fun rr1 e1 => Z_runV (rest := [rv x0]) C hH (m_J2_get hl9 e1) wV_X4_108 c15 rfl (by decide) rfl rfl ⟨by decide, by decide⟩ rfl (by simp [csum, rv_cat, cat_i, cat_l, cat_f, cat_d]) hl.1 dX4_die_36) (fun v13 h14 H locs cells slots hH hL hrun => ?_)
      obtain ⟨c16, hrun⟩ := gd_some hrun
      refine V_castX (pc := 39) (ci := 5) C hH rfl (by decide) q1946 dX4_die_39 c16 ?_
      obtain ⟨c19, hrun⟩ := gd_some hrun
      refine V_bd (pc := 42) C hL rfl hrun (fun rr1 e1 => Z_runV (rest := [rv x0]) C hH (m_X6_lives hl9 e1) wV_X4_136 c19 rfl (by decide) rfl rfl ⟨by decide, by decide⟩ rfl (by simp [csum, rv_cat, cat_i, cat_l, cat_f, cat_d]) hl.1 dX4_die_42) (fun v17 h18 H locs cells slots hH hL hrun => ?_)
      refine lv_iconst (v := (3 : Int32)) (pc := 45) hx hb dX4_die_45 (by decide) ?_
      obtain ⟨c22, hrun⟩ := gd_some hrun
      refine V_bd (pc := 46) C hL rfl hrun (fun rr1 e1 => Z_runV (rest := []) C hH (m_X4_isGood hl9 e1) wV_X4_104 c22 rfl (by decide) rfl rfl ⟨by decide, by decide⟩ rfl (Nat.le_of_ble_eq_true rfl) hl.1 dX4_die_46) (fun v20 h21 H locs cells slots hH hL hrun => ?_)
      refine lv_if_ne (tgt := 54) (pc := 49) hx hb dX4_die_49 (by decide) (fun c_ => ?_) (fun c_ => ?_)
      · have hrun := ite_f hrun c_
        refine V_aload_n (pc := 54) hx hb dX4_die_54 rfl (lv_at hl 0 rfl) ?_
        obtain ⟨c23, hrun⟩ := gd_some hrun
        refine V_getR (pc := 55) C hH fr_X4_16 dX4_die_55 c23 rfl ?_
        refine lv_iload_n (pc := 58) hx hb dX4_die_58 rfl (lv_at hl 1 rfl) ?_
        obtain ⟨c26, hrun⟩ := gd_some hrun
        refine V_bd (pc := 59) C hL rfl hrun (fun rr1 e1 => Z_runV (rest := []) C hH (m_J2_get hl9 e1) wV_X4_108 c26 rfl (by decide) rfl rfl ⟨by decide, by decide⟩ rfl (Nat.le_of_ble_eq_true rfl) hl.1 dX4_die_59) (fun v24 h25 H locs cells slots hH hL hrun => ?_)
        obtain ⟨c27, hrun⟩ := gd_some hrun
        refine V_castX (pc := 62) (ci := 5) C hH rfl (by decide) q1946 dX4_die_62 c27 ?_
        refine V_astore_n (i := 3) (lv' := [(3, rv v24), (0, rv x0), (1, .int x1), (2, .int x2)]) (pc := 65) hx hb dX4_die_65 rfl hl (by decide) rfl (fun ls hl => ?_)
        refine V_aload_n (pc := 66) hx hb dX4_die_66 rfl (lv_at hl 0 rfl) ?_
        refine lv_iload_n (pc := 67) hx hb dX4_die_67 rfl (lv_at hl 3 rfl) ?_
        obtain ⟨c28, hrun⟩ := gd_some hrun
        refine V_putI (pc := 68) C hH hL fl_X4_199 dX4_die_68 c28 (fok_i _) rfl (fun q => Bool.noConfusion q) hrun (fun h29 H locs hH hL hrun => ?_)
        refine V_aload_n (pc := 71) hx hb dX4_die_71 rfl (lv_at hl 0 rfl) ?_
        obtain ⟨c30, hrun⟩ := gd_some hrun
        refine V_getL (pc := 72) C hH fr_X4_140 dX4_die_72 c30 rfl ?_
        refine V_aload_n (pc := 75) hx hb dX4_die_75 rfl (lv_at hl 0 rfl) ?_
        refine V_bd (pc := 76) C hL rfl hrun (fun rr1 e1 => Z_runS (rest := [.long (kL h29 519 v24)]) C hH (m_X4_yearly hl9 e1) wS_X4_202 rfl ⟨by decide, by decide⟩ rfl (Nat.le_of_ble_eq_true rfl) hl.1 dX4_die_76) (fun v31 h32 H locs cells slots hH hL hrun => ?_)
        refine lv_ladd (pc := 79) hx hb dX4_die_79 ?_
        refine lv_topl (fun v33 ev33 => ?_)
        have hrun := vl_at hrun v33 ev33
        refine lv_lstore (i := 4) (lv' := [(4, .long v33), (3, rv v24), (0, rv x0), (1, .int x1), (2, .int x2)]) (pc := 80) hx hb dX4_die_80 hl (by decide) (by simp [rv_cat, cat_i, cat_l, cat_f, cat_d]) (fun ls hl => ?_)
        refine V_aload_n (pc := 82) hx hb dX4_die_82 rfl (lv_at hl 1 rfl) ?_
        refine lv_lconst (v := (0 : Int64)) (pc := 83) hx hb dX4_die_83 (by decide) ?_
        obtain ⟨c34, hrun⟩ := gd_some hrun
        refine V_putL (pc := 84) C hH hL fl_X4_140 dX4_die_84 c34 (fok_l _) rfl (fun q => Bool.noConfusion q) hrun (fun h35 H locs hH hL hrun => ?_)
        refine V_aload_n (pc := 87) hx hb dX4_die_87 rfl (lv_at hl 1 rfl) ?_
        obtain ⟨c36, hrun⟩ := gd_some hrun
        refine V_getR (pc := 88) C hH fr_X4_150 dX4_die_88 c36 rfl ?_
        obtain ⟨c39, hrun⟩ := gd_some hrun
        refine V_bd (pc := 91) C hL rfl hrun (fun rr1 e1 => Z_runV (rest := []) C hH (m_J2_clear hl9 e1) wV_X4_46 c39 rfl (by decide) rfl rfl ⟨by decide, by decide⟩ rfl (Nat.le_of_ble_eq_true rfl) hl.1 dX4_die_91) (fun _ h38 H locs cells slots hH hL hrun => ?_)
        refine V_aload_n (pc := 94) hx hb dX4_die_94 rfl (lv_at hl 1 rfl) ?_
        refine lv_lload (pc := 95) hx hb dX4_die_95 (lv_at hl 0 rfl) ?_
        refine V_bd (pc := 97) C hL rfl hrun (fun rr1 e1 => Z_runS (rest := []) C hH (m_X4_toHeirs hl9 e1) wS_X4_206 rfl ⟨by decide, by decide⟩ rfl (Nat.le_of_ble_eq_true rfl) hl.1 dX4_die_97) (fun _ h41 H locs cells slots hH hL hrun => ?_)
        refine lv_lload (pc := 100) hx hb dX4_die_100 (lv_at hl 0 rfl) ?_
        exact V_lret (pc := 102) C hH hL hrun dX4_die_102
      · have hrun := ite_t hrun c_
        exact b_X4_die_52 C h21 H locs cells slots ls hH hL (lv_sub hl [] rfl) hrun

theorem m_X4_die {l : Launch} {D : va_G} {Hs : Heap} {h : Hp} {rr : (Int64 ⊕ Ex) × Hp} (hl9 : l.stackTraces = false) {x0 : Nat} {x1 : Int32} {x2 : Int32} (hrun : f_X4_die x0 x1 x2 h = some rr) : CM l yX4_die (ws_ yX4_die cX4_die 6 (some .long)) 5 87 iL [rv x0, .int x1, .int x2] D Hs h rr := by
  refine CM.of (lv := [(0, rv x0), (1, .int x1), (2, .int x2)]) (plainFor_of_name (by decide)) hl9 (by simp [lv_args, rv_cat, cat_i, cat_l, cat_f, cat_d]) (by simp [lg_sl, rv_cat, cat_i, cat_l, cat_f, cat_d]) ?_
  intro p e R s m args below meth c H ls C hH hl hin
  exact b_X4_die C x0 x1 x2 _ H [] _ _ ls hH (fun _ q => nomatch q) (lv_sub hl [0, 1, 2] rfl) hrun

/-! Massclaim.stage()I -/
def f_X1_stage_18  (y0 : Int32) (h : Hp) : Rt Int32 :=
  some (.inl y0, h)
def f_X1_stage  (x0 : Nat) (h : Hp) : Rt Int32 :=
  gd (kC h x0 = 1) <| if (kR h 9 x0) = 0 then
  (f_X1_stage_18 (0 : Int32) h)
  else
  (gd (kC h (kR h 9 x0) = 10) <| f_X1_stage_18 (kI h 903 (kR h 9 x0)) h)
theorem b_X1_stage_18 {rr : (Int32 ⊕ Ex) × Hp}  (C : CX p l R s m args meth c D Hs cX1_stage "Massclaim" 1 (some .int) [] 1 0)  : ∀ (y0 : Int32) (h : Hp) (H : Heap) (locs : List Loc) (cells slots : Nat) (ls : Array Slot), HP D Hs h H → LO Hs locs → lv_has ls 1 [] → f_X1_stage_18 y0 h = some rr → W p l e R s m args below meth c H locs cells slots (ZM D Hs iI rr below args s) (F0 m 18 ls [.int y0]) := by
  obtain ⟨⟨hx, hb, hml, hown, hts⟩, -⟩ := id C
  have hl9 := C.2.1.2.2.1
  intro y0 h H locs cells slots ls hH hL hl hrun
  unfold f_X1_stage_18 at hrun
  exact V_iret (pc := 18) C hH hL hrun dX1_stage_18

theorem b_X1_stage {rr : (Int32 ⊕ Ex) × Hp}  (C : CX p l R s m args meth c D Hs cX1_stage "Massclaim" 1 (some .int) [] 1 0)  : ∀ (x0 : Nat) (h : Hp) (H : Heap) (locs : List Loc) (cells slots : Nat) (ls : Array Slot), HP D Hs h H → LO Hs locs → lv_has ls 1 [(0, rv x0)] → f_X1_stage x0 h = some rr → W p l e R s m args below meth c H locs cells slots (ZM D Hs iI rr below args s) (F0 m 0 ls []) := by
  obtain ⟨⟨hx, hb, hml, hown, hts⟩, -⟩ := id C
  have hl9 := C.2.1.2.2.1
  intro x0 h H locs cells slots ls hH hL hl hrun
  unfold f_X1_stage at hrun
  refine V_aload_n (pc := 0) hx hb dX1_stage_0 rfl (lv_at hl 0 rfl) ?_
  obtain ⟨c1, hrun⟩ := gd_some hrun
  refine V_getR (pc := 1) C hH fr_X1_84 dX1_stage_1 c1 rfl ?_
  refine V_ifnonnull (tgt := 11) (pc := 4) hx hb dX1_stage_4 (by decide) hrun (fun c_ hrun => ?_) (fun c_ hrun => ?_)
  · refine V_aload_n (pc := 11) hx hb dX1_stage_11 rfl (lv_at hl 0 rfl) ?_
    refine V_getR (pc := 12) C hH fr_X1_84 dX1_stage_12 c1 rfl ?_
    obtain ⟨c2, hrun⟩ := gd_some hrun
    refine V_getNI (pc := 15) C hH fn_X1_118 dX1_stage_15 c2 rfl ?_
    exact b_X1_stage_18 C (kI h 903 (kR h 9 x0)) h H locs cells slots ls hH hL (lv_sub hl [] rfl) hrun
  · refine lv_iconst (v := (0 : Int32)) (pc := 7) hx hb dX1_stage_7 (by decide) ?_
    refine lv_goto (tgt := 18) (pc := 8) hx hb dX1_stage_8 (by decide) ?_
    exact b_X1_stage_18 C (0 : Int32) h H locs cells slots ls hH hL (lv_sub hl [] rfl) hrun

theorem m_X1_stage {l : Launch} {D : va_G} {Hs : Heap} {h : Hp} {rr : (Int32 ⊕ Ex) × Hp} (hl9 : l.stackTraces = false) {x0 : Nat} (hrun : f_X1_stage x0 h = some rr) : CM l yX1_stage (ws_ yX1_stage cX1_stage 1 (some .int)) 1 0 iI [rv x0] D Hs h rr := by
  refine CM.of (lv := [(0, rv x0)]) (plainFor_of_name (by decide)) hl9 (by simp [lv_args, rv_cat, cat_i, cat_l, cat_f, cat_d]) (by simp [lg_sl, rv_cat, cat_i, cat_l, cat_f, cat_d]) ?_
  intro p e R s m args below meth c H ls C hH hl hin
  exact b_X1_stage C x0 _ H [] _ _ ls hH (fun _ q => nomatch q) (lv_sub hl [0] rfl) hrun
end WK2

section WK3
variable {p : Program} {l : Launch} {e : Env} {R : Room} {s : State} {m : MethodId} {args : Array Value} {below : List Frame} {meth : Method} {c : Code} {D : va_G} {Hs : Heap} {F X : Nat}
/-! Massclaim.isDone()Z -/
def f_X1_isDone_21  (y0 : Int32) (h : Hp) : Rt Int32 :=
  gd (b01 y0) <| some (.inl y0, h)
def f_X1_isDone_16  (h : Hp) : Rt Int32 :=
  f_X1_isDone_21 (1 : Int32) h
def f_X1_isDone  (x0 : Nat) (h : Hp) : Rt Int32 :=
  gd (kC h x0 = 1) <| bd (f_X1_stage x0 h) fun v2 h3 => if v2 = (3 : Int32) then
  (f_X1_isDone_16  h3)
  else
  (gd (kC h3 x0 = 1) <| bd (f_X1_stage x0 h3) fun v5 h6 => if v5 = (5 : Int32) then
  (f_X1_isDone_16  h6)
  else
  (f_X1_isDone_21 (0 : Int32) h6))
theorem b_X1_isDone_21 {rr : (Int32 ⊕ Ex) × Hp}  (C : CX p l R s m args meth c D Hs cX1_isDone "Massclaim" 1 (some .boolean) [] 2 20)  : ∀ (y0 : Int32) (h : Hp) (H : Heap) (locs : List Loc) (cells slots : Nat) (ls : Array Slot), HP D Hs h H → LO Hs locs → lv_has ls 1 [] → f_X1_isDone_21 y0 h = some rr → W p l e R s m args below meth c H locs cells slots (ZM D Hs iI rr below args s) (F0 m 21 ls [.int y0]) := by
  obtain ⟨⟨hx, hb, hml, hown, hts⟩, -⟩ := id C
  have hl9 := C.2.1.2.2.1
  intro y0 h H locs cells slots ls hH hL hl hrun
  unfold f_X1_isDone_21 at hrun
  obtain ⟨c1, hrun⟩ := gd_some hrun
  exact V_zret (pc := 21) C hH hL c1 hrun dX1_isDone_21

theorem b_X1_isDone_16 {rr : (Int32 ⊕ Ex) × Hp}  (C : CX p l R s m args meth c D Hs cX1_isDone "Massclaim" 1 (some .boolean) [] 2 20)  : ∀ (h : Hp) (H : Heap) (locs : List Loc) (cells slots : Nat) (ls : Array Slot), HP D Hs h H → LO Hs locs → lv_has ls 1 [] → f_X1_isDone_16 h = some rr → W p l e R s m args below meth c H locs cells slots (ZM D Hs iI rr below args s) (F0 m 16 ls []) := by
  obtain ⟨⟨hx, hb, hml, hown, hts⟩, -⟩ := id C
  have hl9 := C.2.1.2.2.1
  intro h H locs cells slots ls hH hL hl hrun
  unfold f_X1_isDone_16 at hrun
  refine lv_iconst (v := (1 : Int32)) (pc := 16) hx hb dX1_isDone_16 (by decide) ?_
  refine lv_goto (tgt := 21) (pc := 17) hx hb dX1_isDone_17 (by decide) ?_
  exact b_X1_isDone_21 C (1 : Int32) h H locs cells slots ls hH hL (lv_sub hl [] rfl) hrun

theorem b_X1_isDone {rr : (Int32 ⊕ Ex) × Hp}  (C : CX p l R s m args meth c D Hs cX1_isDone "Massclaim" 1 (some .boolean) [] 2 20)  : ∀ (x0 : Nat) (h : Hp) (H : Heap) (locs : List Loc) (cells slots : Nat) (ls : Array Slot), HP D Hs h H → LO Hs locs → lv_has ls 1 [(0, rv x0)] → f_X1_isDone x0 h = some rr → W p l e R s m args below meth c H locs cells slots (ZM D Hs iI rr below args s) (F0 m 0 ls []) := by
  obtain ⟨⟨hx, hb, hml, hown, hts⟩, -⟩ := id C
  have hl9 := C.2.1.2.2.1
  intro x0 h H locs cells slots ls hH hL hl hrun
  unfold f_X1_isDone at hrun
  refine V_aload_n (pc := 0) hx hb dX1_isDone_0 rfl (lv_at hl 0 rfl) ?_
  obtain ⟨c4, hrun⟩ := gd_some hrun
  refine V_bd (pc := 1) C hL rfl hrun (fun rr1 e1 => Z_runV (rest := []) C hH (m_X1_stage hl9 e1) wV_X1_123 c4 rfl (by decide) rfl rfl ⟨by decide, by decide⟩ rfl (Nat.le_of_ble_eq_true rfl) hl.1 dX1_isDone_1) (fun v2 h3 H locs cells slots hH hL hrun => ?_)
  refine lv_iconst (v := (3 : Int32)) (pc := 4) hx hb dX1_isDone_4 (by decide) ?_
  refine lv_icmp_eq (tgt := 16) (pc := 5) hx hb dX1_isDone_5 (by decide) (fun c_ => ?_) (fun c_ => ?_)
  · have hrun := ite_t hrun c_
    exact b_X1_isDone_16 C h3 H locs cells slots ls hH hL (lv_sub hl [] rfl) hrun
  · have hrun := ite_f hrun c_
    refine V_aload_n (pc := 8) hx hb dX1_isDone_8 rfl (lv_at hl 0 rfl) ?_
    obtain ⟨c7, hrun⟩ := gd_some hrun
    refine V_bd (pc := 9) C hL rfl hrun (fun rr1 e1 => Z_runV (rest := []) C hH (m_X1_stage hl9 e1) wV_X1_123 c7 rfl (by decide) rfl rfl ⟨by decide, by decide⟩ rfl (Nat.le_of_ble_eq_true rfl) hl.1 dX1_isDone_9) (fun v5 h6 H locs cells slots hH hL hrun => ?_)
    refine lv_iconst (v := (5 : Int32)) (pc := 12) hx hb dX1_isDone_12 (by decide) ?_
    refine lv_icmp_ne (tgt := 20) (pc := 13) hx hb dX1_isDone_13 (by decide) (fun c_ => ?_) (fun c_ => ?_)
    · have hrun := ite_f hrun c_
      refine lv_iconst (v := (0 : Int32)) (pc := 20) hx hb dX1_isDone_20 (by decide) ?_
      exact b_X1_isDone_21 C (0 : Int32) h6 H locs cells slots ls hH hL (lv_sub hl [] rfl) hrun
    · have hrun := ite_t hrun c_
      exact b_X1_isDone_16 C h6 H locs cells slots ls hH hL (lv_sub hl [] rfl) hrun

theorem m_X1_isDone {l : Launch} {D : va_G} {Hs : Heap} {h : Hp} {rr : (Int32 ⊕ Ex) × Hp} (hl9 : l.stackTraces = false) {x0 : Nat} (hrun : f_X1_isDone x0 h = some rr) : CM l yX1_isDone (ws_ yX1_isDone cX1_isDone 1 (some .boolean)) 2 20 iI [rv x0] D Hs h rr := by
  refine CM.of (lv := [(0, rv x0)]) (plainFor_of_name (by decide)) hl9 (by simp [lv_args, rv_cat, cat_i, cat_l, cat_f, cat_d]) (by simp [lg_sl, rv_cat, cat_i, cat_l, cat_f, cat_d]) ?_
  intro p e R s m args below meth c H ls C hH hl hin
  exact b_X1_isDone C x0 _ H [] _ _ ls hH (fun _ q => nomatch q) (lv_sub hl [0] rfl) hrun

/-! java/util/ArrayList$Itr.<init>(Ljava/util/ArrayList;)V -/
def f_J16_init  (x0 : Nat) (x1 : Nat) (h : Hp) : Rt Unit :=
  gd (kC h x0 = 19) <| vl (sR h 1803 x0 x1) fun h2 => gd (kC h2 x0 = 19) <| vl (sI h2 1801 x0 (-1 : Int32)) fun h4 => gd (kC h4 x0 = 19) <| gd (kC h4 (kR h4 1803 x0) = 18) <| vl (sI h4 1802 x0 (kI h4 1700 (kR h4 1803 x0))) fun h7 => some (.inl (), h7)
theorem b_J16_init {rr : (Unit ⊕ Ex) × Hp}  (C : CX p l R s m args meth c D Hs cJ16_init "java/util/ArrayList$Itr" 2 none [] 1 20) (hin : meth.name = "<init>")  : ∀ (x0 : Nat) (x1 : Nat) (h : Hp) (H : Heap) (locs : List Loc) (cells slots : Nat) (ls : Array Slot), HP D Hs h H → LO Hs locs → lv_has ls 2 [(0, rv x0), (1, rv x1)] → f_J16_init x0 x1 h = some rr → W p l e R s m args below meth c H locs cells slots (ZM D Hs iV rr below args s) (F0 m 0 ls []) := by
  obtain ⟨⟨hx, hb, hml, hown, hts⟩, -⟩ := id C
  have hl9 := C.2.1.2.2.1
  intro x0 x1 h H locs cells slots ls hH hL hl hrun
  unfold f_J16_init at hrun
  refine V_aload_n (pc := 0) hx hb dJ16_init_0 rfl (lv_at hl 0 rfl) ?_
  refine V_aload_n (pc := 1) hx hb dJ16_init_1 rfl (lv_at hl 1 rfl) ?_
  obtain ⟨c1, hrun⟩ := gd_some hrun
  refine V_putR (pc := 2) C hH hL fl_J16_1 dJ16_init_2 c1 (fok_o _ _) rfl (fun _ => hin) hrun (fun h2 H locs hH hL hrun => ?_)
  refine V_aload_n (pc := 5) hx hb dJ16_init_5 rfl (lv_at hl 0 rfl) ?_
  obtain ⟨c3, hrun⟩ := gd_some hrun
  refine V_objInit (pc := 6) C q326 q113 q114 (hH.pos c3) dJ16_init_6 (by decide) (by simp [csum, rv_cat, cat_i, cat_l, cat_f, cat_d]) hl.1 ?_
  refine V_aload_n (pc := 9) hx hb dJ16_init_9 rfl (lv_at hl 0 rfl) ?_
  refine lv_iconst (v := (-1 : Int32)) (pc := 10) hx hb dJ16_init_10 (by decide) ?_
  refine V_putI (pc := 11) C hH hL fl_J16_13 dJ16_init_11 c3 (fok_i _) rfl (fun q => Bool.noConfusion q) hrun (fun h4 H locs hH hL hrun => ?_)
  refine V_aload_n (pc := 14) hx hb dJ16_init_14 rfl (lv_at hl 0 rfl) ?_
  refine V_aload_n (pc := 15) hx hb dJ16_init_15 rfl (lv_at hl 0 rfl) ?_
  obtain ⟨c5, hrun⟩ := gd_some hrun
  refine V_getR (pc := 16) C hH fr_J16_1 dJ16_init_16 c5 rfl ?_
  obtain ⟨c6, hrun⟩ := gd_some hrun
  refine V_getI (pc := 19) C hH fr_J16_17 dJ16_init_19 c6 rfl ?_
  refine V_putI (pc := 22) C hH hL fl_J16_22 dJ16_init_22 c5 (fok_i _) rfl (fun q => Bool.noConfusion q) hrun (fun h7 H locs hH hL hrun => ?_)
  exact V_vret (pc := 25) C hH hL hrun dJ16_init_25

theorem m_J16_init {l : Launch} {D : va_G} {Hs : Heap} {h : Hp} {rr : (Unit ⊕ Ex) × Hp} (hl9 : l.stackTraces = false) {x0 : Nat} {x1 : Nat} (hrun : f_J16_init x0 x1 h = some rr) : CM l yJ16_init (ws_ yJ16_init cJ16_init 2 none) 1 20 iV [rv x0, rv x1] D Hs h rr := by
  refine CM.of (lv := [(0, rv x0), (1, rv x1)]) (by decide +kernel) hl9 (by simp [lv_args, rv_cat, cat_i, cat_l, cat_f, cat_d]) (by simp [lg_sl, rv_cat, cat_i, cat_l, cat_f, cat_d]) ?_
  intro p e R s m args below meth c H ls C hH hl hin
  exact b_J16_init C hin x0 x1 _ H [] _ _ ls hH (fun _ q => nomatch q) (lv_sub hl [0, 1] rfl) hrun

/-! java/util/ArrayList.iterator()Ljava/util/Iterator; -/
def f_J2_iterator  (x0 : Nat) (h : Hp) : Rt Nat :=
  nw h 19 4 fun q1 h2 => gd (kC h2 q1 = 19) <| bd (f_J16_init q1 x0 h2) fun _ h4 => some (.inl q1, h4)
theorem b_J2_iterator {rr : (Nat ⊕ Ex) × Hp}  (C : CX p l R s m args meth c D Hs cJ2_iterator "java/util/ArrayList" 1 (some (.object "java/util/Iterator")) [] 2 41)  : ∀ (x0 : Nat) (h : Hp) (H : Heap) (locs : List Loc) (cells slots : Nat) (ls : Array Slot), HP D Hs h H → LO Hs locs → lv_has ls 1 [(0, rv x0)] → f_J2_iterator x0 h = some rr → W p l e R s m args below meth c H locs cells slots (ZM D Hs iR rr below args s) (F0 m 0 ls []) := by
  obtain ⟨⟨hx, hb, hml, hown, hts⟩, -⟩ := id C
  have hl9 := C.2.1.2.2.1
  intro x0 h H locs cells slots ls hH hL hl hrun
  unfold f_J2_iterator at hrun
  refine V_new (pc := 0) C hH nl_J2_267 dJ2_iterator_0 hrun (fun q1 h2 H cells slots hH hrun => ?_)
  refine lv_dup (pc := 3) hx hb dJ2_iterator_3 (rv_cat _) ?_
  refine V_aload_n (pc := 4) hx hb dJ2_iterator_4 rfl (lv_at hl 0 rfl) ?_
  obtain ⟨c5, hrun⟩ := gd_some hrun
  refine V_bd (pc := 5) C hL rfl hrun (fun rr1 e1 => Z_runI (rest := [rv q1]) C hH (m_J16_init hl9 e1) wI_J2_269 (hH.pos c5) rfl ⟨by decide, by decide⟩ rfl (by simp [csum, rv_cat, cat_i, cat_l, cat_f, cat_d]) hl.1 dJ2_iterator_5) (fun _ h4 H locs cells slots hH hL hrun => ?_)
  exact V_aret (pc := 8) C (Or.inl ⟨_, rfl⟩) hH hL hrun dJ2_iterator_8

theorem m_J2_iterator {l : Launch} {D : va_G} {Hs : Heap} {h : Hp} {rr : (Nat ⊕ Ex) × Hp} (hl9 : l.stackTraces = false) {x0 : Nat} (hrun : f_J2_iterator x0 h = some rr) : CM l yJ2_iterator (ws_ yJ2_iterator cJ2_iterator 1 (some (.object "java/util/Iterator"))) 2 41 iR [rv x0] D Hs h rr := by
  refine CM.of (lv := [(0, rv x0)]) (by decide +kernel) hl9 (by simp [lv_args, rv_cat, cat_i, cat_l, cat_f, cat_d]) (by simp [lg_sl, rv_cat, cat_i, cat_l, cat_f, cat_d]) ?_
  intro p e R s m args below meth c H ls C hH hl hin
  exact b_J2_iterator C x0 _ H [] _ _ ls hH (fun _ q => nomatch q) (lv_sub hl [0] rfl) hrun

/-! Massclaim$Row.iterator()Ljava/util/Iterator; -/
def f_X2_iterator  (x0 : Nat) (h : Hp) : Rt Nat :=
  gd (kC h x0 = 2) <| gd (kC h (kR h 100 x0) = 18) <| bd (f_J2_iterator (kR h 100 x0) h) fun v2 h3 => some (.inl v2, h3)
theorem b_X2_iterator {rr : (Nat ⊕ Ex) × Hp}  (C : CX p l R s m args meth c D Hs cX2_iterator "Massclaim$Row" 1 (some (.object "java/util/Iterator")) [] 3 61)  : ∀ (x0 : Nat) (h : Hp) (H : Heap) (locs : List Loc) (cells slots : Nat) (ls : Array Slot), HP D Hs h H → LO Hs locs → lv_has ls 1 [(0, rv x0)] → f_X2_iterator x0 h = some rr → W p l e R s m args below meth c H locs cells slots (ZM D Hs iR rr below args s) (F0 m 0 ls []) := by
  obtain ⟨⟨hx, hb, hml, hown, hts⟩, -⟩ := id C
  have hl9 := C.2.1.2.2.1
  intro x0 h H locs cells slots ls hH hL hl hrun
  unfold f_X2_iterator at hrun
  refine V_aload_n (pc := 0) hx hb dX2_iterator_0 rfl (lv_at hl 0 rfl) ?_
  obtain ⟨c1, hrun⟩ := gd_some hrun
  refine V_getR (pc := 1) C hH fr_X2_10 dX2_iterator_1 c1 rfl ?_
  obtain ⟨c4, hrun⟩ := gd_some hrun
  refine V_bd5 (pc := 4) C hL rfl hrun (fun rr1 e1 => Z_runF (rest := []) C hH (m_J2_iterator hl9 e1) rfl wF_X2_59_J2 c4 (by decide) rfl ⟨by decide, by decide⟩ rfl (Nat.le_of_ble_eq_true rfl) hl.1 dX2_iterator_4) (fun v2 h3 H locs cells slots hH hL hrun => ?_)
  exact V_aret (pc := 9) C (Or.inl ⟨_, rfl⟩) hH hL hrun dX2_iterator_9

theorem m_X2_iterator {l : Launch} {D : va_G} {Hs : Heap} {h : Hp} {rr : (Nat ⊕ Ex) × Hp} (hl9 : l.stackTraces = false) {x0 : Nat} (hrun : f_X2_iterator x0 h = some rr) : CM l yX2_iterator (ws_ yX2_iterator cX2_iterator 1 (some (.object "java/util/Iterator"))) 3 61 iR [rv x0] D Hs h rr := by
  refine CM.of (lv := [(0, rv x0)]) (plainFor_of_name (by decide)) hl9 (by simp [lv_args, rv_cat, cat_i, cat_l, cat_f, cat_d]) (by simp [lg_sl, rv_cat, cat_i, cat_l, cat_f, cat_d]) ?_
  intro p e R s m args below meth c H ls C hH hl hin
  exact b_X2_iterator C x0 _ H [] _ _ ls hH (fun _ q => nomatch q) (lv_sub hl [0] rfl) hrun

/-! java/util/ArrayList$Itr.hasNext()Z -/
def f_J16_hasNext_19  (y0 : Int32) (h : Hp) : Rt Int32 :=
  gd (b01 y0) <| some (.inl y0, h)
def f_J16_hasNext  (x0 : Nat) (h : Hp) : Rt Int32 :=
  gd (kC h x0 = 19) <| gd (kC h (kR h 1803 x0) = 18) <| if (kI h 1800 x0) = (kI h 1702 (kR h 1803 x0)) then
  (f_J16_hasNext_19 (0 : Int32) h)
  else
  (f_J16_hasNext_19 (1 : Int32) h)
theorem b_J16_hasNext_19 {rr : (Int32 ⊕ Ex) × Hp}  (C : CX p l R s m args meth c D Hs cJ16_hasNext "java/util/ArrayList$Itr" 1 (some .boolean) [] 1 0)  : ∀ (y0 : Int32) (h : Hp) (H : Heap) (locs : List Loc) (cells slots : Nat) (ls : Array Slot), HP D Hs h H → LO Hs locs → lv_has ls 1 [] → f_J16_hasNext_19 y0 h = some rr → W p l e R s m args below meth c H locs cells slots (ZM D Hs iI rr below args s) (F0 m 19 ls [.int y0]) := by
  obtain ⟨⟨hx, hb, hml, hown, hts⟩, -⟩ := id C
  have hl9 := C.2.1.2.2.1
  intro y0 h H locs cells slots ls hH hL hl hrun
  unfold f_J16_hasNext_19 at hrun
  obtain ⟨c1, hrun⟩ := gd_some hrun
  exact V_zret (pc := 19) C hH hL c1 hrun dJ16_hasNext_19

theorem b_J16_hasNext {rr : (Int32 ⊕ Ex) × Hp}  (C : CX p l R s m args meth c D Hs cJ16_hasNext "java/util/ArrayList$Itr" 1 (some .boolean) [] 1 0)  : ∀ (x0 : Nat) (h : Hp) (H : Heap) (locs : List Loc) (cells slots : Nat) (ls : Array Slot), HP D Hs h H → LO Hs locs → lv_has ls 1 [(0, rv x0)] → f_J16_hasNext x0 h = some rr → W p l e R s m args below meth c H locs cells slots (ZM D Hs iI rr below args s) (F0 m 0 ls []) := by
  obtain ⟨⟨hx, hb, hml, hown, hts⟩, -⟩ := id C
  have hl9 := C.2.1.2.2.1
  intro x0 h H locs cells slots ls hH hL hl hrun
  unfold f_J16_hasNext at hrun
  refine V_aload_n (pc := 0) hx hb dJ16_hasNext_0 rfl (lv_at hl 0 rfl) ?_
  obtain ⟨c2, hrun⟩ := gd_some hrun
  refine V_getI (pc := 1) C hH fr_J16_25 dJ16_hasNext_1 c2 rfl ?_
  refine V_aload_n (pc := 4) hx hb dJ16_hasNext_4 rfl (lv_at hl 0 rfl) ?_
  refine V_getR (pc := 5) C hH fr_J16_1 dJ16_hasNext_5 c2 rfl ?_
  obtain ⟨c3, hrun⟩ := gd_some hrun
  refine V_getNI (pc := 8) C hH fn_J16_28 dJ16_hasNext_8 c3 rfl ?_
  refine lv_icmp_eq (tgt := 18) (pc := 11) hx hb dJ16_hasNext_11 (by decide) (fun c_ => ?_) (fun c_ => ?_)
  · have hrun := ite_t hrun c_
    refine lv_iconst (v := (0 : Int32)) (pc := 18) hx hb dJ16_hasNext_18 (by decide) ?_
    exact b_J16_hasNext_19 C (0 : Int32) h H locs cells slots ls hH hL (lv_sub hl [] rfl) hrun
  · have hrun := ite_f hrun c_
    refine lv_iconst (v := (1 : Int32)) (pc := 14) hx hb dJ16_hasNext_14 (by decide) ?_
    refine lv_goto (tgt := 19) (pc := 15) hx hb dJ16_hasNext_15 (by decide) ?_
    exact b_J16_hasNext_19 C (1 : Int32) h H locs cells slots ls hH hL (lv_sub hl [] rfl) hrun

theorem m_J16_hasNext {l : Launch} {D : va_G} {Hs : Heap} {h : Hp} {rr : (Int32 ⊕ Ex) × Hp} (hl9 : l.stackTraces = false) {x0 : Nat} (hrun : f_J16_hasNext x0 h = some rr) : CM l yJ16_hasNext (ws_ yJ16_hasNext cJ16_hasNext 1 (some .boolean)) 1 0 iI [rv x0] D Hs h rr := by
  refine CM.of (lv := [(0, rv x0)]) (by decide +kernel) hl9 (by simp [lv_args, rv_cat, cat_i, cat_l, cat_f, cat_d]) (by simp [lg_sl, rv_cat, cat_i, cat_l, cat_f, cat_d]) ?_
  intro p e R s m args below meth c H ls C hH hl hin
  exact b_J16_hasNext C x0 _ H [] _ _ ls hH (fun _ q => nomatch q) (lv_sub hl [0] rfl) hrun

/-! java/util/ArrayList$Itr.checkForComodification()V -/
def f_J16_checkForComodification  (x0 : Nat) (h : Hp) : Rt Unit :=
  gd (kC h x0 = 19) <| gd (kC h (kR h 1803 x0) = 18) <| if (kI h 1700 (kR h 1803 x0)) = (kI h 1802 x0) then
  (some (.inl (), h))
  else
  (none)
theorem b_J16_checkForComodification {rr : (Unit ⊕ Ex) × Hp}  (C : CX p l R s m args meth c D Hs cJ16_checkForComodification "java/util/ArrayList$Itr" 1 none [] 1 0)  : ∀ (x0 : Nat) (h : Hp) (H : Heap) (locs : List Loc) (cells slots : Nat) (ls : Array Slot), HP D Hs h H → LO Hs locs → lv_has ls 1 [(0, rv x0)] → f_J16_checkForComodification x0 h = some rr → W p l e R s m args below meth c H locs cells slots (ZM D Hs iV rr below args s) (F0 m 0 ls []) := by
  obtain ⟨⟨hx, hb, hml, hown, hts⟩, -⟩ := id C
  have hl9 := C.2.1.2.2.1
  intro x0 h H locs cells slots ls hH hL hl hrun
  unfold f_J16_checkForComodification at hrun
  refine V_aload_n (pc := 0) hx hb dJ16_checkForComodification_0 rfl (lv_at hl 0 rfl) ?_
  obtain ⟨c1, hrun⟩ := gd_some hrun
  refine V_getR (pc := 1) C hH fr_J16_1 dJ16_checkForComodification_1 c1 rfl ?_
  obtain ⟨c2, hrun⟩ := gd_some hrun
  refine V_getI (pc := 4) C hH fr_J16_17 dJ16_checkForComodification_4 c2 rfl ?_
  refine V_aload_n (pc := 7) hx hb dJ16_checkForComodification_7 rfl (lv_at hl 0 rfl) ?_
  refine V_getI (pc := 8) C hH fr_J16_22 dJ16_checkForComodification_8 c1 rfl ?_
  refine lv_icmp_eq (tgt := 22) (pc := 11) hx hb dJ16_checkForComodification_11 (by decide) (fun c_ => ?_) (fun c_ => ?_)
  · have hrun := ite_t hrun c_
    exact V_vret (pc := 22) C hH hL hrun dJ16_checkForComodification_22
  · have hrun := ite_f hrun c_
    cases hrun

theorem m_J16_checkForComodification {l : Launch} {D : va_G} {Hs : Heap} {h : Hp} {rr : (Unit ⊕ Ex) × Hp} (hl9 : l.stackTraces = false) {x0 : Nat} (hrun : f_J16_checkForComodification x0 h = some rr) : CM l yJ16_checkForComodification (ws_ yJ16_checkForComodification cJ16_checkForComodification 1 none) 1 0 iV [rv x0] D Hs h rr := by
  refine CM.of (lv := [(0, rv x0)]) (by decide +kernel) hl9 (by simp [lv_args, rv_cat, cat_i, cat_l, cat_f, cat_d]) (by simp [lg_sl, rv_cat, cat_i, cat_l, cat_f, cat_d]) ?_
  intro p e R s m args below meth c H ls C hH hl hin
  exact b_J16_checkForComodification C x0 _ H [] _ _ ls hH (fun _ q => nomatch q) (lv_sub hl [0] rfl) hrun

/-! java/util/ArrayList$Itr.next()Ljava/lang/Object; -/
def f_J16_next  (x0 : Nat) (h : Hp) : Rt Nat :=
  gd (kC h x0 = 19) <| bd (f_J16_checkForComodification x0 h) fun _ h2 => gd (kC h2 x0 = 19) <| vl (kI h2 1800 x0) fun v5 => gd (kC h2 (kR h2 1803 x0) = 18) <| if v5 < (kI h2 1702 (kR h2 1803 x0)) then
  (vl (kR h2 1701 (kR h2 1803 x0)) fun v7 => gd (kC h2 v7 = 103 ∨ v7 = kE h2) <| if v5 < (Int32.ofNat (kN h2 v7)) then
  (vl (sI h2 1800 x0 (v5 + (1 : Int32))) fun h9 => gd (kC h9 x0 = 19) <| vl (sI h9 1801 x0 v5) fun h11 => gd (kC h11 v7 = 103 ∧ ixo v5 (kN h11 v7)) <| some (.inl (jR h11 v7 (v5).toNatClampNeg), h11))
  else
  (none))
  else
  (none)
theorem b_J16_next {rr : (Nat ⊕ Ex) × Hp}  (C : CX p l R s m args meth c D Hs cJ16_next "java/util/ArrayList$Itr" 3 (some (.object "java/lang/Object")) [] 2 20)  : ∀ (x0 : Nat) (h : Hp) (H : Heap) (locs : List Loc) (cells slots : Nat) (ls : Array Slot), HP D Hs h H → LO Hs locs → lv_has ls 3 [(0, rv x0)] → f_J16_next x0 h = some rr → W p l e R s m args below meth c H locs cells slots (ZM D Hs iR rr below args s) (F0 m 0 ls []) := by
  obtain ⟨⟨hx, hb, hml, hown, hts⟩, -⟩ := id C
  have hl9 := C.2.1.2.2.1
  intro x0 h H locs cells slots ls hH hL hl hrun
  unfold f_J16_next at hrun
  refine V_aload_n (pc := 0) hx hb dJ16_next_0 rfl (lv_at hl 0 rfl) ?_
  obtain ⟨c3, hrun⟩ := gd_some hrun
  refine V_bd (pc := 1) C hL rfl hrun (fun rr1 e1 => Z_runV (rest := []) C hH (m_J16_checkForComodification hl9 e1) wV_J16_31 c3 rfl (by decide) rfl rfl ⟨by decide, by decide⟩ rfl (Nat.le_of_ble_eq_true rfl) hl.1 dJ16_next_1) (fun _ h2 H locs cells slots hH hL hrun => ?_)
  refine V_aload_n (pc := 4) hx hb dJ16_next_4 rfl (lv_at hl 0 rfl) ?_
  obtain ⟨c4, hrun⟩ := gd_some hrun
  refine V_getI (pc := 5) C hH fr_J16_25 dJ16_next_5 c4 rfl ?_
  refine lv_topi (fun v5 ev5 => ?_)
  have hrun := vl_at hrun v5 ev5
  refine lv_istore_n (i := 1) (lv' := [(1, .int v5), (0, rv x0)]) (pc := 8) hx hb dJ16_next_8 rfl hl (by decide) (by simp [rv_cat, cat_i, cat_l, cat_f, cat_d]) (fun ls hl => ?_)
  refine lv_iload_n (pc := 9) hx hb dJ16_next_9 rfl (lv_at hl 0 rfl) ?_
  refine V_aload_n (pc := 10) hx hb dJ16_next_10 rfl (lv_at hl 1 rfl) ?_
  refine V_getR (pc := 11) C hH fr_J16_1 dJ16_next_11 c4 rfl ?_
  obtain ⟨c6, hrun⟩ := gd_some hrun
  refine V_getNI (pc := 14) C hH fn_J16_28 dJ16_next_14 c6 rfl ?_
  refine lv_icmp_lt (tgt := 28) (pc := 17) hx hb dJ16_next_17 (by decide) (fun c_ => ?_) (fun c_ => ?_)
  · have hrun := ite_t hrun c_
    refine V_aload_n (pc := 28) hx hb dJ16_next_28 rfl (lv_at hl 1 rfl) ?_
    refine V_getR (pc := 29) C hH fr_J16_1 dJ16_next_29 c4 rfl ?_
    refine V_getR (pc := 32) C hH fr_J16_37 dJ16_next_32 c6 rfl ?_
    refine V_topr (fun v7 ev7 => ?_)
    have hrun := vl_at hrun v7 ev7
    refine V_astore_n (i := 2) (lv' := [(2, rv v7), (1, .int v5), (0, rv x0)]) (pc := 35) hx hb dJ16_next_35 rfl hl (by decide) rfl (fun ls hl => ?_)
    refine lv_iload_n (pc := 36) hx hb dJ16_next_36 rfl (lv_at hl 1 rfl) ?_
    refine V_aload_n (pc := 37) hx hb dJ16_next_37 rfl (lv_at hl 0 rfl) ?_
    obtain ⟨c8, hrun⟩ := gd_some hrun
    refine V_alenE (pc := 38) C hH dJ16_next_38 c8 ?_
    refine lv_icmp_lt (tgt := 50) (pc := 39) hx hb dJ16_next_39 (by decide) (fun c_ => ?_) (fun c_ => ?_)
    · have hrun := ite_t hrun c_
      refine V_aload_n (pc := 50) hx hb dJ16_next_50 rfl (lv_at hl 2 rfl) ?_
      refine lv_iload_n (pc := 51) hx hb dJ16_next_51 rfl (lv_at hl 1 rfl) ?_
      refine lv_iconst (v := (1 : Int32)) (pc := 52) hx hb dJ16_next_52 (by decide) ?_
      refine lv_iadd (pc := 53) hx hb dJ16_next_53 ?_
      refine V_putI (pc := 54) C hH hL fl_J16_25 dJ16_next_54 c4 (fok_i _) rfl (fun q => Bool.noConfusion q) hrun (fun h9 H locs hH hL hrun => ?_)
      refine V_aload_n (pc := 57) hx hb dJ16_next_57 rfl (lv_at hl 0 rfl) ?_
      refine V_aload_n (pc := 58) hx hb dJ16_next_58 rfl (lv_at hl 2 rfl) ?_
      refine lv_iload_n (pc := 59) hx hb dJ16_next_59 rfl (lv_at hl 1 rfl) ?_
      refine lv_dup_x1 (pc := 60) hx hb dJ16_next_60 rfl (rv_cat _) ?_
      obtain ⟨c10, hrun⟩ := gd_some hrun
      refine V_putI (pc := 61) C hH hL fl_J16_13 dJ16_next_61 c10 (fok_i _) rfl (fun q => Bool.noConfusion q) hrun (fun h11 H locs hH hL hrun => ?_)
      obtain ⟨c12, hrun⟩ := gd_some hrun
      refine V_aald (pc := 64) C hH dJ16_next_64 c12 ?_
      exact V_aret (pc := 65) C (Or.inl ⟨_, rfl⟩) hH hL hrun dJ16_next_65
    · have hrun := ite_f hrun c_
      cases hrun
  · have hrun := ite_f hrun c_
    cases hrun

theorem m_J16_next {l : Launch} {D : va_G} {Hs : Heap} {h : Hp} {rr : (Nat ⊕ Ex) × Hp} (hl9 : l.stackTraces = false) {x0 : Nat} (hrun : f_J16_next x0 h = some rr) : CM l yJ16_next (ws_ yJ16_next cJ16_next 3 (some (.object "java/lang/Object"))) 2 20 iR [rv x0] D Hs h rr := by
  refine CM.of (lv := [(0, rv x0)]) (by decide +kernel) hl9 (by simp [lv_args, rv_cat, cat_i, cat_l, cat_f, cat_d]) (by simp [lg_sl, rv_cat, cat_i, cat_l, cat_f, cat_d]) ?_
  intro p e R s m args below meth c H ls C hH hl hin
  exact b_J16_next C x0 _ H [] _ _ ls hH (fun _ q => nomatch q) (lv_sub hl [0] rfl) hrun

/-! Massclaim.members()I -/
def f_X1_members_42 (k10 : Int32 → Nat → Hp → Rt Int32) (x2 : Nat) (y0 : Int32) (y1 : Int32) (h : Hp) : Rt Int32 :=
  vl (y0 + y1) fun v1 => k10 v1 x2 h
def f_X1_members_10  : Nat → Int32 → Nat → Hp → Rt Int32
  | 0, _, _, _ => none
  | n + 1, x1, x2, h => gd (kC h x2 = 19) <| bd (f_J16_hasNext x2 h) fun v2 h3 => if v2 = 0 then
  (some (.inl x1, h3))
  else
  (gd (kC h3 x2 = 19) <| bd (f_J16_next x2 h3) fun v5 h6 => gd (v5 = 0 ∨ kC h6 v5 = 5) <| gd (kC h6 v5 = 5) <| bd (f_X5_isMember v5 h6) fun v9 h10 => if v9 = 0 then
  (f_X1_members_42 (f_X1_members_10 n) x2 x1 (0 : Int32) h10)
  else
  (f_X1_members_42 (f_X1_members_10 n) x2 x1 (1 : Int32) h10))
def f_X1_members  (x0 : Nat) (h : Hp) : Rt Int32 :=
  gd (kC h x0 = 1) <| gd (kC h (kR h 0 x0) = 2) <| bd (f_X2_iterator (kR h 0 x0) h) fun v13 h14 => f_X1_members_10 FU (0 : Int32) v13 h14
theorem b_X1_members_42 {rr : (Int32 ⊕ Ex) × Hp} {k10 : Int32 → Nat → Hp → Rt Int32} (C : CX p l R s m args meth c D Hs cX1_members "Massclaim" 4 (some .int) [] 4 81) (K10 : ∀ (x1 : Int32) (x2 : Nat) (h : Hp) (H : Heap) (locs : List Loc) (cells slots : Nat) (ls : Array Slot), HP D Hs h H → LO Hs locs → lv_has ls 4 [(1, .int x1), (2, rv x2)] → k10 x1 x2 h = some rr → W p l e R s m args below meth c H locs cells slots (ZM D Hs iI rr below args s) (F0 m 10 ls [])) : ∀ (x2 : Nat) (y0 : Int32) (y1 : Int32) (h : Hp) (H : Heap) (locs : List Loc) (cells slots : Nat) (ls : Array Slot), HP D Hs h H → LO Hs locs → lv_has ls 4 [(2, rv x2)] → f_X1_members_42 k10 x2 y0 y1 h = some rr → W p l e R s m args below meth c H locs cells slots (ZM D Hs iI rr below args s) (F0 m 42 ls [.int y1, .int y0]) := by
  obtain ⟨⟨hx, hb, hml, hown, hts⟩, -⟩ := id C
  have hl9 := C.2.1.2.2.1
  intro x2 y0 y1 h H locs cells slots ls hH hL hl hrun
  unfold f_X1_members_42 at hrun
  refine lv_iadd (pc := 42) hx hb dX1_members_42 ?_
  refine lv_topi (fun v1 ev1 => ?_)
  have hrun := vl_at hrun v1 ev1
  refine lv_istore_n (i := 1) (lv' := [(1, .int v1), (2, rv x2)]) (pc := 43) hx hb dX1_members_43 rfl hl (by decide) rfl (fun ls hl => ?_)
  refine lv_goto (tgt := 10) (pc := 44) hx hb dX1_members_44 (by decide) ?_
  exact K10 v1 x2 h H locs cells slots ls hH hL (lv_sub hl [0, 1] rfl) hrun

theorem b_X1_members_10 {rr : (Int32 ⊕ Ex) × Hp}  (C : CX p l R s m args meth c D Hs cX1_members "Massclaim" 4 (some .int) [] 4 81)  : ∀ (n : Nat) (x1 : Int32) (x2 : Nat) (h : Hp) (H : Heap) (locs : List Loc) (cells slots : Nat) (ls : Array Slot), HP D Hs h H → LO Hs locs → lv_has ls 4 [(1, .int x1), (2, rv x2)] → f_X1_members_10 n x1 x2 h = some rr → W p l e R s m args below meth c H locs cells slots (ZM D Hs iI rr below args s) (F0 m 10 ls []) := by
  obtain ⟨⟨hx, hb, hml, hown, hts⟩, -⟩ := id C
  have hl9 := C.2.1.2.2.1
  intro n
  induction n with
  | zero =>
    intro x1 x2 h H locs cells slots ls hH hL hl hrun
    cases (show (none : Option _) = some rr from hrun)
  | succ n ih =>
    intro x1 x2 h H locs cells slots ls hH hL hl hrun
    rw [f_X1_members_10] at hrun
    refine V_aload_n (pc := 10) hx hb dX1_members_10 rfl (lv_at hl 1 rfl) ?_
    obtain ⟨c4, hrun⟩ := gd_some hrun
    refine V_bd5 (pc := 11) C hL rfl hrun (fun rr1 e1 => Z_runF (rest := []) C hH (m_J16_hasNext hl9 e1) rfl wF_X1_212_J16 c4 (by decide) rfl ⟨by decide, by decide⟩ rfl (Nat.le_of_ble_eq_true rfl) hl.1 dX1_members_11) (fun v2 h3 H locs cells slots hH hL hrun => ?_)
    refine lv_if_eq (tgt := 47) (pc := 16) hx hb dX1_members_16 (by decide) (fun c_ => ?_) (fun c_ => ?_)
    · have hrun := ite_t hrun c_
      refine lv_iload_n (pc := 47) hx hb dX1_members_47 rfl (lv_at hl 0 rfl) ?_
      exact V_iret (pc := 48) C hH hL hrun dX1_members_48
    · have hrun := ite_f hrun c_
      refine V_aload_n (pc := 19) hx hb dX1_members_19 rfl (lv_at hl 1 rfl) ?_
      obtain ⟨c7, hrun⟩ := gd_some hrun
      refine V_bd5 (pc := 20) C hL rfl hrun (fun rr1 e1 => Z_runF (rest := []) C hH (m_J16_next hl9 e1) rfl wF_X1_217_J16 c7 (by decide) rfl ⟨by decide, by decide⟩ rfl (Nat.le_of_ble_eq_true rfl) hl.1 dX1_members_20) (fun v5 h6 H locs cells slots hH hL hrun => ?_)
      obtain ⟨c8, hrun⟩ := gd_some hrun
      refine V_castX (pc := 25) (ci := 4) C hH rfl (by decide) q376 dX1_members_25 c8 ?_
      refine V_astore_n (i := 3) (lv' := [(3, rv v5), (1, .int x1), (2, rv x2)]) (pc := 28) hx hb dX1_members_28 rfl hl (by decide) (by simp [rv_cat, cat_i, cat_l, cat_f, cat_d]) (fun ls hl => ?_)
      refine lv_iload_n (pc := 29) hx hb dX1_members_29 rfl (lv_at hl 1 rfl) ?_
      refine V_aload_n (pc := 30) hx hb dX1_members_30 rfl (lv_at hl 0 rfl) ?_
      obtain ⟨c11, hrun⟩ := gd_some hrun
      refine V_bd (pc := 31) C hL rfl hrun (fun rr1 e1 => Z_runV (rest := [.int x1]) C hH (m_X5_isMember hl9 e1) wV_X1_148 c11 rfl (by decide) rfl rfl ⟨by decide, by decide⟩ rfl (Nat.le_of_ble_eq_true rfl) hl.1 dX1_members_31) (fun v9 h10 H locs cells slots hH hL hrun => ?_)
      refine lv_if_eq (tgt := 41) (pc := 34) hx hb dX1_members_34 (by decide) (fun c_ => ?_) (fun c_ => ?_)
      · have hrun := ite_t hrun c_
        refine lv_iconst (v := (0 : Int32)) (pc := 41) hx hb dX1_members_41 (by decide) ?_
        exact b_X1_members_42 C ih x2 x1 (0 : Int32) h10 H locs cells slots ls hH hL (lv_sub hl [2] rfl) hrun
      · have hrun := ite_f hrun c_
        refine lv_iconst (v := (1 : Int32)) (pc := 37) hx hb dX1_members_37 (by decide) ?_
        refine lv_goto (tgt := 42) (pc := 38) hx hb dX1_members_38 (by decide) ?_
        exact b_X1_members_42 C ih x2 x1 (1 : Int32) h10 H locs cells slots ls hH hL (lv_sub hl [2] rfl) hrun

theorem b_X1_members {rr : (Int32 ⊕ Ex) × Hp}  (C : CX p l R s m args meth c D Hs cX1_members "Massclaim" 4 (some .int) [] 4 81)  : ∀ (x0 : Nat) (h : Hp) (H : Heap) (locs : List Loc) (cells slots : Nat) (ls : Array Slot), HP D Hs h H → LO Hs locs → lv_has ls 4 [(0, rv x0)] → f_X1_members x0 h = some rr → W p l e R s m args below meth c H locs cells slots (ZM D Hs iI rr below args s) (F0 m 0 ls []) := by
  obtain ⟨⟨hx, hb, hml, hown, hts⟩, -⟩ := id C
  have hl9 := C.2.1.2.2.1
  intro x0 h H locs cells slots ls hH hL hl hrun
  unfold f_X1_members at hrun
  refine lv_iconst (v := (0 : Int32)) (pc := 0) hx hb dX1_members_0 (by decide) ?_
  refine lv_istore_n (i := 1) (lv' := [(1, .int (0 : Int32)), (0, rv x0)]) (pc := 1) hx hb dX1_members_1 rfl hl (by decide) (by simp [rv_cat, cat_i, cat_l, cat_f, cat_d]) (fun ls hl => ?_)
  refine V_aload_n (pc := 2) hx hb dX1_members_2 rfl (lv_at hl 1 rfl) ?_
  obtain ⟨c12, hrun⟩ := gd_some hrun
  refine V_getR (pc := 3) C hH fr_X1_42 dX1_members_3 c12 rfl ?_
  obtain ⟨c15, hrun⟩ := gd_some hrun
  refine V_bd (pc := 6) C hL rfl hrun (fun rr1 e1 => Z_runV (rest := []) C hH (m_X2_iterator hl9 e1) wV_X1_208 c15 rfl (by decide) rfl rfl ⟨by decide, by decide⟩ rfl (Nat.le_of_ble_eq_true rfl) hl.1 dX1_members_6) (fun v13 h14 H locs cells slots hH hL hrun => ?_)
  refine V_astore_n (i := 2) (lv' := [(2, rv v13), (1, .int (0 : Int32)), (0, rv x0)]) (pc := 9) hx hb dX1_members_9 rfl hl (by decide) rfl (fun ls hl => ?_)
  exact b_X1_members_10 C FU (0 : Int32) v13 h14 H locs cells slots ls hH hL (lv_sub hl [1, 0] rfl) hrun

theorem m_X1_members {l : Launch} {D : va_G} {Hs : Heap} {h : Hp} {rr : (Int32 ⊕ Ex) × Hp} (hl9 : l.stackTraces = false) {x0 : Nat} (hrun : f_X1_members x0 h = some rr) : CM l yX1_members (ws_ yX1_members cX1_members 4 (some .int)) 4 81 iI [rv x0] D Hs h rr := by
  refine CM.of (lv := [(0, rv x0)]) (plainFor_of_name (by decide)) hl9 (by simp [lv_args, rv_cat, cat_i, cat_l, cat_f, cat_d]) (by simp [lg_sl, rv_cat, cat_i, cat_l, cat_f, cat_d]) ?_
  intro p e R s m args below meth c H ls C hH hl hin
  exact b_X1_members C x0 _ H [] _ _ ls hH (fun _ q => nomatch q) (lv_sub hl [0] rfl) hrun

/-! Massclaim.define(III)I -/
def f_X1_define_56  (x0 : Nat) (x1 : Int32) (x2 : Int32) (x3 : Int32) (y0 : Int32) (h : Hp) : Rt Int32 :=
  bd (f_X1_requireState y0 h) fun _ h2 => gd (kC h2 x0 = 1) <| vl (sI h2 10 x0 x1) fun h4 => gd (kC h4 x0 = 1) <| vl (sI h4 11 x0 x2) fun h6 => gd (kC h6 x0 = 1) <| vl (sI h6 12 x0 x3) fun h8 => gd (kC h8 x0 = 1) <| bd (f_X1_members x0 h8) fun v9 h10 => some (.inl v9, h10)
def f_X1_define_41  (x0 : Nat) (x1 : Int32) (x2 : Int32) (x3 : Int32) (y0 : Int32) (h : Hp) : Rt Int32 :=
  bd (f_X1_requireArgument y0 h) fun _ h13 => gd (kC h13 x0 = 1) <| bd (f_X1_isDone x0 h13) fun v14 h15 => if v14 = 0 then
  (f_X1_define_56 x0 x1 x2 x3 (1 : Int32) h15)
  else
  (f_X1_define_56 x0 x1 x2 x3 (0 : Int32) h15)
def f_X1_define_40  (x0 : Nat) (x1 : Int32) (x2 : Int32) (x3 : Int32) (h : Hp) : Rt Int32 :=
  f_X1_define_41 x0 x1 x2 x3 (0 : Int32) h
def f_X1_define  (x0 : Nat) (x1 : Int32) (x2 : Int32) (x3 : Int32) (h : Hp) : Rt Int32 :=
  bd (f_X1_isIn (x1.toInt64) (1 : Int64) (15 : Int64) h) fun v17 h18 => if v17 = 0 then
  (f_X1_define_40 x0 x1 x2 x3 h18)
  else
  (bd (f_X1_isIn (x2.toInt64) (1 : Int64) (1023 : Int64) h18) fun v19 h20 => if v19 = 0 then
  (f_X1_define_40 x0 x1 x2 x3 h20)
  else
  (bd (f_X1_isIn (x3.toInt64) (0 : Int64) (600 : Int64) h20) fun v21 h22 => if v21 = 0 then
  (f_X1_define_40 x0 x1 x2 x3 h22)
  else
  (f_X1_define_41 x0 x1 x2 x3 (1 : Int32) h22)))
theorem b_X1_define_56 {rr : (Int32 ⊕ Ex) × Hp}  (C : CX p l R s m args meth c D Hs cX1_define "Massclaim" 4 (some .int) [] 7 110)  : ∀ (x0 : Nat) (x1 : Int32) (x2 : Int32) (x3 : Int32) (y0 : Int32) (h : Hp) (H : Heap) (locs : List Loc) (cells slots : Nat) (ls : Array Slot), HP D Hs h H → LO Hs locs → lv_has ls 4 [(0, rv x0), (1, .int x1), (2, .int x2), (3, .int x3)] → f_X1_define_56 x0 x1 x2 x3 y0 h = some rr → W p l e R s m args below meth c H locs cells slots (ZM D Hs iI rr below args s) (F0 m 56 ls [.int y0]) := by
  obtain ⟨⟨hx, hb, hml, hown, hts⟩, -⟩ := id C
  have hl9 := C.2.1.2.2.1
  intro x0 x1 x2 x3 y0 h H locs cells slots ls hH hL hl hrun
  unfold f_X1_define_56 at hrun
  refine V_bd (pc := 56) C hL rfl hrun (fun rr1 e1 => Z_runS (rest := []) C hH (m_X1_requireState hl9 e1) wS_X1_182 rfl ⟨by decide, by decide⟩ rfl (Nat.le_of_ble_eq_true rfl) hl.1 dX1_define_56) (fun _ h2 H locs cells slots hH hL hrun => ?_)
  refine V_aload_n (pc := 59) hx hb dX1_define_59 rfl (lv_at hl 0 rfl) ?_
  refine lv_iload_n (pc := 60) hx hb dX1_define_60 rfl (lv_at hl 1 rfl) ?_
  obtain ⟨c3, hrun⟩ := gd_some hrun
  refine V_putI (pc := 61) C hH hL fl_X1_88 dX1_define_61 c3 (fok_i _) rfl (fun q => Bool.noConfusion q) hrun (fun h4 H locs hH hL hrun => ?_)
  refine V_aload_n (pc := 64) hx hb dX1_define_64 rfl (lv_at hl 0 rfl) ?_
  refine lv_iload_n (pc := 65) hx hb dX1_define_65 rfl (lv_at hl 2 rfl) ?_
  obtain ⟨c5, hrun⟩ := gd_some hrun
  refine V_putI (pc := 66) C hH hL fl_X1_92 dX1_define_66 c5 (fok_i _) rfl (fun q => Bool.noConfusion q) hrun (fun h6 H locs hH hL hrun => ?_)
  refine V_aload_n (pc := 69) hx hb dX1_define_69 rfl (lv_at hl 0 rfl) ?_
  refine lv_iload_n (pc := 70) hx hb dX1_define_70 rfl (lv_at hl 3 rfl) ?_
  obtain ⟨c7, hrun⟩ := gd_some hrun
  refine V_putI (pc := 71) C hH hL fl_X1_95 dX1_define_71 c7 (fok_i _) rfl (fun q => Bool.noConfusion q) hrun (fun h8 H locs hH hL hrun => ?_)
  refine V_aload_n (pc := 74) hx hb dX1_define_74 rfl (lv_at hl 0 rfl) ?_
  obtain ⟨c11, hrun⟩ := gd_some hrun
  refine V_bd (pc := 75) C hL rfl hrun (fun rr1 e1 => Z_runV (rest := []) C hH (m_X1_members hl9 e1) wV_X1_228 c11 rfl (by decide) rfl rfl ⟨by decide, by decide⟩ rfl (Nat.le_of_ble_eq_true rfl) hl.1 dX1_define_75) (fun v9 h10 H locs cells slots hH hL hrun => ?_)
  exact V_iret (pc := 78) C hH hL hrun dX1_define_78

theorem b_X1_define_41 {rr : (Int32 ⊕ Ex) × Hp}  (C : CX p l R s m args meth c D Hs cX1_define "Massclaim" 4 (some .int) [] 7 110)  : ∀ (x0 : Nat) (x1 : Int32) (x2 : Int32) (x3 : Int32) (y0 : Int32) (h : Hp) (H : Heap) (locs : List Loc) (cells slots : Nat) (ls : Array Slot), HP D Hs h H → LO Hs locs → lv_has ls 4 [(0, rv x0), (1, .int x1), (2, .int x2), (3, .int x3)] → f_X1_define_41 x0 x1 x2 x3 y0 h = some rr → W p l e R s m args below meth c H locs cells slots (ZM D Hs iI rr below args s) (F0 m 41 ls [.int y0]) := by
  obtain ⟨⟨hx, hb, hml, hown, hts⟩, -⟩ := id C
  have hl9 := C.2.1.2.2.1
  intro x0 x1 x2 x3 y0 h H locs cells slots ls hH hL hl hrun
  unfold f_X1_define_41 at hrun
  refine V_bd (pc := 41) C hL rfl hrun (fun rr1 e1 => Z_runS (rest := []) C hH (m_X1_requireArgument hl9 e1) wS_X1_131 rfl ⟨by decide, by decide⟩ rfl (Nat.le_of_ble_eq_true rfl) hl.1 dX1_define_41) (fun _ h13 H locs cells slots hH hL hrun => ?_)
  refine V_aload_n (pc := 44) hx hb dX1_define_44 rfl (lv_at hl 0 rfl) ?_
  obtain ⟨c16, hrun⟩ := gd_some hrun
  refine V_bd (pc := 45) C hL rfl hrun (fun rr1 e1 => Z_runV (rest := []) C hH (m_X1_isDone hl9 e1) wV_X1_225 c16 rfl (by decide) rfl rfl ⟨by decide, by decide⟩ rfl (Nat.le_of_ble_eq_true rfl) hl.1 dX1_define_45) (fun v14 h15 H locs cells slots hH hL hrun => ?_)
  refine lv_if_ne (tgt := 55) (pc := 48) hx hb dX1_define_48 (by decide) (fun c_ => ?_) (fun c_ => ?_)
  · have hrun := ite_f hrun c_
    refine lv_iconst (v := (0 : Int32)) (pc := 55) hx hb dX1_define_55 (by decide) ?_
    exact b_X1_define_56 C x0 x1 x2 x3 (0 : Int32) h15 H locs cells slots ls hH hL (lv_sub hl [0, 1, 2, 3] rfl) hrun
  · have hrun := ite_t hrun c_
    refine lv_iconst (v := (1 : Int32)) (pc := 51) hx hb dX1_define_51 (by decide) ?_
    refine lv_goto (tgt := 56) (pc := 52) hx hb dX1_define_52 (by decide) ?_
    exact b_X1_define_56 C x0 x1 x2 x3 (1 : Int32) h15 H locs cells slots ls hH hL (lv_sub hl [0, 1, 2, 3] rfl) hrun

theorem b_X1_define_40 {rr : (Int32 ⊕ Ex) × Hp}  (C : CX p l R s m args meth c D Hs cX1_define "Massclaim" 4 (some .int) [] 7 110)  : ∀ (x0 : Nat) (x1 : Int32) (x2 : Int32) (x3 : Int32) (h : Hp) (H : Heap) (locs : List Loc) (cells slots : Nat) (ls : Array Slot), HP D Hs h H → LO Hs locs → lv_has ls 4 [(0, rv x0), (1, .int x1), (2, .int x2), (3, .int x3)] → f_X1_define_40 x0 x1 x2 x3 h = some rr → W p l e R s m args below meth c H locs cells slots (ZM D Hs iI rr below args s) (F0 m 40 ls []) := by
  obtain ⟨⟨hx, hb, hml, hown, hts⟩, -⟩ := id C
  have hl9 := C.2.1.2.2.1
  intro x0 x1 x2 x3 h H locs cells slots ls hH hL hl hrun
  unfold f_X1_define_40 at hrun
  refine lv_iconst (v := (0 : Int32)) (pc := 40) hx hb dX1_define_40 (by decide) ?_
  exact b_X1_define_41 C x0 x1 x2 x3 (0 : Int32) h H locs cells slots ls hH hL (lv_sub hl [0, 1, 2, 3] rfl) hrun

theorem b_X1_define {rr : (Int32 ⊕ Ex) × Hp}  (C : CX p l R s m args meth c D Hs cX1_define "Massclaim" 4 (some .int) [] 7 110)  : ∀ (x0 : Nat) (x1 : Int32) (x2 : Int32) (x3 : Int32) (h : Hp) (H : Heap) (locs : List Loc) (cells slots : Nat) (ls : Array Slot), HP D Hs h H → LO Hs locs → lv_has ls 4 [(0, rv x0), (1, .int x1), (2, .int x2), (3, .int x3)] → f_X1_define x0 x1 x2 x3 h = some rr → W p l e R s m args below meth c H locs cells slots (ZM D Hs iI rr below args s) (F0 m 0 ls []) := by
  obtain ⟨⟨hx, hb, hml, hown, hts⟩, -⟩ := id C
  have hl9 := C.2.1.2.2.1
  intro x0 x1 x2 x3 h H locs cells slots ls hH hL hl hrun
  unfold f_X1_define at hrun
  refine lv_iload_n (pc := 0) hx hb dX1_define_0 rfl (lv_at hl 1 rfl) ?_
  refine lv_i2l (pc := 1) hx hb dX1_define_1 rfl ?_
  refine lv_lconst (v := (1 : Int64)) (pc := 2) hx hb dX1_define_2 (by decide) ?_
  refine lv_ldc2 (pc := 3) hx hb hown (hts _ q886) dX1_define_3 ?_
  refine V_bd (pc := 6) C hL rfl hrun (fun rr1 e1 => Z_runS (rest := []) C hH (m_X1_isIn hl9 e1) wS_X1_127 rfl ⟨by decide, by decide⟩ rfl (Nat.le_of_ble_eq_true rfl) hl.1 dX1_define_6) (fun v17 h18 H locs cells slots hH hL hrun => ?_)
  refine lv_if_eq (tgt := 40) (pc := 9) hx hb dX1_define_9 (by decide) (fun c_ => ?_) (fun c_ => ?_)
  · have hrun := ite_t hrun c_
    exact b_X1_define_40 C x0 x1 x2 x3 h18 H locs cells slots ls hH hL (lv_sub hl [0, 1, 2, 3] rfl) hrun
  · have hrun := ite_f hrun c_
    refine lv_iload_n (pc := 12) hx hb dX1_define_12 rfl (lv_at hl 2 rfl) ?_
    refine lv_i2l (pc := 13) hx hb dX1_define_13 rfl ?_
    refine lv_lconst (v := (1 : Int64)) (pc := 14) hx hb dX1_define_14 (by decide) ?_
    refine lv_ldc2 (pc := 15) hx hb hown (hts _ q887) dX1_define_15 ?_
    refine V_bd (pc := 18) C hL rfl hrun (fun rr1 e1 => Z_runS (rest := []) C hH (m_X1_isIn hl9 e1) wS_X1_127 rfl ⟨by decide, by decide⟩ rfl (Nat.le_of_ble_eq_true rfl) hl.1 dX1_define_18) (fun v19 h20 H locs cells slots hH hL hrun => ?_)
    refine lv_if_eq (tgt := 40) (pc := 21) hx hb dX1_define_21 (by decide) (fun c_ => ?_) (fun c_ => ?_)
    · have hrun := ite_t hrun c_
      exact b_X1_define_40 C x0 x1 x2 x3 h20 H locs cells slots ls hH hL (lv_sub hl [0, 1, 2, 3] rfl) hrun
    · have hrun := ite_f hrun c_
      refine lv_iload_n (pc := 24) hx hb dX1_define_24 rfl (lv_at hl 3 rfl) ?_
      refine lv_i2l (pc := 25) hx hb dX1_define_25 rfl ?_
      refine lv_lconst (v := (0 : Int64)) (pc := 26) hx hb dX1_define_26 (by decide) ?_
      refine lv_ldc2 (pc := 27) hx hb hown (hts _ q593) dX1_define_27 ?_
      refine V_bd (pc := 30) C hL rfl hrun (fun rr1 e1 => Z_runS (rest := []) C hH (m_X1_isIn hl9 e1) wS_X1_127 rfl ⟨by decide, by decide⟩ rfl (Nat.le_of_ble_eq_true rfl) hl.1 dX1_define_30) (fun v21 h22 H locs cells slots hH hL hrun => ?_)
      refine lv_if_eq (tgt := 40) (pc := 33) hx hb dX1_define_33 (by decide) (fun c_ => ?_) (fun c_ => ?_)
      · have hrun := ite_t hrun c_
        exact b_X1_define_40 C x0 x1 x2 x3 h22 H locs cells slots ls hH hL (lv_sub hl [0, 1, 2, 3] rfl) hrun
      · have hrun := ite_f hrun c_
        refine lv_iconst (v := (1 : Int32)) (pc := 36) hx hb dX1_define_36 (by decide) ?_
        refine lv_goto (tgt := 41) (pc := 37) hx hb dX1_define_37 (by decide) ?_
        exact b_X1_define_41 C x0 x1 x2 x3 (1 : Int32) h22 H locs cells slots ls hH hL (lv_sub hl [0, 1, 2, 3] rfl) hrun

theorem m_X1_define {l : Launch} {D : va_G} {Hs : Heap} {h : Hp} {rr : (Int32 ⊕ Ex) × Hp} (hl9 : l.stackTraces = false) {x0 : Nat} {x1 : Int32} {x2 : Int32} {x3 : Int32} (hrun : f_X1_define x0 x1 x2 x3 h = some rr) : CM l yX1_define (ws_ yX1_define cX1_define 4 (some .int)) 7 110 iI [rv x0, .int x1, .int x2, .int x3] D Hs h rr := by
  refine CM.of (lv := [(0, rv x0), (1, .int x1), (2, .int x2), (3, .int x3)]) (plainFor_of_name (by decide)) hl9 (by simp [lv_args, rv_cat, cat_i, cat_l, cat_f, cat_d]) (by simp [lg_sl, rv_cat, cat_i, cat_l, cat_f, cat_d]) ?_
  intro p e R s m args below meth c H ls C hH hl hin
  exact b_X1_define C x0 x1 x2 x3 _ H [] _ _ ls hH (fun _ q => nomatch q) (lv_sub hl [0, 1, 2, 3] rfl) hrun

/-! MassclaimLaw.define(LMassclaim;III[J)I -/
def f_X0_define_15  (y0 : Nat) (h : Hp) : Rt Int32 :=
  some (.inl (1 : Int32), h)
def f_X0_define_19  (y0 : Nat) (h : Hp) : Rt Int32 :=
  some (.inl (2 : Int32), h)
def f_X0_define  (x0 : Nat) (x1 : Int32) (x2 : Int32) (x3 : Int32) (x4 : Nat) (h : Hp) : Rt Int32 :=
  gd (kC h x0 = 1) <| bdH (f_X1_define x0 x1 x2 x3 h)
  (fun v1 h2 => gd (kC h2 x4 = 102 ∧ ixo (0 : Int32) (kN h2 x4)) <| vl (tL h2 x4 ((0 : Int32)).toNatClampNeg (v1.toInt64)) fun h5 => some (.inl (0 : Int32), h5))
  (fun ex6 h7 => if ex6.1 = 902 then
  (f_X0_define_15 ex6.2 h7)
  else
  if ex6.1 = 903 then
  (f_X0_define_19 ex6.2 h7)
  else
  none)
theorem b_X0_define_15 {rr : (Int32 ⊕ Ex) × Hp}  (C : CX p l R s m args meth c D Hs cX0_define "MassclaimLaw" 6 (some .int) [(0, 12, 15, 13), (0, 12, 19, 19)] 8 133)  : ∀ (y0 : Nat) (h : Hp) (H : Heap) (locs : List Loc) (cells slots : Nat) (ls : Array Slot), HP D Hs h H → LO Hs locs → lv_has ls 6 [] → f_X0_define_15 y0 h = some rr → W p l e R s m args below meth c H locs cells slots (ZM D Hs iI rr below args s) (F0 m 15 ls [rv y0]) := by
  obtain ⟨⟨hx, hb, hml, hown, hts⟩, -⟩ := id C
  have hl9 := C.2.1.2.2.1
  intro y0 h H locs cells slots ls hH hL hl hrun
  unfold f_X0_define_15 at hrun
  refine V_astore (i := 5) (lv' := [(5, rv y0)]) (pc := 15) hx hb dX0_define_15 hl (by decide) rfl (fun ls hl => ?_)
  refine lv_iconst (v := (1 : Int32)) (pc := 17) hx hb dX0_define_17 (by decide) ?_
  exact V_iret (pc := 18) C hH hL hrun dX0_define_18

theorem b_X0_define_19 {rr : (Int32 ⊕ Ex) × Hp}  (C : CX p l R s m args meth c D Hs cX0_define "MassclaimLaw" 6 (some .int) [(0, 12, 15, 13), (0, 12, 19, 19)] 8 133)  : ∀ (y0 : Nat) (h : Hp) (H : Heap) (locs : List Loc) (cells slots : Nat) (ls : Array Slot), HP D Hs h H → LO Hs locs → lv_has ls 6 [] → f_X0_define_19 y0 h = some rr → W p l e R s m args below meth c H locs cells slots (ZM D Hs iI rr below args s) (F0 m 19 ls [rv y0]) := by
  obtain ⟨⟨hx, hb, hml, hown, hts⟩, -⟩ := id C
  have hl9 := C.2.1.2.2.1
  intro y0 h H locs cells slots ls hH hL hl hrun
  unfold f_X0_define_19 at hrun
  refine V_astore (i := 5) (lv' := [(5, rv y0)]) (pc := 19) hx hb dX0_define_19 hl (by decide) rfl (fun ls hl => ?_)
  refine lv_iconst (v := (2 : Int32)) (pc := 21) hx hb dX0_define_21 (by decide) ?_
  exact V_iret (pc := 22) C hH hL hrun dX0_define_22

theorem b_X0_define {rr : (Int32 ⊕ Ex) × Hp}  (C : CX p l R s m args meth c D Hs cX0_define "MassclaimLaw" 6 (some .int) [(0, 12, 15, 13), (0, 12, 19, 19)] 8 133)  : ∀ (x0 : Nat) (x1 : Int32) (x2 : Int32) (x3 : Int32) (x4 : Nat) (h : Hp) (H : Heap) (locs : List Loc) (cells slots : Nat) (ls : Array Slot), HP D Hs h H → LO Hs locs → lv_has ls 6 [(0, rv x0), (1, .int x1), (2, .int x2), (3, .int x3), (4, rv x4)] → f_X0_define x0 x1 x2 x3 x4 h = some rr → W p l e R s m args below meth c H locs cells slots (ZM D Hs iI rr below args s) (F0 m 0 ls []) := by
  obtain ⟨⟨hx, hb, hml, hown, hts⟩, -⟩ := id C
  have hl9 := C.2.1.2.2.1
  intro x0 x1 x2 x3 x4 h H locs cells slots ls hH hL hl hrun
  unfold f_X0_define at hrun
  refine V_aload (pc := 0) hx hb dX0_define_0 (lv_at hl 4 rfl) ?_
  refine lv_iconst (v := (0 : Int32)) (pc := 2) hx hb dX0_define_2 (by decide) ?_
  refine V_aload_n (pc := 3) hx hb dX0_define_3 rfl (lv_at hl 0 rfl) ?_
  refine lv_iload_n (pc := 4) hx hb dX0_define_4 rfl (lv_at hl 1 rfl) ?_
  refine lv_iload_n (pc := 5) hx hb dX0_define_5 rfl (lv_at hl 2 rfl) ?_
  refine lv_iload_n (pc := 6) hx hb dX0_define_6 rfl (lv_at hl 3 rfl) ?_
  obtain ⟨c3, hrun⟩ := gd_some hrun
  refine V_bdH (pc := 7) hL hrun (fun rr1 e1 => Z_runV (rest := [.int (0 : Int32), rv x4]) C hH (m_X1_define hl9 e1) wV_X0_31 c3 rfl (by decide) rfl rfl ⟨by decide, by decide⟩ rfl (by simp [csum, rv_cat, cat_i, cat_l, cat_f, cat_d]) hl.1 dX0_define_7) (fun v1 h2 H locs cells slots hH hL hrun => ?_) (fun x_ q_ ce_ h7 H locs cells slots hH hL hrun hc_ hv_ hcl_ => ?_)
  · refine lv_i2l (pc := 10) hx hb dX0_define_10 rfl ?_
    obtain ⟨c4, hrun⟩ := gd_some hrun
    refine V_last (pc := 11) C hH hL dX0_define_11 c4 hrun (fun h5 H locs hH hL hrun => ?_)
    refine lv_goto (tgt := 23) (pc := 12) hx hb dX0_define_12 (by decide) ?_
    refine lv_iconst (v := (0 : Int32)) (pc := 23) hx hb dX0_define_23 (by decide) ?_
    exact V_iret (pc := 24) C hH hL hrun dX0_define_24
  · by_cases n902 : x_ = 902
    · subst n902
      have hrun := ite_t hrun rfl
      refine vx_catch (E := "java/lang/IllegalArgumentException") (name := "java/lang/IllegalArgumentException") hown (tableOf []) ⟨0, 12, 15, 13⟩ (tableOf [(0, 12, 19, 19)]) (by rw [C.2.1.2.2.2.2]; rfl) (fun z hz => nomatch hz) (by decide) (by decide) (hts _ q449) (va_Nw.use rfl (C.2.1.2.2.2.1.2.1 _ q463 rfl)) hc_ hv_ hcl_ ?_
      exact b_X0_define_15 C (q_ + 1) h7 H locs cells slots ls hH hL (lv_sub hl [] rfl) hrun
    have hrun := ite_f hrun n902
    by_cases n903 : x_ = 903
    · subst n903
      have hrun := ite_t hrun rfl
      refine vx_catch (E := "java/lang/IllegalStateException") (name := "java/lang/IllegalStateException") hown (tableOf [(0, 12, 15, 13)]) ⟨0, 12, 19, 19⟩ (tableOf []) (by rw [C.2.1.2.2.2.2]; rfl) (fun z hz => by simp only [tableOf, List.map, List.mem_cons, List.not_mem_nil, or_false] at hz; rcases hz with rfl <;> first | exact Or.inr ⟨by decide, "java/lang/IllegalArgumentException", hts _ q449, nc_at C (by decide)⟩) (by decide) (by decide) (hts _ q585) (va_Nw.use rfl (C.2.1.2.2.2.1.2.1 _ q702 rfl)) hc_ hv_ hcl_ ?_
      exact b_X0_define_19 C (q_ + 1) h7 H locs cells slots ls hH hL (lv_sub hl [] rfl) hrun
    have hrun := ite_f hrun n903
    cases hrun

theorem m_X0_define {l : Launch} {D : va_G} {Hs : Heap} {h : Hp} {rr : (Int32 ⊕ Ex) × Hp} (hl9 : l.stackTraces = false) {x0 : Nat} {x1 : Int32} {x2 : Int32} {x3 : Int32} {x4 : Nat} (hrun : f_X0_define x0 x1 x2 x3 x4 h = some rr) : CM l yX0_define (wsW_ yX0_define cX0_define 6 (some .int) [(0, 12, 15, 13), (0, 12, 19, 19)]) 8 133 iI [rv x0, .int x1, .int x2, .int x3, rv x4] D Hs h rr := by
  refine CM.ofH (lv := [(0, rv x0), (1, .int x1), (2, .int x2), (3, .int x3), (4, rv x4)]) (plainFor_of_name (by decide)) hl9 (by simp [lv_args, rv_cat, cat_i, cat_l, cat_f, cat_d]) (by simp [lg_sl, rv_cat, cat_i, cat_l, cat_f, cat_d]) ?_
  intro p e R s m args below meth c H ls C hH hl hin
  exact b_X0_define C x0 x1 x2 x3 x4 _ H [] _ _ ls hH (fun _ q => nomatch q) (lv_sub hl [0, 1, 2, 3, 4] rfl) hrun

/-! MassclaimModel.isOver()Z -/
def f_X4_isOver_21  (y0 : Int32) (h : Hp) : Rt Int32 :=
  gd (b01 y0) <| some (.inl y0, h)
def f_X4_isOver_16  (h : Hp) : Rt Int32 :=
  f_X4_isOver_21 (1 : Int32) h
def f_X4_isOver  (x0 : Nat) (h : Hp) : Rt Int32 :=
  gd (kC h x0 = 4) <| if (kI h 309 x0) = (3 : Int32) then
  (f_X4_isOver_16  h)
  else
  (if (kI h 309 x0) = (5 : Int32) then
  (f_X4_isOver_16  h)
  else
  (f_X4_isOver_21 (0 : Int32) h))
theorem b_X4_isOver_21 {rr : (Int32 ⊕ Ex) × Hp}  (C : CX p l R s m args meth c D Hs cX4_isOver "MassclaimModel" 1 (some .boolean) [] 1 0)  : ∀ (y0 : Int32) (h : Hp) (H : Heap) (locs : List Loc) (cells slots : Nat) (ls : Array Slot), HP D Hs h H → LO Hs locs → lv_has ls 1 [] → f_X4_isOver_21 y0 h = some rr → W p l e R s m args below meth c H locs cells slots (ZM D Hs iI rr below args s) (F0 m 21 ls [.int y0]) := by
  obtain ⟨⟨hx, hb, hml, hown, hts⟩, -⟩ := id C
  have hl9 := C.2.1.2.2.1
  intro y0 h H locs cells slots ls hH hL hl hrun
  unfold f_X4_isOver_21 at hrun
  obtain ⟨c1, hrun⟩ := gd_some hrun
  exact V_zret (pc := 21) C hH hL c1 hrun dX4_isOver_21

theorem b_X4_isOver_16 {rr : (Int32 ⊕ Ex) × Hp}  (C : CX p l R s m args meth c D Hs cX4_isOver "MassclaimModel" 1 (some .boolean) [] 1 0)  : ∀ (h : Hp) (H : Heap) (locs : List Loc) (cells slots : Nat) (ls : Array Slot), HP D Hs h H → LO Hs locs → lv_has ls 1 [] → f_X4_isOver_16 h = some rr → W p l e R s m args below meth c H locs cells slots (ZM D Hs iI rr below args s) (F0 m 16 ls []) := by
  obtain ⟨⟨hx, hb, hml, hown, hts⟩, -⟩ := id C
  have hl9 := C.2.1.2.2.1
  intro h H locs cells slots ls hH hL hl hrun
  unfold f_X4_isOver_16 at hrun
  refine lv_iconst (v := (1 : Int32)) (pc := 16) hx hb dX4_isOver_16 (by decide) ?_
  refine lv_goto (tgt := 21) (pc := 17) hx hb dX4_isOver_17 (by decide) ?_
  exact b_X4_isOver_21 C (1 : Int32) h H locs cells slots ls hH hL (lv_sub hl [] rfl) hrun

theorem b_X4_isOver {rr : (Int32 ⊕ Ex) × Hp}  (C : CX p l R s m args meth c D Hs cX4_isOver "MassclaimModel" 1 (some .boolean) [] 1 0)  : ∀ (x0 : Nat) (h : Hp) (H : Heap) (locs : List Loc) (cells slots : Nat) (ls : Array Slot), HP D Hs h H → LO Hs locs → lv_has ls 1 [(0, rv x0)] → f_X4_isOver x0 h = some rr → W p l e R s m args below meth c H locs cells slots (ZM D Hs iI rr below args s) (F0 m 0 ls []) := by
  obtain ⟨⟨hx, hb, hml, hown, hts⟩, -⟩ := id C
  have hl9 := C.2.1.2.2.1
  intro x0 h H locs cells slots ls hH hL hl hrun
  unfold f_X4_isOver at hrun
  refine V_aload_n (pc := 0) hx hb dX4_isOver_0 rfl (lv_at hl 0 rfl) ?_
  obtain ⟨c2, hrun⟩ := gd_some hrun
  refine V_getI (pc := 1) C hH fr_X4_53 dX4_isOver_1 c2 rfl ?_
  refine lv_iconst (v := (3 : Int32)) (pc := 4) hx hb dX4_isOver_4 (by decide) ?_
  refine lv_icmp_eq (tgt := 16) (pc := 5) hx hb dX4_isOver_5 (by decide) (fun c_ => ?_) (fun c_ => ?_)
  · have hrun := ite_t hrun c_
    exact b_X4_isOver_16 C h H locs cells slots ls hH hL (lv_sub hl [] rfl) hrun
  · have hrun := ite_f hrun c_
    refine V_aload_n (pc := 8) hx hb dX4_isOver_8 rfl (lv_at hl 0 rfl) ?_
    refine V_getI (pc := 9) C hH fr_X4_53 dX4_isOver_9 c2 rfl ?_
    refine lv_iconst (v := (5 : Int32)) (pc := 12) hx hb dX4_isOver_12 (by decide) ?_
    refine lv_icmp_ne (tgt := 20) (pc := 13) hx hb dX4_isOver_13 (by decide) (fun c_ => ?_) (fun c_ => ?_)
    · have hrun := ite_f hrun c_
      refine lv_iconst (v := (0 : Int32)) (pc := 20) hx hb dX4_isOver_20 (by decide) ?_
      exact b_X4_isOver_21 C (0 : Int32) h H locs cells slots ls hH hL (lv_sub hl [] rfl) hrun
    · have hrun := ite_t hrun c_
      exact b_X4_isOver_16 C h H locs cells slots ls hH hL (lv_sub hl [] rfl) hrun

theorem m_X4_isOver {l : Launch} {D : va_G} {Hs : Heap} {h : Hp} {rr : (Int32 ⊕ Ex) × Hp} (hl9 : l.stackTraces = false) {x0 : Nat} (hrun : f_X4_isOver x0 h = some rr) : CM l yX4_isOver (ws_ yX4_isOver cX4_isOver 1 (some .boolean)) 1 0 iI [rv x0] D Hs h rr := by
  refine CM.of (lv := [(0, rv x0)]) (plainFor_of_name (by decide)) hl9 (by simp [lv_args, rv_cat, cat_i, cat_l, cat_f, cat_d]) (by simp [lg_sl, rv_cat, cat_i, cat_l, cat_f, cat_d]) ?_
  intro p e R s m args below meth c H ls C hH hl hin
  exact b_X4_isOver C x0 _ H [] _ _ ls hH (fun _ q => nomatch q) (lv_sub hl [0] rfl) hrun

/-! MassclaimModel.allIn()I -/
def f_X4_allIn_39 (k4 : Nat → Int32 → Int32 → Hp → Rt Int32) (x0 : Nat) (x2 : Int32) (y0 : Int32) (y1 : Int32) (h : Hp) : Rt Int32 :=
  vl (y0 + y1) fun v1 => vl (x2 + (1 : Int32)) fun v2 => k4 x0 v1 v2 h
def f_X4_allIn_4  : Nat → Nat → Int32 → Int32 → Hp → Rt Int32
  | 0, _, _, _, _ => none
  | n + 1, x0, x1, x2, h => gd (kC h x0 = 4) <| gd (kC h (kR h 302 x0) = 18) <| bd (f_J2_size (kR h 302 x0) h) fun v4 h5 => if v4 ≤ x2 then
  (some (.inl x1, h5))
  else
  (gd (kC h5 x0 = 4) <| gd (kC h5 (kR h5 302 x0) = 18) <| bd (f_J2_get (kR h5 302 x0) x2 h5) fun v8 h9 => gd (v8 = 0 ∨ kC h9 v8 = 6) <| gd (kC h9 x0 = 4) <| bd (f_X4_isIn x0 v8 h9) fun v12 h13 => if v12 = 0 then
  (f_X4_allIn_39 (f_X4_allIn_4 n) x0 x2 x1 (0 : Int32) h13)
  else
  (f_X4_allIn_39 (f_X4_allIn_4 n) x0 x2 x1 (1 : Int32) h13))
def f_X4_allIn  (x0 : Nat) (h : Hp) : Rt Int32 :=
  f_X4_allIn_4 FU x0 (0 : Int32) (0 : Int32) h
theorem b_X4_allIn_39 {rr : (Int32 ⊕ Ex) × Hp} {k4 : Nat → Int32 → Int32 → Hp → Rt Int32} (C : CX p l R s m args meth c D Hs cX4_allIn "MassclaimModel" 3 (some .int) [] 4 64) (K4 : ∀ (x0 : Nat) (x1 : Int32) (x2 : Int32) (h : Hp) (H : Heap) (locs : List Loc) (cells slots : Nat) (ls : Array Slot), HP D Hs h H → LO Hs locs → lv_has ls 3 [(0, rv x0), (1, .int x1), (2, .int x2)] → k4 x0 x1 x2 h = some rr → W p l e R s m args below meth c H locs cells slots (ZM D Hs iI rr below args s) (F0 m 4 ls [])) : ∀ (x0 : Nat) (x2 : Int32) (y0 : Int32) (y1 : Int32) (h : Hp) (H : Heap) (locs : List Loc) (cells slots : Nat) (ls : Array Slot), HP D Hs h H → LO Hs locs → lv_has ls 3 [(0, rv x0), (2, .int x2)] → f_X4_allIn_39 k4 x0 x2 y0 y1 h = some rr → W p l e R s m args below meth c H locs cells slots (ZM D Hs iI rr below args s) (F0 m 39 ls [.int y1, .int y0]) := by
  obtain ⟨⟨hx, hb, hml, hown, hts⟩, -⟩ := id C
  have hl9 := C.2.1.2.2.1
  intro x0 x2 y0 y1 h H locs cells slots ls hH hL hl hrun
  unfold f_X4_allIn_39 at hrun
  refine lv_iadd (pc := 39) hx hb dX4_allIn_39 ?_
  refine lv_topi (fun v1 ev1 => ?_)
  have hrun := vl_at hrun v1 ev1
  refine lv_istore_n (i := 1) (lv' := [(1, .int v1), (0, rv x0), (2, .int x2)]) (pc := 40) hx hb dX4_allIn_40 rfl hl (by decide) (by simp [rv_cat, cat_i, cat_l, cat_f, cat_d]) (fun ls hl => ?_)
  obtain ⟨v2, ev2⟩ : ∃ y : Int32, y = x2 + (1 : Int32) := ⟨_, rfl⟩
  have hrun := vl_at hrun v2 ev2
  refine lv_iinc (v := v2) (lv' := [(2, .int v2), (1, .int v1), (0, rv x0)]) (pc := 41) hx hb dX4_allIn_41 hl (k := 2) rfl (by rw [ev2]; rfl) (by decide) (by first | rfl | simp [rv_cat, cat_i, cat_l, cat_f, cat_d]) (fun ls hl => ?_)
  refine lv_goto (tgt := 4) (pc := 44) hx hb dX4_allIn_44 (by decide) ?_
  exact K4 x0 v1 v2 h H locs cells slots ls hH hL (lv_sub hl [2, 1, 0] rfl) hrun

theorem b_X4_allIn_4 {rr : (Int32 ⊕ Ex) × Hp}  (C : CX p l R s m args meth c D Hs cX4_allIn "MassclaimModel" 3 (some .int) [] 4 64)  : ∀ (n : Nat) (x0 : Nat) (x1 : Int32) (x2 : Int32) (h : Hp) (H : Heap) (locs : List Loc) (cells slots : Nat) (ls : Array Slot), HP D Hs h H → LO Hs locs → lv_has ls 3 [(0, rv x0), (1, .int x1), (2, .int x2)] → f_X4_allIn_4 n x0 x1 x2 h = some rr → W p l e R s m args below meth c H locs cells slots (ZM D Hs iI rr below args s) (F0 m 4 ls []) := by
  obtain ⟨⟨hx, hb, hml, hown, hts⟩, -⟩ := id C
  have hl9 := C.2.1.2.2.1
  intro n
  induction n with
  | zero =>
    intro x0 x1 x2 h H locs cells slots ls hH hL hl hrun
    cases (show (none : Option _) = some rr from hrun)
  | succ n ih =>
    intro x0 x1 x2 h H locs cells slots ls hH hL hl hrun
    rw [f_X4_allIn_4] at hrun
    refine lv_iload_n (pc := 4) hx hb dX4_allIn_4 rfl (lv_at hl 2 rfl) ?_
    refine V_aload_n (pc := 5) hx hb dX4_allIn_5 rfl (lv_at hl 0 rfl) ?_
    obtain ⟨c3, hrun⟩ := gd_some hrun
    refine V_getR (pc := 6) C hH fr_X4_16 dX4_allIn_6 c3 rfl ?_
    obtain ⟨c6, hrun⟩ := gd_some hrun
    refine V_bd (pc := 9) C hL rfl hrun (fun rr1 e1 => Z_runV (rest := [.int x2]) C hH (m_J2_size hl9 e1) wV_X4_94 c6 rfl (by decide) rfl rfl ⟨by decide, by decide⟩ rfl (Nat.le_of_ble_eq_true rfl) hl.1 dX4_allIn_9) (fun v4 h5 H locs cells slots hH hL hrun => ?_)
    refine lv_icmp_ge (tgt := 47) (pc := 12) hx hb dX4_allIn_12 (by decide) (fun c_ => ?_) (fun c_ => ?_)
    · have hrun := ite_t hrun c_
      refine lv_iload_n (pc := 47) hx hb dX4_allIn_47 rfl (lv_at hl 1 rfl) ?_
      exact V_iret (pc := 48) C hH hL hrun dX4_allIn_48
    · have hrun := ite_f hrun c_
      refine lv_iload_n (pc := 15) hx hb dX4_allIn_15 rfl (lv_at hl 1 rfl) ?_
      refine V_aload_n (pc := 16) hx hb dX4_allIn_16 rfl (lv_at hl 0 rfl) ?_
      refine V_aload_n (pc := 17) hx hb dX4_allIn_17 rfl (lv_at hl 0 rfl) ?_
      obtain ⟨c7, hrun⟩ := gd_some hrun
      refine V_getR (pc := 18) C hH fr_X4_16 dX4_allIn_18 c7 rfl ?_
      refine lv_iload_n (pc := 21) hx hb dX4_allIn_21 rfl (lv_at hl 2 rfl) ?_
      obtain ⟨c10, hrun⟩ := gd_some hrun
      refine V_bd (pc := 22) C hL rfl hrun (fun rr1 e1 => Z_runV (rest := [rv x0, .int x1]) C hH (m_J2_get hl9 e1) wV_X4_108 c10 rfl (by decide) rfl rfl ⟨by decide, by decide⟩ rfl (by simp [csum, rv_cat, cat_i, cat_l, cat_f, cat_d]) hl.1 dX4_allIn_22) (fun v8 h9 H locs cells slots hH hL hrun => ?_)
      obtain ⟨c11, hrun⟩ := gd_some hrun
      refine V_castX (pc := 25) (ci := 5) C hH rfl (by decide) q1946 dX4_allIn_25 c11 ?_
      obtain ⟨c14, hrun⟩ := gd_some hrun
      refine V_bd (pc := 28) C hL rfl hrun (fun rr1 e1 => Z_runV (rest := [.int x1]) C hH (m_X4_isIn hl9 e1) wV_X4_120 c14 rfl (by decide) rfl rfl ⟨by decide, by decide⟩ rfl (Nat.le_of_ble_eq_true rfl) hl.1 dX4_allIn_28) (fun v12 h13 H locs cells slots hH hL hrun => ?_)
      refine lv_if_eq (tgt := 38) (pc := 31) hx hb dX4_allIn_31 (by decide) (fun c_ => ?_) (fun c_ => ?_)
      · have hrun := ite_t hrun c_
        refine lv_iconst (v := (0 : Int32)) (pc := 38) hx hb dX4_allIn_38 (by decide) ?_
        exact b_X4_allIn_39 C ih x0 x2 x1 (0 : Int32) h13 H locs cells slots ls hH hL (lv_sub hl [0, 2] rfl) hrun
      · have hrun := ite_f hrun c_
        refine lv_iconst (v := (1 : Int32)) (pc := 34) hx hb dX4_allIn_34 (by decide) ?_
        refine lv_goto (tgt := 39) (pc := 35) hx hb dX4_allIn_35 (by decide) ?_
        exact b_X4_allIn_39 C ih x0 x2 x1 (1 : Int32) h13 H locs cells slots ls hH hL (lv_sub hl [0, 2] rfl) hrun

theorem b_X4_allIn {rr : (Int32 ⊕ Ex) × Hp}  (C : CX p l R s m args meth c D Hs cX4_allIn "MassclaimModel" 3 (some .int) [] 4 64)  : ∀ (x0 : Nat) (h : Hp) (H : Heap) (locs : List Loc) (cells slots : Nat) (ls : Array Slot), HP D Hs h H → LO Hs locs → lv_has ls 3 [(0, rv x0)] → f_X4_allIn x0 h = some rr → W p l e R s m args below meth c H locs cells slots (ZM D Hs iI rr below args s) (F0 m 0 ls []) := by
  obtain ⟨⟨hx, hb, hml, hown, hts⟩, -⟩ := id C
  have hl9 := C.2.1.2.2.1
  intro x0 h H locs cells slots ls hH hL hl hrun
  unfold f_X4_allIn at hrun
  refine lv_iconst (v := (0 : Int32)) (pc := 0) hx hb dX4_allIn_0 (by decide) ?_
  refine lv_istore_n (i := 1) (lv' := [(1, .int (0 : Int32)), (0, rv x0)]) (pc := 1) hx hb dX4_allIn_1 rfl hl (by decide) (by simp [rv_cat, cat_i, cat_l, cat_f, cat_d]) (fun ls hl => ?_)
  refine lv_iconst (v := (0 : Int32)) (pc := 2) hx hb dX4_allIn_2 (by decide) ?_
  refine lv_istore_n (i := 2) (lv' := [(2, .int (0 : Int32)), (1, .int (0 : Int32)), (0, rv x0)]) (pc := 3) hx hb dX4_allIn_3 rfl hl (by decide) rfl (fun ls hl => ?_)
  exact b_X4_allIn_4 C FU x0 (0 : Int32) (0 : Int32) h H locs cells slots ls hH hL (lv_sub hl [2, 1, 0] rfl) hrun

theorem m_X4_allIn {l : Launch} {D : va_G} {Hs : Heap} {h : Hp} {rr : (Int32 ⊕ Ex) × Hp} (hl9 : l.stackTraces = false) {x0 : Nat} (hrun : f_X4_allIn x0 h = some rr) : CM l yX4_allIn (ws_ yX4_allIn cX4_allIn 3 (some .int)) 4 64 iI [rv x0] D Hs h rr := by
  refine CM.of (lv := [(0, rv x0)]) (plainFor_of_name (by decide)) hl9 (by simp [lv_args, rv_cat, cat_i, cat_l, cat_f, cat_d]) (by simp [lg_sl, rv_cat, cat_i, cat_l, cat_f, cat_d]) ?_
  intro p e R s m args below meth c H ls C hH hl hin
  exact b_X4_allIn C x0 _ H [] _ _ ls hH (fun _ q => nomatch q) (lv_sub hl [0] rfl) hrun

/-! MassclaimModel.define(III)I -/
def f_X4_define_73  (h : Hp) : Rt Int32 :=
  some (.inl (0 : Int32), h)
def f_X4_define_66  (x0 : Nat) (x1 : Int32) (x2 : Int32) (x3 : Int32) (y0 : Nat) (y1 : Int32) (h : Hp) : Rt Int32 :=
  gd (kC h y0 = 4) <| bd (f_X4_isGood y0 y1 (2 : Int32) h) fun v1 h2 => if v1 = 0 then
  (f_X4_define_73  h2)
  else
  (gd (kC h2 x0 = 4) <| vl (sI h2 303 x0 (1 : Int32)) fun h5 => gd (kC h5 x0 = 4) <| vl (sI h5 304 x0 x1) fun h7 => gd (kC h7 x0 = 4) <| vl (sI h7 305 x0 x2) fun h9 => gd (kC h9 x0 = 4) <| vl (sI h9 306 x0 x3) fun h11 => gd (kC h11 x0 = 4) <| bd (f_X4_allIn x0 h11) fun v12 h13 => some (.inl v12, h13))
def f_X4_define_41  (x0 : Nat) (x1 : Int32) (x2 : Int32) (x3 : Int32) (y0 : Int32) (h : Hp) : Rt Int32 :=
  gd (kC h x0 = 4) <| bd (f_X4_isGood x0 y0 (1 : Int32) h) fun v15 h16 => if v15 = 0 then
  (f_X4_define_73  h16)
  else
  (gd (kC h16 x0 = 4) <| bd (f_X4_isOver x0 h16) fun v18 h19 => if v18 = 0 then
  (f_X4_define_66 x0 x1 x2 x3 x0 (1 : Int32) h19)
  else
  (f_X4_define_66 x0 x1 x2 x3 x0 (0 : Int32) h19))
def f_X4_define_40  (x0 : Nat) (x1 : Int32) (x2 : Int32) (x3 : Int32) (h : Hp) : Rt Int32 :=
  f_X4_define_41 x0 x1 x2 x3 (0 : Int32) h
def f_X4_define  (x0 : Nat) (x1 : Int32) (x2 : Int32) (x3 : Int32) (h : Hp) : Rt Int32 :=
  bd (f_X4_isWithin (x1.toInt64) (1 : Int64) (15 : Int64) h) fun v21 h22 => if v21 = 0 then
  (f_X4_define_40 x0 x1 x2 x3 h22)
  else
  (bd (f_X4_isWithin (x2.toInt64) (1 : Int64) (1023 : Int64) h22) fun v23 h24 => if v23 = 0 then
  (f_X4_define_40 x0 x1 x2 x3 h24)
  else
  (bd (f_X4_isWithin (x3.toInt64) (0 : Int64) (600 : Int64) h24) fun v25 h26 => if v25 = 0 then
  (f_X4_define_40 x0 x1 x2 x3 h26)
  else
  (f_X4_define_41 x0 x1 x2 x3 (1 : Int32) h26)))
theorem b_X4_define_73 {rr : (Int32 ⊕ Ex) × Hp}  (C : CX p l R s m args meth c D Hs cX4_define "MassclaimModel" 5 (some .int) [] 5 86)  : ∀ (h : Hp) (H : Heap) (locs : List Loc) (cells slots : Nat) (ls : Array Slot), HP D Hs h H → LO Hs locs → lv_has ls 5 [] → f_X4_define_73 h = some rr → W p l e R s m args below meth c H locs cells slots (ZM D Hs iI rr below args s) (F0 m 73 ls []) := by
  obtain ⟨⟨hx, hb, hml, hown, hts⟩, -⟩ := id C
  have hl9 := C.2.1.2.2.1
  intro h H locs cells slots ls hH hL hl hrun
  unfold f_X4_define_73 at hrun
  refine lv_iconst (v := (0 : Int32)) (pc := 73) hx hb dX4_define_73 (by decide) ?_
  exact V_iret (pc := 74) C hH hL hrun dX4_define_74

theorem b_X4_define_66 {rr : (Int32 ⊕ Ex) × Hp}  (C : CX p l R s m args meth c D Hs cX4_define "MassclaimModel" 5 (some .int) [] 5 86)  : ∀ (x0 : Nat) (x1 : Int32) (x2 : Int32) (x3 : Int32) (y0 : Nat) (y1 : Int32) (h : Hp) (H : Heap) (locs : List Loc) (cells slots : Nat) (ls : Array Slot), HP D Hs h H → LO Hs locs → lv_has ls 5 [(0, rv x0), (1, .int x1), (2, .int x2), (3, .int x3)] → f_X4_define_66 x0 x1 x2 x3 y0 y1 h = some rr → W p l e R s m args below meth c H locs cells slots (ZM D Hs iI rr below args s) (F0 m 66 ls [.int y1, rv y0]) := by
  obtain ⟨⟨hx, hb, hml, hown, hts⟩, -⟩ := id C
  have hl9 := C.2.1.2.2.1
  intro x0 x1 x2 x3 y0 y1 h H locs cells slots ls hH hL hl hrun
  unfold f_X4_define_66 at hrun
  refine lv_iconst (v := (2 : Int32)) (pc := 66) hx hb dX4_define_66 (by decide) ?_
  obtain ⟨c3, hrun⟩ := gd_some hrun
  refine V_bd (pc := 67) C hL rfl hrun (fun rr1 e1 => Z_runV (rest := []) C hH (m_X4_isGood hl9 e1) wV_X4_104 c3 rfl (by decide) rfl rfl ⟨by decide, by decide⟩ rfl (Nat.le_of_ble_eq_true rfl) hl.1 dX4_define_67) (fun v1 h2 H locs cells slots hH hL hrun => ?_)
  refine lv_if_ne (tgt := 75) (pc := 70) hx hb dX4_define_70 (by decide) (fun c_ => ?_) (fun c_ => ?_)
  · have hrun := ite_f hrun c_
    refine V_aload_n (pc := 75) hx hb dX4_define_75 rfl (lv_at hl 0 rfl) ?_
    refine lv_iconst (v := (1 : Int32)) (pc := 76) hx hb dX4_define_76 (by decide) ?_
    obtain ⟨c4, hrun⟩ := gd_some hrun
    refine V_putI (pc := 77) C hH hL fl_X4_49 dX4_define_77 c4 (fok_z (Or.inr rfl)) rfl (fun q => Bool.noConfusion q) hrun (fun h5 H locs hH hL hrun => ?_)
    refine V_aload_n (pc := 80) hx hb dX4_define_80 rfl (lv_at hl 0 rfl) ?_
    refine lv_iload_n (pc := 81) hx hb dX4_define_81 rfl (lv_at hl 1 rfl) ?_
    obtain ⟨c6, hrun⟩ := gd_some hrun
    refine V_putI (pc := 82) C hH hL fl_X4_213 dX4_define_82 c6 (fok_i _) rfl (fun q => Bool.noConfusion q) hrun (fun h7 H locs hH hL hrun => ?_)
    refine V_aload_n (pc := 85) hx hb dX4_define_85 rfl (lv_at hl 0 rfl) ?_
    refine lv_iload_n (pc := 86) hx hb dX4_define_86 rfl (lv_at hl 2 rfl) ?_
    obtain ⟨c8, hrun⟩ := gd_some hrun
    refine V_putI (pc := 87) C hH hL fl_X4_216 dX4_define_87 c8 (fok_i _) rfl (fun q => Bool.noConfusion q) hrun (fun h9 H locs hH hL hrun => ?_)
    refine V_aload_n (pc := 90) hx hb dX4_define_90 rfl (lv_at hl 0 rfl) ?_
    refine lv_iload_n (pc := 91) hx hb dX4_define_91 rfl (lv_at hl 3 rfl) ?_
    obtain ⟨c10, hrun⟩ := gd_some hrun
    refine V_putI (pc := 92) C hH hL fl_X4_219 dX4_define_92 c10 (fok_i _) rfl (fun q => Bool.noConfusion q) hrun (fun h11 H locs hH hL hrun => ?_)
    refine V_aload_n (pc := 95) hx hb dX4_define_95 rfl (lv_at hl 0 rfl) ?_
    obtain ⟨c14, hrun⟩ := gd_some hrun
    refine V_bd (pc := 96) C hL rfl hrun (fun rr1 e1 => Z_runV (rest := []) C hH (m_X4_allIn hl9 e1) wV_X4_235 c14 rfl (by decide) rfl rfl ⟨by decide, by decide⟩ rfl (Nat.le_of_ble_eq_true rfl) hl.1 dX4_define_96) (fun v12 h13 H locs cells slots hH hL hrun => ?_)
    exact V_iret (pc := 99) C hH hL hrun dX4_define_99
  · have hrun := ite_t hrun c_
    exact b_X4_define_73 C h2 H locs cells slots ls hH hL (lv_sub hl [] rfl) hrun

theorem b_X4_define_41 {rr : (Int32 ⊕ Ex) × Hp}  (C : CX p l R s m args meth c D Hs cX4_define "MassclaimModel" 5 (some .int) [] 5 86)  : ∀ (x0 : Nat) (x1 : Int32) (x2 : Int32) (x3 : Int32) (y0 : Int32) (h : Hp) (H : Heap) (locs : List Loc) (cells slots : Nat) (ls : Array Slot), HP D Hs h H → LO Hs locs → lv_has ls 5 [(0, rv x0), (1, .int x1), (2, .int x2), (3, .int x3)] → f_X4_define_41 x0 x1 x2 x3 y0 h = some rr → W p l e R s m args below meth c H locs cells slots (ZM D Hs iI rr below args s) (F0 m 41 ls [.int y0]) := by
  obtain ⟨⟨hx, hb, hml, hown, hts⟩, -⟩ := id C
  have hl9 := C.2.1.2.2.1
  intro x0 x1 x2 x3 y0 h H locs cells slots ls hH hL hl hrun
  unfold f_X4_define_41 at hrun
  refine lv_istore (i := 4) (lv' := [(4, .int y0), (0, rv x0), (1, .int x1), (2, .int x2), (3, .int x3)]) (pc := 41) hx hb dX4_define_41 hl (by decide) rfl (fun ls hl => ?_)
  refine V_aload_n (pc := 43) hx hb dX4_define_43 rfl (lv_at hl 1 rfl) ?_
  refine lv_iload (pc := 44) hx hb dX4_define_44 (lv_at hl 0 rfl) ?_
  refine lv_iconst (v := (1 : Int32)) (pc := 46) hx hb dX4_define_46 (by decide) ?_
  obtain ⟨c17, hrun⟩ := gd_some hrun
  refine V_bd (pc := 47) C hL rfl hrun (fun rr1 e1 => Z_runV (rest := []) C hH (m_X4_isGood hl9 e1) wV_X4_104 c17 rfl (by decide) rfl rfl ⟨by decide, by decide⟩ rfl (Nat.le_of_ble_eq_true rfl) hl.1 dX4_define_47) (fun v15 h16 H locs cells slots hH hL hrun => ?_)
  refine lv_if_eq (tgt := 73) (pc := 50) hx hb dX4_define_50 (by decide) (fun c_ => ?_) (fun c_ => ?_)
  · have hrun := ite_t hrun c_
    exact b_X4_define_73 C h16 H locs cells slots ls hH hL (lv_sub hl [] rfl) hrun
  · have hrun := ite_f hrun c_
    refine V_aload_n (pc := 53) hx hb dX4_define_53 rfl (lv_at hl 1 rfl) ?_
    refine V_aload_n (pc := 54) hx hb dX4_define_54 rfl (lv_at hl 1 rfl) ?_
    obtain ⟨c20, hrun⟩ := gd_some hrun
    refine V_bd (pc := 55) C hL rfl hrun (fun rr1 e1 => Z_runV (rest := [rv x0]) C hH (m_X4_isOver hl9 e1) wV_X4_232 c20 rfl (by decide) rfl rfl ⟨by decide, by decide⟩ rfl (by simp [csum, rv_cat, cat_i, cat_l, cat_f, cat_d]) hl.1 dX4_define_55) (fun v18 h19 H locs cells slots hH hL hrun => ?_)
    refine lv_if_ne (tgt := 65) (pc := 58) hx hb dX4_define_58 (by decide) (fun c_ => ?_) (fun c_ => ?_)
    · have hrun := ite_f hrun c_
      refine lv_iconst (v := (0 : Int32)) (pc := 65) hx hb dX4_define_65 (by decide) ?_
      exact b_X4_define_66 C x0 x1 x2 x3 x0 (0 : Int32) h19 H locs cells slots ls hH hL (lv_sub hl [1, 2, 3, 4] rfl) hrun
    · have hrun := ite_t hrun c_
      refine lv_iconst (v := (1 : Int32)) (pc := 61) hx hb dX4_define_61 (by decide) ?_
      refine lv_goto (tgt := 66) (pc := 62) hx hb dX4_define_62 (by decide) ?_
      exact b_X4_define_66 C x0 x1 x2 x3 x0 (1 : Int32) h19 H locs cells slots ls hH hL (lv_sub hl [1, 2, 3, 4] rfl) hrun

theorem b_X4_define_40 {rr : (Int32 ⊕ Ex) × Hp}  (C : CX p l R s m args meth c D Hs cX4_define "MassclaimModel" 5 (some .int) [] 5 86)  : ∀ (x0 : Nat) (x1 : Int32) (x2 : Int32) (x3 : Int32) (h : Hp) (H : Heap) (locs : List Loc) (cells slots : Nat) (ls : Array Slot), HP D Hs h H → LO Hs locs → lv_has ls 5 [(0, rv x0), (1, .int x1), (2, .int x2), (3, .int x3)] → f_X4_define_40 x0 x1 x2 x3 h = some rr → W p l e R s m args below meth c H locs cells slots (ZM D Hs iI rr below args s) (F0 m 40 ls []) := by
  obtain ⟨⟨hx, hb, hml, hown, hts⟩, -⟩ := id C
  have hl9 := C.2.1.2.2.1
  intro x0 x1 x2 x3 h H locs cells slots ls hH hL hl hrun
  unfold f_X4_define_40 at hrun
  refine lv_iconst (v := (0 : Int32)) (pc := 40) hx hb dX4_define_40 (by decide) ?_
  exact b_X4_define_41 C x0 x1 x2 x3 (0 : Int32) h H locs cells slots ls hH hL (lv_sub hl [0, 1, 2, 3] rfl) hrun

theorem b_X4_define {rr : (Int32 ⊕ Ex) × Hp}  (C : CX p l R s m args meth c D Hs cX4_define "MassclaimModel" 5 (some .int) [] 5 86)  : ∀ (x0 : Nat) (x1 : Int32) (x2 : Int32) (x3 : Int32) (h : Hp) (H : Heap) (locs : List Loc) (cells slots : Nat) (ls : Array Slot), HP D Hs h H → LO Hs locs → lv_has ls 5 [(0, rv x0), (1, .int x1), (2, .int x2), (3, .int x3)] → f_X4_define x0 x1 x2 x3 h = some rr → W p l e R s m args below meth c H locs cells slots (ZM D Hs iI rr below args s) (F0 m 0 ls []) := by
  obtain ⟨⟨hx, hb, hml, hown, hts⟩, -⟩ := id C
  have hl9 := C.2.1.2.2.1
  intro x0 x1 x2 x3 h H locs cells slots ls hH hL hl hrun
  unfold f_X4_define at hrun
  refine lv_iload_n (pc := 0) hx hb dX4_define_0 rfl (lv_at hl 1 rfl) ?_
  refine lv_i2l (pc := 1) hx hb dX4_define_1 rfl ?_
  refine lv_lconst (v := (1 : Int64)) (pc := 2) hx hb dX4_define_2 (by decide) ?_
  refine lv_ldc2 (pc := 3) hx hb hown (hts _ q2086) dX4_define_3 ?_
  refine V_bd (pc := 6) C hL rfl hrun (fun rr1 e1 => Z_runS (rest := []) C hH (m_X4_isWithin hl9 e1) wS_X4_100 rfl ⟨by decide, by decide⟩ rfl (Nat.le_of_ble_eq_true rfl) hl.1 dX4_define_6) (fun v21 h22 H locs cells slots hH hL hrun => ?_)
  refine lv_if_eq (tgt := 40) (pc := 9) hx hb dX4_define_9 (by decide) (fun c_ => ?_) (fun c_ => ?_)
  · have hrun := ite_t hrun c_
    exact b_X4_define_40 C x0 x1 x2 x3 h22 H locs cells slots ls hH hL (lv_sub hl [0, 1, 2, 3] rfl) hrun
  · have hrun := ite_f hrun c_
    refine lv_iload_n (pc := 12) hx hb dX4_define_12 rfl (lv_at hl 2 rfl) ?_
    refine lv_i2l (pc := 13) hx hb dX4_define_13 rfl ?_
    refine lv_lconst (v := (1 : Int64)) (pc := 14) hx hb dX4_define_14 (by decide) ?_
    refine lv_ldc2 (pc := 15) hx hb hown (hts _ q2087) dX4_define_15 ?_
    refine V_bd (pc := 18) C hL rfl hrun (fun rr1 e1 => Z_runS (rest := []) C hH (m_X4_isWithin hl9 e1) wS_X4_100 rfl ⟨by decide, by decide⟩ rfl (Nat.le_of_ble_eq_true rfl) hl.1 dX4_define_18) (fun v23 h24 H locs cells slots hH hL hrun => ?_)
    refine lv_if_eq (tgt := 40) (pc := 21) hx hb dX4_define_21 (by decide) (fun c_ => ?_) (fun c_ => ?_)
    · have hrun := ite_t hrun c_
      exact b_X4_define_40 C x0 x1 x2 x3 h24 H locs cells slots ls hH hL (lv_sub hl [0, 1, 2, 3] rfl) hrun
    · have hrun := ite_f hrun c_
      refine lv_iload_n (pc := 24) hx hb dX4_define_24 rfl (lv_at hl 3 rfl) ?_
      refine lv_i2l (pc := 25) hx hb dX4_define_25 rfl ?_
      refine lv_lconst (v := (0 : Int64)) (pc := 26) hx hb dX4_define_26 (by decide) ?_
      refine lv_ldc2 (pc := 27) hx hb hown (hts _ q1979) dX4_define_27 ?_
      refine V_bd (pc := 30) C hL rfl hrun (fun rr1 e1 => Z_runS (rest := []) C hH (m_X4_isWithin hl9 e1) wS_X4_100 rfl ⟨by decide, by decide⟩ rfl (Nat.le_of_ble_eq_true rfl) hl.1 dX4_define_30) (fun v25 h26 H locs cells slots hH hL hrun => ?_)
      refine lv_if_eq (tgt := 40) (pc := 33) hx hb dX4_define_33 (by decide) (fun c_ => ?_) (fun c_ => ?_)
      · have hrun := ite_t hrun c_
        exact b_X4_define_40 C x0 x1 x2 x3 h26 H locs cells slots ls hH hL (lv_sub hl [0, 1, 2, 3] rfl) hrun
      · have hrun := ite_f hrun c_
        refine lv_iconst (v := (1 : Int32)) (pc := 36) hx hb dX4_define_36 (by decide) ?_
        refine lv_goto (tgt := 41) (pc := 37) hx hb dX4_define_37 (by decide) ?_
        exact b_X4_define_41 C x0 x1 x2 x3 (1 : Int32) h26 H locs cells slots ls hH hL (lv_sub hl [0, 1, 2, 3] rfl) hrun

theorem m_X4_define {l : Launch} {D : va_G} {Hs : Heap} {h : Hp} {rr : (Int32 ⊕ Ex) × Hp} (hl9 : l.stackTraces = false) {x0 : Nat} {x1 : Int32} {x2 : Int32} {x3 : Int32} (hrun : f_X4_define x0 x1 x2 x3 h = some rr) : CM l yX4_define (ws_ yX4_define cX4_define 5 (some .int)) 5 86 iI [rv x0, .int x1, .int x2, .int x3] D Hs h rr := by
  refine CM.of (lv := [(0, rv x0), (1, .int x1), (2, .int x2), (3, .int x3)]) (plainFor_of_name (by decide)) hl9 (by simp [lv_args, rv_cat, cat_i, cat_l, cat_f, cat_d]) (by simp [lg_sl, rv_cat, cat_i, cat_l, cat_f, cat_d]) ?_
  intro p e R s m args below meth c H ls C hH hl hin
  exact b_X4_define C x0 x1 x2 x3 _ H [] _ _ ls hH (fun _ q => nomatch q) (lv_sub hl [0, 1, 2, 3] rfl) hrun

/-! Massclaim$Subclass.<init>(IIIZ)V -/
def f_X7_init  (x0 : Nat) (x1 : Int32) (x2 : Int32) (x3 : Int32) (x4 : Int32) (h : Hp) : Rt Unit :=
  gd (kC h x0 = 7) <| vl (sI h 600 x0 x1) fun h2 => gd (kC h2 x0 = 7) <| vl (sI h2 601 x0 x2) fun h4 => gd (kC h4 x0 = 7) <| vl (sI h4 602 x0 x3) fun h6 => gd (kC h6 x0 = 7) <| gd (b01 x4) <| vl (sI h6 603 x0 x4) fun h9 => some (.inl (), h9)
theorem b_X7_init {rr : (Unit ⊕ Ex) × Hp}  (C : CX p l R s m args meth c D Hs cX7_init "Massclaim$Subclass" 5 none [] 1 20) (hin : meth.name = "<init>")  : ∀ (x0 : Nat) (x1 : Int32) (x2 : Int32) (x3 : Int32) (x4 : Int32) (h : Hp) (H : Heap) (locs : List Loc) (cells slots : Nat) (ls : Array Slot), HP D Hs h H → LO Hs locs → lv_has ls 5 [(0, rv x0), (1, .int x1), (2, .int x2), (3, .int x3), (4, .int x4)] → f_X7_init x0 x1 x2 x3 x4 h = some rr → W p l e R s m args below meth c H locs cells slots (ZM D Hs iV rr below args s) (F0 m 0 ls []) := by
  obtain ⟨⟨hx, hb, hml, hown, hts⟩, -⟩ := id C
  have hl9 := C.2.1.2.2.1
  intro x0 x1 x2 x3 x4 h H locs cells slots ls hH hL hl hrun
  unfold f_X7_init at hrun
  refine V_aload_n (pc := 0) hx hb dX7_init_0 rfl (lv_at hl 0 rfl) ?_
  obtain ⟨c1, hrun⟩ := gd_some hrun
  refine V_objInit (pc := 1) C q912 q113 q114 (hH.pos c1) dX7_init_1 (by decide) (by simp [csum, rv_cat, cat_i, cat_l, cat_f, cat_d]) hl.1 ?_
  refine V_aload_n (pc := 4) hx hb dX7_init_4 rfl (lv_at hl 0 rfl) ?_
  refine lv_iload_n (pc := 5) hx hb dX7_init_5 rfl (lv_at hl 1 rfl) ?_
  refine V_putI (pc := 6) C hH hL fl_X7_7 dX7_init_6 c1 (fok_i _) rfl (fun _ => hin) hrun (fun h2 H locs hH hL hrun => ?_)
  refine V_aload_n (pc := 9) hx hb dX7_init_9 rfl (lv_at hl 0 rfl) ?_
  refine lv_iload_n (pc := 10) hx hb dX7_init_10 rfl (lv_at hl 2 rfl) ?_
  obtain ⟨c3, hrun⟩ := gd_some hrun
  refine V_putI (pc := 11) C hH hL fl_X7_13 dX7_init_11 c3 (fok_i _) rfl (fun _ => hin) hrun (fun h4 H locs hH hL hrun => ?_)
  refine V_aload_n (pc := 14) hx hb dX7_init_14 rfl (lv_at hl 0 rfl) ?_
  refine lv_iload_n (pc := 15) hx hb dX7_init_15 rfl (lv_at hl 3 rfl) ?_
  obtain ⟨c5, hrun⟩ := gd_some hrun
  refine V_putI (pc := 16) C hH hL fl_X7_16 dX7_init_16 c5 (fok_i _) rfl (fun _ => hin) hrun (fun h6 H locs hH hL hrun => ?_)
  refine V_aload_n (pc := 19) hx hb dX7_init_19 rfl (lv_at hl 0 rfl) ?_
  refine lv_iload (pc := 20) hx hb dX7_init_20 (lv_at hl 4 rfl) ?_
  obtain ⟨c7, hrun⟩ := gd_some hrun
  obtain ⟨c8, hrun⟩ := gd_some hrun
  refine V_putI (pc := 22) C hH hL fl_X7_19 dX7_init_22 c7 (fok_z c8) rfl (fun _ => hin) hrun (fun h9 H locs hH hL hrun => ?_)
  exact V_vret (pc := 25) C hH hL hrun dX7_init_25

theorem m_X7_init {l : Launch} {D : va_G} {Hs : Heap} {h : Hp} {rr : (Unit ⊕ Ex) × Hp} (hl9 : l.stackTraces = false) {x0 : Nat} {x1 : Int32} {x2 : Int32} {x3 : Int32} {x4 : Int32} (hrun : f_X7_init x0 x1 x2 x3 x4 h = some rr) : CM l yX7_init (ws_ yX7_init cX7_init 5 none) 1 20 iV [rv x0, .int x1, .int x2, .int x3, .int x4] D Hs h rr := by
  refine CM.of (lv := [(0, rv x0), (1, .int x1), (2, .int x2), (3, .int x3), (4, .int x4)]) (plainFor_of_name (by decide)) hl9 (by simp [lv_args, rv_cat, cat_i, cat_l, cat_f, cat_d]) (by simp [lg_sl, rv_cat, cat_i, cat_l, cat_f, cat_d]) ?_
  intro p e R s m args below meth c H ls C hH hl hin
  exact b_X7_init C hin x0 x1 x2 x3 x4 _ H [] _ _ ls hH (fun _ q => nomatch q) (lv_sub hl [0, 1, 2, 3, 4] rfl) hrun

/-! Massclaim.subclass(IIZ)I -/
def f_X1_subclass_30  (x0 : Nat) (x1 : Int32) (x2 : Int32) (x3 : Int32) (y0 : Int32) (h : Hp) : Rt Int32 :=
  bd (f_X1_requireArgument y0 h) fun _ h2 => gd (kC h2 x0 = 1) <| nw h2 7 4 fun q4 h5 => gd (kC h5 x0 = 1) <| gd (kC h5 (kR h5 1 x0) = 2) <| bd (f_X2_size (kR h5 1 x0) h5) fun v7 h8 => gd (kC h8 q4 = 7) <| bd (f_X7_init q4 v7 x1 x2 x3 h8) fun _ h11 => gd (kC h11 (kR h2 1 x0) = 2) <| bd (f_X2_add (kR h2 1 x0) q4 h11) fun v13 h14 => some (.inl v13, h14)
def f_X1_subclass_29  (x0 : Nat) (x1 : Int32) (x2 : Int32) (x3 : Int32) (h : Hp) : Rt Int32 :=
  f_X1_subclass_30 x0 x1 x2 x3 (0 : Int32) h
def f_X1_subclass  (x0 : Nat) (x1 : Int32) (x2 : Int32) (x3 : Int32) (h : Hp) : Rt Int32 :=
  bd (f_X1_isIn (x1.toInt64) (0 : Int64) (5 : Int64) h) fun v16 h17 => if v16 = 0 then
  (f_X1_subclass_29 x0 x1 x2 x3 h17)
  else
  (bd (f_X1_isIn (x2.toInt64) (x1.toInt64) (5 : Int64) h17) fun v18 h19 => if v18 = 0 then
  (f_X1_subclass_29 x0 x1 x2 x3 h19)
  else
  (f_X1_subclass_30 x0 x1 x2 x3 (1 : Int32) h19))
theorem b_X1_subclass_30 {rr : (Int32 ⊕ Ex) × Hp}  (C : CX p l R s m args meth c D Hs cX1_subclass "Massclaim" 4 (some .int) [] 9 353)  : ∀ (x0 : Nat) (x1 : Int32) (x2 : Int32) (x3 : Int32) (y0 : Int32) (h : Hp) (H : Heap) (locs : List Loc) (cells slots : Nat) (ls : Array Slot), HP D Hs h H → LO Hs locs → lv_has ls 4 [(0, rv x0), (1, .int x1), (2, .int x2), (3, .int x3)] → f_X1_subclass_30 x0 x1 x2 x3 y0 h = some rr → W p l e R s m args below meth c H locs cells slots (ZM D Hs iI rr below args s) (F0 m 30 ls [.int y0]) := by
  obtain ⟨⟨hx, hb, hml, hown, hts⟩, -⟩ := id C
  have hl9 := C.2.1.2.2.1
  intro x0 x1 x2 x3 y0 h H locs cells slots ls hH hL hl hrun
  unfold f_X1_subclass_30 at hrun
  refine V_bd (pc := 30) C hL rfl hrun (fun rr1 e1 => Z_runS (rest := []) C hH (m_X1_requireArgument hl9 e1) wS_X1_131 rfl ⟨by decide, by decide⟩ rfl (Nat.le_of_ble_eq_true rfl) hl.1 dX1_subclass_30) (fun _ h2 H locs cells slots hH hL hrun => ?_)
  refine V_aload_n (pc := 33) hx hb dX1_subclass_33 rfl (lv_at hl 0 rfl) ?_
  obtain ⟨c3, hrun⟩ := gd_some hrun
  refine V_getR (pc := 34) C hH fr_X1_46 dX1_subclass_34 c3 rfl ?_
  refine V_new (pc := 37) C hH nl_X1_231 dX1_subclass_37 hrun (fun q4 h5 H cells slots hH hrun => ?_)
  refine lv_dup (pc := 40) hx hb dX1_subclass_40 (rv_cat _) ?_
  refine V_aload_n (pc := 41) hx hb dX1_subclass_41 rfl (lv_at hl 0 rfl) ?_
  obtain ⟨c6, hrun⟩ := gd_some hrun
  refine V_getR (pc := 42) C hH fr_X1_46 dX1_subclass_42 c6 rfl ?_
  obtain ⟨c9, hrun⟩ := gd_some hrun
  refine V_bd (pc := 45) C hL rfl hrun (fun rr1 e1 => Z_runV (rest := [rv q4, rv q4, rv (kR h2 1 x0)]) C hH (m_X2_size hl9 e1) wV_X1_135 c9 rfl (by decide) rfl rfl ⟨by decide, by decide⟩ rfl (by simp [csum, rv_cat, cat_i, cat_l, cat_f, cat_d]) hl.1 dX1_subclass_45) (fun v7 h8 H locs cells slots hH hL hrun => ?_)
  refine lv_iload_n (pc := 48) hx hb dX1_subclass_48 rfl (lv_at hl 1 rfl) ?_
  refine lv_iload_n (pc := 49) hx hb dX1_subclass_49 rfl (lv_at hl 2 rfl) ?_
  refine lv_iload_n (pc := 50) hx hb dX1_subclass_50 rfl (lv_at hl 3 rfl) ?_
  obtain ⟨c12, hrun⟩ := gd_some hrun
  refine V_bd (pc := 51) C hL rfl hrun (fun rr1 e1 => Z_runI (rest := [rv q4, rv (kR h2 1 x0)]) C hH (m_X7_init hl9 e1) wI_X1_233 (hH.pos c12) rfl ⟨by decide, by decide⟩ rfl (by simp [csum, rv_cat, cat_i, cat_l, cat_f, cat_d]) hl.1 dX1_subclass_51) (fun _ h11 H locs cells slots hH hL hrun => ?_)
  obtain ⟨c15, hrun⟩ := gd_some hrun
  refine V_bd (pc := 54) C hL rfl hrun (fun rr1 e1 => Z_runV (rest := []) C hH (m_X2_add hl9 e1) wV_X1_174 c15 rfl (by decide) rfl rfl ⟨by decide, by decide⟩ rfl (Nat.le_of_ble_eq_true rfl) hl.1 dX1_subclass_54) (fun v13 h14 H locs cells slots hH hL hrun => ?_)
  exact V_iret (pc := 57) C hH hL hrun dX1_subclass_57

theorem b_X1_subclass_29 {rr : (Int32 ⊕ Ex) × Hp}  (C : CX p l R s m args meth c D Hs cX1_subclass "Massclaim" 4 (some .int) [] 9 353)  : ∀ (x0 : Nat) (x1 : Int32) (x2 : Int32) (x3 : Int32) (h : Hp) (H : Heap) (locs : List Loc) (cells slots : Nat) (ls : Array Slot), HP D Hs h H → LO Hs locs → lv_has ls 4 [(0, rv x0), (1, .int x1), (2, .int x2), (3, .int x3)] → f_X1_subclass_29 x0 x1 x2 x3 h = some rr → W p l e R s m args below meth c H locs cells slots (ZM D Hs iI rr below args s) (F0 m 29 ls []) := by
  obtain ⟨⟨hx, hb, hml, hown, hts⟩, -⟩ := id C
  have hl9 := C.2.1.2.2.1
  intro x0 x1 x2 x3 h H locs cells slots ls hH hL hl hrun
  unfold f_X1_subclass_29 at hrun
  refine lv_iconst (v := (0 : Int32)) (pc := 29) hx hb dX1_subclass_29 (by decide) ?_
  exact b_X1_subclass_30 C x0 x1 x2 x3 (0 : Int32) h H locs cells slots ls hH hL (lv_sub hl [0, 1, 2, 3] rfl) hrun

theorem b_X1_subclass {rr : (Int32 ⊕ Ex) × Hp}  (C : CX p l R s m args meth c D Hs cX1_subclass "Massclaim" 4 (some .int) [] 9 353)  : ∀ (x0 : Nat) (x1 : Int32) (x2 : Int32) (x3 : Int32) (h : Hp) (H : Heap) (locs : List Loc) (cells slots : Nat) (ls : Array Slot), HP D Hs h H → LO Hs locs → lv_has ls 4 [(0, rv x0), (1, .int x1), (2, .int x2), (3, .int x3)] → f_X1_subclass x0 x1 x2 x3 h = some rr → W p l e R s m args below meth c H locs cells slots (ZM D Hs iI rr below args s) (F0 m 0 ls []) := by
  obtain ⟨⟨hx, hb, hml, hown, hts⟩, -⟩ := id C
  have hl9 := C.2.1.2.2.1
  intro x0 x1 x2 x3 h H locs cells slots ls hH hL hl hrun
  unfold f_X1_subclass at hrun
  refine lv_iload_n (pc := 0) hx hb dX1_subclass_0 rfl (lv_at hl 1 rfl) ?_
  refine lv_i2l (pc := 1) hx hb dX1_subclass_1 rfl ?_
  refine lv_lconst (v := (0 : Int64)) (pc := 2) hx hb dX1_subclass_2 (by decide) ?_
  refine lv_ldc2 (pc := 3) hx hb hown (hts _ q866) dX1_subclass_3 ?_
  refine V_bd (pc := 6) C hL rfl hrun (fun rr1 e1 => Z_runS (rest := []) C hH (m_X1_isIn hl9 e1) wS_X1_127 rfl ⟨by decide, by decide⟩ rfl (Nat.le_of_ble_eq_true rfl) hl.1 dX1_subclass_6) (fun v16 h17 H locs cells slots hH hL hrun => ?_)
  refine lv_if_eq (tgt := 29) (pc := 9) hx hb dX1_subclass_9 (by decide) (fun c_ => ?_) (fun c_ => ?_)
  · have hrun := ite_t hrun c_
    exact b_X1_subclass_29 C x0 x1 x2 x3 h17 H locs cells slots ls hH hL (lv_sub hl [0, 1, 2, 3] rfl) hrun
  · have hrun := ite_f hrun c_
    refine lv_iload_n (pc := 12) hx hb dX1_subclass_12 rfl (lv_at hl 2 rfl) ?_
    refine lv_i2l (pc := 13) hx hb dX1_subclass_13 rfl ?_
    refine lv_iload_n (pc := 14) hx hb dX1_subclass_14 rfl (lv_at hl 1 rfl) ?_
    refine lv_i2l (pc := 15) hx hb dX1_subclass_15 rfl ?_
    refine lv_ldc2 (pc := 16) hx hb hown (hts _ q866) dX1_subclass_16 ?_
    refine V_bd (pc := 19) C hL rfl hrun (fun rr1 e1 => Z_runS (rest := []) C hH (m_X1_isIn hl9 e1) wS_X1_127 rfl ⟨by decide, by decide⟩ rfl (Nat.le_of_ble_eq_true rfl) hl.1 dX1_subclass_19) (fun v18 h19 H locs cells slots hH hL hrun => ?_)
    refine lv_if_eq (tgt := 29) (pc := 22) hx hb dX1_subclass_22 (by decide) (fun c_ => ?_) (fun c_ => ?_)
    · have hrun := ite_t hrun c_
      exact b_X1_subclass_29 C x0 x1 x2 x3 h19 H locs cells slots ls hH hL (lv_sub hl [0, 1, 2, 3] rfl) hrun
    · have hrun := ite_f hrun c_
      refine lv_iconst (v := (1 : Int32)) (pc := 25) hx hb dX1_subclass_25 (by decide) ?_
      refine lv_goto (tgt := 30) (pc := 26) hx hb dX1_subclass_26 (by decide) ?_
      exact b_X1_subclass_30 C x0 x1 x2 x3 (1 : Int32) h19 H locs cells slots ls hH hL (lv_sub hl [0, 1, 2, 3] rfl) hrun

theorem m_X1_subclass {l : Launch} {D : va_G} {Hs : Heap} {h : Hp} {rr : (Int32 ⊕ Ex) × Hp} (hl9 : l.stackTraces = false) {x0 : Nat} {x1 : Int32} {x2 : Int32} {x3 : Int32} (hrun : f_X1_subclass x0 x1 x2 x3 h = some rr) : CM l yX1_subclass (ws_ yX1_subclass cX1_subclass 4 (some .int)) 9 353 iI [rv x0, .int x1, .int x2, .int x3] D Hs h rr := by
  refine CM.of (lv := [(0, rv x0), (1, .int x1), (2, .int x2), (3, .int x3)]) (plainFor_of_name (by decide)) hl9 (by simp [lv_args, rv_cat, cat_i, cat_l, cat_f, cat_d]) (by simp [lg_sl, rv_cat, cat_i, cat_l, cat_f, cat_d]) ?_
  intro p e R s m args below meth c H ls C hH hl hin
  exact b_X1_subclass C x0 x1 x2 x3 _ H [] _ _ ls hH (fun _ q => nomatch q) (lv_sub hl [0, 1, 2, 3] rfl) hrun

/-! MassclaimLaw.subclass(LMassclaim;IIZ[J)I -/
def f_X0_subclass_15  (y0 : Nat) (h : Hp) : Rt Int32 :=
  some (.inl (1 : Int32), h)
def f_X0_subclass_19  (y0 : Nat) (h : Hp) : Rt Int32 :=
  some (.inl (2 : Int32), h)
def f_X0_subclass  (x0 : Nat) (x1 : Int32) (x2 : Int32) (x3 : Int32) (x4 : Nat) (h : Hp) : Rt Int32 :=
  gd (kC h x0 = 1) <| bdH (f_X1_subclass x0 x1 x2 x3 h)
  (fun v1 h2 => gd (kC h2 x4 = 102 ∧ ixo (0 : Int32) (kN h2 x4)) <| vl (tL h2 x4 ((0 : Int32)).toNatClampNeg (v1.toInt64)) fun h5 => some (.inl (0 : Int32), h5))
  (fun ex6 h7 => if ex6.1 = 902 then
  (f_X0_subclass_15 ex6.2 h7)
  else
  if ex6.1 = 903 then
  (f_X0_subclass_19 ex6.2 h7)
  else
  none)
theorem b_X0_subclass_15 {rr : (Int32 ⊕ Ex) × Hp}  (C : CX p l R s m args meth c D Hs cX0_subclass "MassclaimLaw" 6 (some .int) [(0, 12, 15, 13), (0, 12, 19, 19)] 10 376)  : ∀ (y0 : Nat) (h : Hp) (H : Heap) (locs : List Loc) (cells slots : Nat) (ls : Array Slot), HP D Hs h H → LO Hs locs → lv_has ls 6 [] → f_X0_subclass_15 y0 h = some rr → W p l e R s m args below meth c H locs cells slots (ZM D Hs iI rr below args s) (F0 m 15 ls [rv y0]) := by
  obtain ⟨⟨hx, hb, hml, hown, hts⟩, -⟩ := id C
  have hl9 := C.2.1.2.2.1
  intro y0 h H locs cells slots ls hH hL hl hrun
  unfold f_X0_subclass_15 at hrun
  refine V_astore (i := 5) (lv' := [(5, rv y0)]) (pc := 15) hx hb dX0_subclass_15 hl (by decide) rfl (fun ls hl => ?_)
  refine lv_iconst (v := (1 : Int32)) (pc := 17) hx hb dX0_subclass_17 (by decide) ?_
  exact V_iret (pc := 18) C hH hL hrun dX0_subclass_18

theorem b_X0_subclass_19 {rr : (Int32 ⊕ Ex) × Hp}  (C : CX p l R s m args meth c D Hs cX0_subclass "MassclaimLaw" 6 (some .int) [(0, 12, 15, 13), (0, 12, 19, 19)] 10 376)  : ∀ (y0 : Nat) (h : Hp) (H : Heap) (locs : List Loc) (cells slots : Nat) (ls : Array Slot), HP D Hs h H → LO Hs locs → lv_has ls 6 [] → f_X0_subclass_19 y0 h = some rr → W p l e R s m args below meth c H locs cells slots (ZM D Hs iI rr below args s) (F0 m 19 ls [rv y0]) := by
  obtain ⟨⟨hx, hb, hml, hown, hts⟩, -⟩ := id C
  have hl9 := C.2.1.2.2.1
  intro y0 h H locs cells slots ls hH hL hl hrun
  unfold f_X0_subclass_19 at hrun
  refine V_astore (i := 5) (lv' := [(5, rv y0)]) (pc := 19) hx hb dX0_subclass_19 hl (by decide) rfl (fun ls hl => ?_)
  refine lv_iconst (v := (2 : Int32)) (pc := 21) hx hb dX0_subclass_21 (by decide) ?_
  exact V_iret (pc := 22) C hH hL hrun dX0_subclass_22

theorem b_X0_subclass {rr : (Int32 ⊕ Ex) × Hp}  (C : CX p l R s m args meth c D Hs cX0_subclass "MassclaimLaw" 6 (some .int) [(0, 12, 15, 13), (0, 12, 19, 19)] 10 376)  : ∀ (x0 : Nat) (x1 : Int32) (x2 : Int32) (x3 : Int32) (x4 : Nat) (h : Hp) (H : Heap) (locs : List Loc) (cells slots : Nat) (ls : Array Slot), HP D Hs h H → LO Hs locs → lv_has ls 6 [(0, rv x0), (1, .int x1), (2, .int x2), (3, .int x3), (4, rv x4)] → f_X0_subclass x0 x1 x2 x3 x4 h = some rr → W p l e R s m args below meth c H locs cells slots (ZM D Hs iI rr below args s) (F0 m 0 ls []) := by
  obtain ⟨⟨hx, hb, hml, hown, hts⟩, -⟩ := id C
  have hl9 := C.2.1.2.2.1
  intro x0 x1 x2 x3 x4 h H locs cells slots ls hH hL hl hrun
  unfold f_X0_subclass at hrun
  refine V_aload (pc := 0) hx hb dX0_subclass_0 (lv_at hl 4 rfl) ?_
  refine lv_iconst (v := (0 : Int32)) (pc := 2) hx hb dX0_subclass_2 (by decide) ?_
  refine V_aload_n (pc := 3) hx hb dX0_subclass_3 rfl (lv_at hl 0 rfl) ?_
  refine lv_iload_n (pc := 4) hx hb dX0_subclass_4 rfl (lv_at hl 1 rfl) ?_
  refine lv_iload_n (pc := 5) hx hb dX0_subclass_5 rfl (lv_at hl 2 rfl) ?_
  refine lv_iload_n (pc := 6) hx hb dX0_subclass_6 rfl (lv_at hl 3 rfl) ?_
  obtain ⟨c3, hrun⟩ := gd_some hrun
  refine V_bdH (pc := 7) hL hrun (fun rr1 e1 => Z_runV (rest := [.int (0 : Int32), rv x4]) C hH (m_X1_subclass hl9 e1) wV_X0_35 c3 rfl (by decide) rfl rfl ⟨by decide, by decide⟩ rfl (by simp [csum, rv_cat, cat_i, cat_l, cat_f, cat_d]) hl.1 dX0_subclass_7) (fun v1 h2 H locs cells slots hH hL hrun => ?_) (fun x_ q_ ce_ h7 H locs cells slots hH hL hrun hc_ hv_ hcl_ => ?_)
  · refine lv_i2l (pc := 10) hx hb dX0_subclass_10 rfl ?_
    obtain ⟨c4, hrun⟩ := gd_some hrun
    refine V_last (pc := 11) C hH hL dX0_subclass_11 c4 hrun (fun h5 H locs hH hL hrun => ?_)
    refine lv_goto (tgt := 23) (pc := 12) hx hb dX0_subclass_12 (by decide) ?_
    refine lv_iconst (v := (0 : Int32)) (pc := 23) hx hb dX0_subclass_23 (by decide) ?_
    exact V_iret (pc := 24) C hH hL hrun dX0_subclass_24
  · by_cases n902 : x_ = 902
    · subst n902
      have hrun := ite_t hrun rfl
      refine vx_catch (E := "java/lang/IllegalArgumentException") (name := "java/lang/IllegalArgumentException") hown (tableOf []) ⟨0, 12, 15, 13⟩ (tableOf [(0, 12, 19, 19)]) (by rw [C.2.1.2.2.2.2]; rfl) (fun z hz => nomatch hz) (by decide) (by decide) (hts _ q449) (va_Nw.use rfl (C.2.1.2.2.2.1.2.1 _ q463 rfl)) hc_ hv_ hcl_ ?_
      exact b_X0_subclass_15 C (q_ + 1) h7 H locs cells slots ls hH hL (lv_sub hl [] rfl) hrun
    have hrun := ite_f hrun n902
    by_cases n903 : x_ = 903
    · subst n903
      have hrun := ite_t hrun rfl
      refine vx_catch (E := "java/lang/IllegalStateException") (name := "java/lang/IllegalStateException") hown (tableOf [(0, 12, 15, 13)]) ⟨0, 12, 19, 19⟩ (tableOf []) (by rw [C.2.1.2.2.2.2]; rfl) (fun z hz => by simp only [tableOf, List.map, List.mem_cons, List.not_mem_nil, or_false] at hz; rcases hz with rfl <;> first | exact Or.inr ⟨by decide, "java/lang/IllegalArgumentException", hts _ q449, nc_at C (by decide)⟩) (by decide) (by decide) (hts _ q585) (va_Nw.use rfl (C.2.1.2.2.2.1.2.1 _ q702 rfl)) hc_ hv_ hcl_ ?_
      exact b_X0_subclass_19 C (q_ + 1) h7 H locs cells slots ls hH hL (lv_sub hl [] rfl) hrun
    have hrun := ite_f hrun n903
    cases hrun

theorem m_X0_subclass {l : Launch} {D : va_G} {Hs : Heap} {h : Hp} {rr : (Int32 ⊕ Ex) × Hp} (hl9 : l.stackTraces = false) {x0 : Nat} {x1 : Int32} {x2 : Int32} {x3 : Int32} {x4 : Nat} (hrun : f_X0_subclass x0 x1 x2 x3 x4 h = some rr) : CM l yX0_subclass (wsW_ yX0_subclass cX0_subclass 6 (some .int) [(0, 12, 15, 13), (0, 12, 19, 19)]) 10 376 iI [rv x0, .int x1, .int x2, .int x3, rv x4] D Hs h rr := by
  refine CM.ofH (lv := [(0, rv x0), (1, .int x1), (2, .int x2), (3, .int x3), (4, rv x4)]) (plainFor_of_name (by decide)) hl9 (by simp [lv_args, rv_cat, cat_i, cat_l, cat_f, cat_d]) (by simp [lg_sl, rv_cat, cat_i, cat_l, cat_f, cat_d]) ?_
  intro p e R s m args below meth c H ls C hH hl hin
  exact b_X0_subclass C x0 x1 x2 x3 x4 _ H [] _ _ ls hH (fun _ q => nomatch q) (lv_sub hl [0, 1, 2, 3, 4] rfl) hrun

/-! MassclaimModel.subclass(IIZ)I -/
def f_X4_subclass_62  (h : Hp) : Rt Int32 :=
  some (.inl (0 : Int32), h)
def f_X4_subclass_90  (x0 : Nat) (y0 : Nat) (y1 : Nat) (y2 : Nat) (y3 : Int32) (y4 : Int32) (h : Hp) : Rt Int32 :=
  gd (kC h y2 = 101 ∧ ixo y3 (kN h y2)) <| vl (tI h y2 (y3).toNatClampNeg y4) fun h2 => gd (kC h2 y0 = 18) <| bd (f_J2_add y0 y1 h2) fun v3 h4 => gd (kC h4 x0 = 4) <| gd (kC h4 (kR h4 307 x0) = 18) <| bd (f_J2_size (kR h4 307 x0) h4) fun v7 h8 => some (.inl (v7 - (1 : Int32)), h8)
def f_X4_subclass_55  (x0 : Nat) (x1 : Int32) (x2 : Int32) (x3 : Int32) (y0 : Nat) (y1 : Int32) (h : Hp) : Rt Int32 :=
  gd (kC h y0 = 4) <| bd (f_X4_isGood y0 y1 (2 : Int32) h) fun v10 h11 => if v10 = 0 then
  (f_X4_subclass_62  h11)
  else
  (gd (kC h11 x0 = 4) <| na h11 101 (3 : Int32) fun q14 h15 => gd (kC h15 q14 = 101 ∧ ixo (0 : Int32) (kN h15 q14)) <| vl (tI h15 q14 ((0 : Int32)).toNatClampNeg x1) fun h17 => gd (kC h17 q14 = 101 ∧ ixo (1 : Int32) (kN h17 q14)) <| vl (tI h17 q14 ((1 : Int32)).toNatClampNeg x2) fun h19 => if x3 = 0 then
  (f_X4_subclass_90 x0 (kR h11 307 x0) q14 q14 (2 : Int32) (0 : Int32) h19)
  else
  (f_X4_subclass_90 x0 (kR h11 307 x0) q14 q14 (2 : Int32) (1 : Int32) h19))
def f_X4_subclass_31  (x0 : Nat) (x1 : Int32) (x2 : Int32) (x3 : Int32) (y0 : Nat) (y1 : Int32) (h : Hp) : Rt Int32 :=
  gd (kC h y0 = 4) <| bd (f_X4_isGood y0 y1 (1 : Int32) h) fun v20 h21 => if v20 = 0 then
  (f_X4_subclass_62  h21)
  else
  (gd (kC h21 x0 = 4) <| gd (kC h21 (kR h21 307 x0) = 18) <| bd (f_J2_size (kR h21 307 x0) h21) fun v24 h25 => if (4 : Int32) ≤ v24 then
  (f_X4_subclass_55 x0 x1 x2 x3 x0 (0 : Int32) h25)
  else
  (f_X4_subclass_55 x0 x1 x2 x3 x0 (1 : Int32) h25))
def f_X4_subclass_30  (x0 : Nat) (x1 : Int32) (x2 : Int32) (x3 : Int32) (y0 : Nat) (h : Hp) : Rt Int32 :=
  f_X4_subclass_31 x0 x1 x2 x3 y0 (0 : Int32) h
def f_X4_subclass  (x0 : Nat) (x1 : Int32) (x2 : Int32) (x3 : Int32) (h : Hp) : Rt Int32 :=
  bd (f_X4_isWithin (x1.toInt64) (0 : Int64) (5 : Int64) h) fun v27 h28 => if v27 = 0 then
  (f_X4_subclass_30 x0 x1 x2 x3 x0 h28)
  else
  (bd (f_X4_isWithin (x2.toInt64) (x1.toInt64) (5 : Int64) h28) fun v29 h30 => if v29 = 0 then
  (f_X4_subclass_30 x0 x1 x2 x3 x0 h30)
  else
  (f_X4_subclass_31 x0 x1 x2 x3 x0 (1 : Int32) h30))
theorem b_X4_subclass_62 {rr : (Int32 ⊕ Ex) × Hp}  (C : CX p l R s m args meth c D Hs cX4_subclass "MassclaimModel" 4 (some .int) [] 8 331)  : ∀ (h : Hp) (H : Heap) (locs : List Loc) (cells slots : Nat) (ls : Array Slot), HP D Hs h H → LO Hs locs → lv_has ls 4 [] → f_X4_subclass_62 h = some rr → W p l e R s m args below meth c H locs cells slots (ZM D Hs iI rr below args s) (F0 m 62 ls []) := by
  obtain ⟨⟨hx, hb, hml, hown, hts⟩, -⟩ := id C
  have hl9 := C.2.1.2.2.1
  intro h H locs cells slots ls hH hL hl hrun
  unfold f_X4_subclass_62 at hrun
  refine lv_iconst (v := (0 : Int32)) (pc := 62) hx hb dX4_subclass_62 (by decide) ?_
  exact V_iret (pc := 63) C hH hL hrun dX4_subclass_63

theorem b_X4_subclass_90 {rr : (Int32 ⊕ Ex) × Hp}  (C : CX p l R s m args meth c D Hs cX4_subclass "MassclaimModel" 4 (some .int) [] 8 331)  : ∀ (x0 : Nat) (y0 : Nat) (y1 : Nat) (y2 : Nat) (y3 : Int32) (y4 : Int32) (h : Hp) (H : Heap) (locs : List Loc) (cells slots : Nat) (ls : Array Slot), HP D Hs h H → LO Hs locs → lv_has ls 4 [(0, rv x0)] → f_X4_subclass_90 x0 y0 y1 y2 y3 y4 h = some rr → W p l e R s m args below meth c H locs cells slots (ZM D Hs iI rr below args s) (F0 m 90 ls [.int y4, .int y3, rv y2, rv y1, rv y0]) := by
  obtain ⟨⟨hx, hb, hml, hown, hts⟩, -⟩ := id C
  have hl9 := C.2.1.2.2.1
  intro x0 y0 y1 y2 y3 y4 h H locs cells slots ls hH hL hl hrun
  unfold f_X4_subclass_90 at hrun
  obtain ⟨c1, hrun⟩ := gd_some hrun
  refine V_iast (pc := 90) C hH hL dX4_subclass_90 c1 hrun (fun h2 H locs hH hL hrun => ?_)
  obtain ⟨c5, hrun⟩ := gd_some hrun
  refine V_bd (pc := 91) C hL rfl hrun (fun rr1 e1 => Z_runV (rest := []) C hH (m_J2_add hl9 e1) wV_X4_186 c5 rfl (by decide) rfl rfl ⟨by decide, by decide⟩ rfl (Nat.le_of_ble_eq_true rfl) hl.1 dX4_subclass_91) (fun v3 h4 H locs cells slots hH hL hrun => ?_)
  refine lv_pop (pc := 94) hx hb dX4_subclass_94 rfl ?_
  refine V_aload_n (pc := 95) hx hb dX4_subclass_95 rfl (lv_at hl 0 rfl) ?_
  obtain ⟨c6, hrun⟩ := gd_some hrun
  refine V_getR (pc := 96) C hH fr_X4_20 dX4_subclass_96 c6 rfl ?_
  obtain ⟨c9, hrun⟩ := gd_some hrun
  refine V_bd (pc := 99) C hL rfl hrun (fun rr1 e1 => Z_runV (rest := []) C hH (m_J2_size hl9 e1) wV_X4_94 c9 rfl (by decide) rfl rfl ⟨by decide, by decide⟩ rfl (Nat.le_of_ble_eq_true rfl) hl.1 dX4_subclass_99) (fun v7 h8 H locs cells slots hH hL hrun => ?_)
  refine lv_iconst (v := (1 : Int32)) (pc := 102) hx hb dX4_subclass_102 (by decide) ?_
  refine lv_isub (pc := 103) hx hb dX4_subclass_103 ?_
  exact V_iret (pc := 104) C hH hL hrun dX4_subclass_104

theorem b_X4_subclass_55 {rr : (Int32 ⊕ Ex) × Hp}  (C : CX p l R s m args meth c D Hs cX4_subclass "MassclaimModel" 4 (some .int) [] 8 331)  : ∀ (x0 : Nat) (x1 : Int32) (x2 : Int32) (x3 : Int32) (y0 : Nat) (y1 : Int32) (h : Hp) (H : Heap) (locs : List Loc) (cells slots : Nat) (ls : Array Slot), HP D Hs h H → LO Hs locs → lv_has ls 4 [(0, rv x0), (1, .int x1), (2, .int x2), (3, .int x3)] → f_X4_subclass_55 x0 x1 x2 x3 y0 y1 h = some rr → W p l e R s m args below meth c H locs cells slots (ZM D Hs iI rr below args s) (F0 m 55 ls [.int y1, rv y0]) := by
  obtain ⟨⟨hx, hb, hml, hown, hts⟩, -⟩ := id C
  have hl9 := C.2.1.2.2.1
  intro x0 x1 x2 x3 y0 y1 h H locs cells slots ls hH hL hl hrun
  unfold f_X4_subclass_55 at hrun
  refine lv_iconst (v := (2 : Int32)) (pc := 55) hx hb dX4_subclass_55 (by decide) ?_
  obtain ⟨c12, hrun⟩ := gd_some hrun
  refine V_bd (pc := 56) C hL rfl hrun (fun rr1 e1 => Z_runV (rest := []) C hH (m_X4_isGood hl9 e1) wV_X4_104 c12 rfl (by decide) rfl rfl ⟨by decide, by decide⟩ rfl (Nat.le_of_ble_eq_true rfl) hl.1 dX4_subclass_56) (fun v10 h11 H locs cells slots hH hL hrun => ?_)
  refine lv_if_ne (tgt := 64) (pc := 59) hx hb dX4_subclass_59 (by decide) (fun c_ => ?_) (fun c_ => ?_)
  · have hrun := ite_f hrun c_
    refine V_aload_n (pc := 64) hx hb dX4_subclass_64 rfl (lv_at hl 0 rfl) ?_
    obtain ⟨c13, hrun⟩ := gd_some hrun
    refine V_getR (pc := 65) C hH fr_X4_20 dX4_subclass_65 c13 rfl ?_
    refine lv_iconst (v := (3 : Int32)) (pc := 68) hx hb dX4_subclass_68 (by decide) ?_
    refine V_newa (at_ := .int) (pc := 69) C hH (Or.inl ⟨rfl, rfl⟩) q194 dX4_subclass_69 hrun (fun q14 h15 H cells slots hH hrun => ?_)
    refine lv_dup (pc := 71) hx hb dX4_subclass_71 (rv_cat _) ?_
    refine lv_iconst (v := (0 : Int32)) (pc := 72) hx hb dX4_subclass_72 (by decide) ?_
    refine lv_iload_n (pc := 73) hx hb dX4_subclass_73 rfl (lv_at hl 1 rfl) ?_
    obtain ⟨c16, hrun⟩ := gd_some hrun
    refine V_iast (pc := 74) C hH hL dX4_subclass_74 c16 hrun (fun h17 H locs hH hL hrun => ?_)
    refine lv_dup (pc := 75) hx hb dX4_subclass_75 (rv_cat _) ?_
    refine lv_iconst (v := (1 : Int32)) (pc := 76) hx hb dX4_subclass_76 (by decide) ?_
    refine lv_iload_n (pc := 77) hx hb dX4_subclass_77 rfl (lv_at hl 2 rfl) ?_
    obtain ⟨c18, hrun⟩ := gd_some hrun
    refine V_iast (pc := 78) C hH hL dX4_subclass_78 c18 hrun (fun h19 H locs hH hL hrun => ?_)
    refine lv_dup (pc := 79) hx hb dX4_subclass_79 (rv_cat _) ?_
    refine lv_iconst (v := (2 : Int32)) (pc := 80) hx hb dX4_subclass_80 (by decide) ?_
    refine lv_iload_n (pc := 81) hx hb dX4_subclass_81 rfl (lv_at hl 3 rfl) ?_
    refine lv_if_eq (tgt := 89) (pc := 82) hx hb dX4_subclass_82 (by decide) (fun c_ => ?_) (fun c_ => ?_)
    · have hrun := ite_t hrun c_
      refine lv_iconst (v := (0 : Int32)) (pc := 89) hx hb dX4_subclass_89 (by decide) ?_
      exact b_X4_subclass_90 C x0 (kR h11 307 x0) q14 q14 (2 : Int32) (0 : Int32) h19 H locs cells slots ls hH hL (lv_sub hl [0] rfl) hrun
    · have hrun := ite_f hrun c_
      refine lv_iconst (v := (1 : Int32)) (pc := 85) hx hb dX4_subclass_85 (by decide) ?_
      refine lv_goto (tgt := 90) (pc := 86) hx hb dX4_subclass_86 (by decide) ?_
      exact b_X4_subclass_90 C x0 (kR h11 307 x0) q14 q14 (2 : Int32) (1 : Int32) h19 H locs cells slots ls hH hL (lv_sub hl [0] rfl) hrun
  · have hrun := ite_t hrun c_
    exact b_X4_subclass_62 C h11 H locs cells slots ls hH hL (lv_sub hl [] rfl) hrun

theorem b_X4_subclass_31 {rr : (Int32 ⊕ Ex) × Hp}  (C : CX p l R s m args meth c D Hs cX4_subclass "MassclaimModel" 4 (some .int) [] 8 331)  : ∀ (x0 : Nat) (x1 : Int32) (x2 : Int32) (x3 : Int32) (y0 : Nat) (y1 : Int32) (h : Hp) (H : Heap) (locs : List Loc) (cells slots : Nat) (ls : Array Slot), HP D Hs h H → LO Hs locs → lv_has ls 4 [(0, rv x0), (1, .int x1), (2, .int x2), (3, .int x3)] → f_X4_subclass_31 x0 x1 x2 x3 y0 y1 h = some rr → W p l e R s m args below meth c H locs cells slots (ZM D Hs iI rr below args s) (F0 m 31 ls [.int y1, rv y0]) := by
  obtain ⟨⟨hx, hb, hml, hown, hts⟩, -⟩ := id C
  have hl9 := C.2.1.2.2.1
  intro x0 x1 x2 x3 y0 y1 h H locs cells slots ls hH hL hl hrun
  unfold f_X4_subclass_31 at hrun
  refine lv_iconst (v := (1 : Int32)) (pc := 31) hx hb dX4_subclass_31 (by decide) ?_
  obtain ⟨c22, hrun⟩ := gd_some hrun
  refine V_bd (pc := 32) C hL rfl hrun (fun rr1 e1 => Z_runV (rest := []) C hH (m_X4_isGood hl9 e1) wV_X4_104 c22 rfl (by decide) rfl rfl ⟨by decide, by decide⟩ rfl (Nat.le_of_ble_eq_true rfl) hl.1 dX4_subclass_32) (fun v20 h21 H locs cells slots hH hL hrun => ?_)
  refine lv_if_eq (tgt := 62) (pc := 35) hx hb dX4_subclass_35 (by decide) (fun c_ => ?_) (fun c_ => ?_)
  · have hrun := ite_t hrun c_
    exact b_X4_subclass_62 C h21 H locs cells slots ls hH hL (lv_sub hl [] rfl) hrun
  · have hrun := ite_f hrun c_
    refine V_aload_n (pc := 38) hx hb dX4_subclass_38 rfl (lv_at hl 0 rfl) ?_
    refine V_aload_n (pc := 39) hx hb dX4_subclass_39 rfl (lv_at hl 0 rfl) ?_
    obtain ⟨c23, hrun⟩ := gd_some hrun
    refine V_getR (pc := 40) C hH fr_X4_20 dX4_subclass_40 c23 rfl ?_
    obtain ⟨c26, hrun⟩ := gd_some hrun
    refine V_bd (pc := 43) C hL rfl hrun (fun rr1 e1 => Z_runV (rest := [rv x0]) C hH (m_J2_size hl9 e1) wV_X4_94 c26 rfl (by decide) rfl rfl ⟨by decide, by decide⟩ rfl (by simp [csum, rv_cat, cat_i, cat_l, cat_f, cat_d]) hl.1 dX4_subclass_43) (fun v24 h25 H locs cells slots hH hL hrun => ?_)
    refine lv_iconst (v := (4 : Int32)) (pc := 46) hx hb dX4_subclass_46 (by decide) ?_
    refine lv_icmp_ge (tgt := 54) (pc := 47) hx hb dX4_subclass_47 (by decide) (fun c_ => ?_) (fun c_ => ?_)
    · have hrun := ite_t hrun c_
      refine lv_iconst (v := (0 : Int32)) (pc := 54) hx hb dX4_subclass_54 (by decide) ?_
      exact b_X4_subclass_55 C x0 x1 x2 x3 x0 (0 : Int32) h25 H locs cells slots ls hH hL (lv_sub hl [0, 1, 2, 3] rfl) hrun
    · have hrun := ite_f hrun c_
      refine lv_iconst (v := (1 : Int32)) (pc := 50) hx hb dX4_subclass_50 (by decide) ?_
      refine lv_goto (tgt := 55) (pc := 51) hx hb dX4_subclass_51 (by decide) ?_
      exact b_X4_subclass_55 C x0 x1 x2 x3 x0 (1 : Int32) h25 H locs cells slots ls hH hL (lv_sub hl [0, 1, 2, 3] rfl) hrun

theorem b_X4_subclass_30 {rr : (Int32 ⊕ Ex) × Hp}  (C : CX p l R s m args meth c D Hs cX4_subclass "MassclaimModel" 4 (some .int) [] 8 331)  : ∀ (x0 : Nat) (x1 : Int32) (x2 : Int32) (x3 : Int32) (y0 : Nat) (h : Hp) (H : Heap) (locs : List Loc) (cells slots : Nat) (ls : Array Slot), HP D Hs h H → LO Hs locs → lv_has ls 4 [(0, rv x0), (1, .int x1), (2, .int x2), (3, .int x3)] → f_X4_subclass_30 x0 x1 x2 x3 y0 h = some rr → W p l e R s m args below meth c H locs cells slots (ZM D Hs iI rr below args s) (F0 m 30 ls [rv y0]) := by
  obtain ⟨⟨hx, hb, hml, hown, hts⟩, -⟩ := id C
  have hl9 := C.2.1.2.2.1
  intro x0 x1 x2 x3 y0 h H locs cells slots ls hH hL hl hrun
  unfold f_X4_subclass_30 at hrun
  refine lv_iconst (v := (0 : Int32)) (pc := 30) hx hb dX4_subclass_30 (by decide) ?_
  exact b_X4_subclass_31 C x0 x1 x2 x3 y0 (0 : Int32) h H locs cells slots ls hH hL (lv_sub hl [0, 1, 2, 3] rfl) hrun

theorem b_X4_subclass {rr : (Int32 ⊕ Ex) × Hp}  (C : CX p l R s m args meth c D Hs cX4_subclass "MassclaimModel" 4 (some .int) [] 8 331)  : ∀ (x0 : Nat) (x1 : Int32) (x2 : Int32) (x3 : Int32) (h : Hp) (H : Heap) (locs : List Loc) (cells slots : Nat) (ls : Array Slot), HP D Hs h H → LO Hs locs → lv_has ls 4 [(0, rv x0), (1, .int x1), (2, .int x2), (3, .int x3)] → f_X4_subclass x0 x1 x2 x3 h = some rr → W p l e R s m args below meth c H locs cells slots (ZM D Hs iI rr below args s) (F0 m 0 ls []) := by
  obtain ⟨⟨hx, hb, hml, hown, hts⟩, -⟩ := id C
  have hl9 := C.2.1.2.2.1
  intro x0 x1 x2 x3 h H locs cells slots ls hH hL hl hrun
  unfold f_X4_subclass at hrun
  refine V_aload_n (pc := 0) hx hb dX4_subclass_0 rfl (lv_at hl 0 rfl) ?_
  refine lv_iload_n (pc := 1) hx hb dX4_subclass_1 rfl (lv_at hl 1 rfl) ?_
  refine lv_i2l (pc := 2) hx hb dX4_subclass_2 rfl ?_
  refine lv_lconst (v := (0 : Int64)) (pc := 3) hx hb dX4_subclass_3 (by decide) ?_
  refine lv_ldc2 (pc := 4) hx hb hown (hts _ q2071) dX4_subclass_4 ?_
  refine V_bd (pc := 7) C hL rfl hrun (fun rr1 e1 => Z_runS (rest := [rv x0]) C hH (m_X4_isWithin hl9 e1) wS_X4_100 rfl ⟨by decide, by decide⟩ rfl (by simp [csum, rv_cat, cat_i, cat_l, cat_f, cat_d]) hl.1 dX4_subclass_7) (fun v27 h28 H locs cells slots hH hL hrun => ?_)
  refine lv_if_eq (tgt := 30) (pc := 10) hx hb dX4_subclass_10 (by decide) (fun c_ => ?_) (fun c_ => ?_)
  · have hrun := ite_t hrun c_
    exact b_X4_subclass_30 C x0 x1 x2 x3 x0 h28 H locs cells slots ls hH hL (lv_sub hl [0, 1, 2, 3] rfl) hrun
  · have hrun := ite_f hrun c_
    refine lv_iload_n (pc := 13) hx hb dX4_subclass_13 rfl (lv_at hl 2 rfl) ?_
    refine lv_i2l (pc := 14) hx hb dX4_subclass_14 rfl ?_
    refine lv_iload_n (pc := 15) hx hb dX4_subclass_15 rfl (lv_at hl 1 rfl) ?_
    refine lv_i2l (pc := 16) hx hb dX4_subclass_16 rfl ?_
    refine lv_ldc2 (pc := 17) hx hb hown (hts _ q2071) dX4_subclass_17 ?_
    refine V_bd (pc := 20) C hL rfl hrun (fun rr1 e1 => Z_runS (rest := [rv x0]) C hH (m_X4_isWithin hl9 e1) wS_X4_100 rfl ⟨by decide, by decide⟩ rfl (by simp [csum, rv_cat, cat_i, cat_l, cat_f, cat_d]) hl.1 dX4_subclass_20) (fun v29 h30 H locs cells slots hH hL hrun => ?_)
    refine lv_if_eq (tgt := 30) (pc := 23) hx hb dX4_subclass_23 (by decide) (fun c_ => ?_) (fun c_ => ?_)
    · have hrun := ite_t hrun c_
      exact b_X4_subclass_30 C x0 x1 x2 x3 x0 h30 H locs cells slots ls hH hL (lv_sub hl [0, 1, 2, 3] rfl) hrun
    · have hrun := ite_f hrun c_
      refine lv_iconst (v := (1 : Int32)) (pc := 26) hx hb dX4_subclass_26 (by decide) ?_
      refine lv_goto (tgt := 31) (pc := 27) hx hb dX4_subclass_27 (by decide) ?_
      exact b_X4_subclass_31 C x0 x1 x2 x3 x0 (1 : Int32) h30 H locs cells slots ls hH hL (lv_sub hl [0, 1, 2, 3] rfl) hrun

theorem m_X4_subclass {l : Launch} {D : va_G} {Hs : Heap} {h : Hp} {rr : (Int32 ⊕ Ex) × Hp} (hl9 : l.stackTraces = false) {x0 : Nat} {x1 : Int32} {x2 : Int32} {x3 : Int32} (hrun : f_X4_subclass x0 x1 x2 x3 h = some rr) : CM l yX4_subclass (ws_ yX4_subclass cX4_subclass 4 (some .int)) 8 331 iI [rv x0, .int x1, .int x2, .int x3] D Hs h rr := by
  refine CM.of (lv := [(0, rv x0), (1, .int x1), (2, .int x2), (3, .int x3)]) (plainFor_of_name (by decide)) hl9 (by simp [lv_args, rv_cat, cat_i, cat_l, cat_f, cat_d]) (by simp [lg_sl, rv_cat, cat_i, cat_l, cat_f, cat_d]) ?_
  intro p e R s m args below meth c H ls C hH hl hin
  exact b_X4_subclass C x0 x1 x2 x3 _ H [] _ _ ls hH (fun _ q => nomatch q) (lv_sub hl [0, 1, 2, 3] rfl) hrun

/-! Massclaim$Subclass.has(I)Z -/
def f_X7_has  (x0 : Nat) (x1 : Int32) (h : Hp) : Rt Int32 :=
  gd (kC h x0 = 7) <| bd (f_X1_isIn (x1.toInt64) ((kI h 601 x0).toInt64) ((kI h 602 x0).toInt64) h) fun v2 h3 => gd (b01 v2) <| some (.inl v2, h3)
theorem b_X7_has {rr : (Int32 ⊕ Ex) × Hp}  (C : CX p l R s m args meth c D Hs cX7_has "Massclaim$Subclass" 2 (some .boolean) [] 2 25)  : ∀ (x0 : Nat) (x1 : Int32) (h : Hp) (H : Heap) (locs : List Loc) (cells slots : Nat) (ls : Array Slot), HP D Hs h H → LO Hs locs → lv_has ls 2 [(0, rv x0), (1, .int x1)] → f_X7_has x0 x1 h = some rr → W p l e R s m args below meth c H locs cells slots (ZM D Hs iI rr below args s) (F0 m 0 ls []) := by
  obtain ⟨⟨hx, hb, hml, hown, hts⟩, -⟩ := id C
  have hl9 := C.2.1.2.2.1
  intro x0 x1 h H locs cells slots ls hH hL hl hrun
  unfold f_X7_has at hrun
  refine lv_iload_n (pc := 0) hx hb dX7_has_0 rfl (lv_at hl 1 rfl) ?_
  refine lv_i2l (pc := 1) hx hb dX7_has_1 rfl ?_
  refine V_aload_n (pc := 2) hx hb dX7_has_2 rfl (lv_at hl 0 rfl) ?_
  obtain ⟨c1, hrun⟩ := gd_some hrun
  refine V_getI (pc := 3) C hH fr_X7_13 dX7_has_3 c1 rfl ?_
  refine lv_i2l (pc := 6) hx hb dX7_has_6 rfl ?_
  refine V_aload_n (pc := 7) hx hb dX7_has_7 rfl (lv_at hl 0 rfl) ?_
  refine V_getI (pc := 8) C hH fr_X7_16 dX7_has_8 c1 rfl ?_
  refine lv_i2l (pc := 11) hx hb dX7_has_11 rfl ?_
  refine V_bd (pc := 12) C hL rfl hrun (fun rr1 e1 => Z_runSN (rest := []) C hH (m_X1_isIn hl9 e1) wSN_X7_23 rfl ⟨by decide, by decide⟩ rfl (Nat.le_of_ble_eq_true rfl) hl.1 dX7_has_12) (fun v2 h3 H locs cells slots hH hL hrun => ?_)
  obtain ⟨c4, hrun⟩ := gd_some hrun
  exact V_zret (pc := 15) C hH hL c4 hrun dX7_has_15

theorem m_X7_has {l : Launch} {D : va_G} {Hs : Heap} {h : Hp} {rr : (Int32 ⊕ Ex) × Hp} (hl9 : l.stackTraces = false) {x0 : Nat} {x1 : Int32} (hrun : f_X7_has x0 x1 h = some rr) : CM l yX7_has (ws_ yX7_has cX7_has 2 (some .boolean)) 2 25 iI [rv x0, .int x1] D Hs h rr := by
  refine CM.of (lv := [(0, rv x0), (1, .int x1)]) (plainFor_of_name (by decide)) hl9 (by simp [lv_args, rv_cat, cat_i, cat_l, cat_f, cat_d]) (by simp [lg_sl, rv_cat, cat_i, cat_l, cat_f, cat_d]) ?_
  intro p e R s m args below meth c H ls C hH hl hin
  exact b_X7_has C x0 x1 _ H [] _ _ ls hH (fun _ q => nomatch q) (lv_sub hl [0, 1] rfl) hrun

/-! Massclaim$Numbered.compareTo(LMassclaim$Numbered;)I -/
def f_X18_compareTo  (x0 : Nat) (x1 : Nat) (h : Hp) : Rt Int32 :=
  gd (isN (kC h x0)) <| bd (f_num x0 h) fun v1 h2 => gd (isN (kC h2 x1)) <| bd (f_num x1 h2) fun v4 h5 => some (.inl (v1 - v4), h5)
theorem b_X18_compareTo {rr : (Int32 ⊕ Ex) × Hp}  (C : CX p l R s m args meth c D Hs cX18_compareTo "Massclaim$Numbered" 2 (some .int) [] 2 20)  : ∀ (x0 : Nat) (x1 : Nat) (h : Hp) (H : Heap) (locs : List Loc) (cells slots : Nat) (ls : Array Slot), HP D Hs h H → LO Hs locs → lv_has ls 2 [(0, rv x0), (1, rv x1)] → f_X18_compareTo x0 x1 h = some rr → W p l e R s m args below meth c H locs cells slots (ZM D Hs iI rr below args s) (F0 m 0 ls []) := by
  obtain ⟨⟨hx, hb, hml, hown, hts⟩, -⟩ := id C
  have hl9 := C.2.1.2.2.1
  intro x0 x1 h H locs cells slots ls hH hL hl hrun
  unfold f_X18_compareTo at hrun
  refine V_aload_n (pc := 0) hx hb dX18_compareTo_0 rfl (lv_at hl 0 rfl) ?_
  obtain ⟨c3, hrun⟩ := gd_some hrun
  refine V_bd5 (pc := 1) C hL rfl hrun (fun rr1 e1 => Z_num  (rest := []) C hH e1 hl9 c3 wF_X18_1_X5 wF_X18_1_X7 wF_X18_1_X8 wF_X18_1_X12 wF_X18_1_X16 ⟨by decide, by decide⟩ rfl (Nat.le_of_ble_eq_true rfl) hl.1 dX18_compareTo_1) (fun v1 h2 H locs cells slots hH hL hrun => ?_)
  refine V_aload_n (pc := 6) hx hb dX18_compareTo_6 rfl (lv_at hl 1 rfl) ?_
  obtain ⟨c6, hrun⟩ := gd_some hrun
  refine V_bd5 (pc := 7) C hL rfl hrun (fun rr1 e1 => Z_num  (rest := [.int v1]) C hH e1 hl9 c6 wF_X18_1_X5 wF_X18_1_X7 wF_X18_1_X8 wF_X18_1_X12 wF_X18_1_X16 ⟨by decide, by decide⟩ rfl (Nat.le_of_ble_eq_true rfl) hl.1 dX18_compareTo_7) (fun v4 h5 H locs cells slots hH hL hrun => ?_)
  refine lv_isub (pc := 12) hx hb dX18_compareTo_12 ?_
  exact V_iret (pc := 13) C hH hL hrun dX18_compareTo_13

theorem m_X18_compareTo {l : Launch} {D : va_G} {Hs : Heap} {h : Hp} {rr : (Int32 ⊕ Ex) × Hp} (hl9 : l.stackTraces = false) {x0 : Nat} {x1 : Nat} (hrun : f_X18_compareTo x0 x1 h = some rr) : CM l yX18_compareTo (ws_ yX18_compareTo cX18_compareTo 2 (some .int)) 2 20 iI [rv x0, rv x1] D Hs h rr := by
  refine CM.of (lv := [(0, rv x0), (1, rv x1)]) (plainFor_of_name (by decide)) hl9 (by simp [lv_args, rv_cat, cat_i, cat_l, cat_f, cat_d]) (by simp [lg_sl, rv_cat, cat_i, cat_l, cat_f, cat_d]) ?_
  intro p e R s m args below meth c H ls C hH hl hin
  exact b_X18_compareTo C x0 x1 _ H [] _ _ ls hH (fun _ q => nomatch q) (lv_sub hl [0, 1] rfl) hrun

/-! Massclaim.first(Ljava/util/List;)LMassclaim$Numbered; -/
def f_X1_first_51 (k4 : Nat → Nat → Int32 → Hp → Rt Nat) (x0 : Nat) (x2 : Int32) (y0 : Nat) (h : Hp) : Rt Nat :=
  vl (x2 + (1 : Int32)) fun v1 => k4 x0 y0 v1 h
def f_X1_first_37 (k4 : Nat → Nat → Int32 → Hp → Rt Nat) (x0 : Nat) (x2 : Int32) (h : Hp) : Rt Nat :=
  gd (kC h x0 = 18) <| bd (f_J2_get x0 x2 h) fun v2 h3 => gd (isN (kC h3 v2)) <| f_X1_first_51 k4 x0 x2 v2 h3
def f_X1_first_4  : Nat → Nat → Nat → Int32 → Hp → Rt Nat
  | 0, _, _, _, _ => none
  | n + 1, x0, x1, x2, h => gd (kC h x0 = 18) <| bd (f_J2_size x0 h) fun v6 h7 => if v6 ≤ x2 then
  (some (.inl x1, h7))
  else
  (if x1 = 0 then
  (f_X1_first_37 (f_X1_first_4 n) x0 x2 h7)
  else
  (gd (kC h7 x0 = 18) <| bd (f_J2_get x0 x2 h7) fun v9 h10 => gd (isN (kC h10 v9)) <| gd (isN (kC h10 v9)) <| bd (f_X18_compareTo v9 x1 h10) fun v13 h14 => if 0 ≤ v13 then
  (f_X1_first_51 (f_X1_first_4 n) x0 x2 x1 h14)
  else
  (f_X1_first_37 (f_X1_first_4 n) x0 x2 h14)))
def f_X1_first  (x0 : Nat) (h : Hp) : Rt Nat :=
  f_X1_first_4 FU x0 0 (0 : Int32) h
theorem b_X1_first_51 {rr : (Nat ⊕ Ex) × Hp} {k4 : Nat → Nat → Int32 → Hp → Rt Nat} (C : CX p l R s m args meth c D Hs cX1_first "Massclaim" 3 (some (.object "Massclaim$Numbered")) [] 4 64) (K4 : ∀ (x0 : Nat) (x1 : Nat) (x2 : Int32) (h : Hp) (H : Heap) (locs : List Loc) (cells slots : Nat) (ls : Array Slot), HP D Hs h H → LO Hs locs → lv_has ls 3 [(0, rv x0), (1, rv x1), (2, .int x2)] → k4 x0 x1 x2 h = some rr → W p l e R s m args below meth c H locs cells slots (ZM D Hs iR rr below args s) (F0 m 4 ls [])) : ∀ (x0 : Nat) (x2 : Int32) (y0 : Nat) (h : Hp) (H : Heap) (locs : List Loc) (cells slots : Nat) (ls : Array Slot), HP D Hs h H → LO Hs locs → lv_has ls 3 [(0, rv x0), (2, .int x2)] → f_X1_first_51 k4 x0 x2 y0 h = some rr → W p l e R s m args below meth c H locs cells slots (ZM D Hs iR rr below args s) (F0 m 51 ls [rv y0]) := by
  obtain ⟨⟨hx, hb, hml, hown, hts⟩, -⟩ := id C
  have hl9 := C.2.1.2.2.1
  intro x0 x2 y0 h H locs cells slots ls hH hL hl hrun
  unfold f_X1_first_51 at hrun
  refine V_astore_n (i := 1) (lv' := [(1, rv y0), (0, rv x0), (2, .int x2)]) (pc := 51) hx hb dX1_first_51 rfl hl (by decide) (by simp [rv_cat, cat_i, cat_l, cat_f, cat_d]) (fun ls hl => ?_)
  obtain ⟨v1, ev1⟩ : ∃ y : Int32, y = x2 + (1 : Int32) := ⟨_, rfl⟩
  have hrun := vl_at hrun v1 ev1
  refine lv_iinc (v := v1) (lv' := [(2, .int v1), (1, rv y0), (0, rv x0)]) (pc := 52) hx hb dX1_first_52 hl (k := 2) rfl (by rw [ev1]; rfl) (by decide) (by first | rfl | simp [rv_cat, cat_i, cat_l, cat_f, cat_d]) (fun ls hl => ?_)
  refine lv_goto (tgt := 4) (pc := 55) hx hb dX1_first_55 (by decide) ?_
  exact K4 x0 y0 v1 h H locs cells slots ls hH hL (lv_sub hl [2, 1, 0] rfl) hrun

theorem b_X1_first_37 {rr : (Nat ⊕ Ex) × Hp} {k4 : Nat → Nat → Int32 → Hp → Rt Nat} (C : CX p l R s m args meth c D Hs cX1_first "Massclaim" 3 (some (.object "Massclaim$Numbered")) [] 4 64) (K4 : ∀ (x0 : Nat) (x1 : Nat) (x2 : Int32) (h : Hp) (H : Heap) (locs : List Loc) (cells slots : Nat) (ls : Array Slot), HP D Hs h H → LO Hs locs → lv_has ls 3 [(0, rv x0), (1, rv x1), (2, .int x2)] → k4 x0 x1 x2 h = some rr → W p l e R s m args below meth c H locs cells slots (ZM D Hs iR rr below args s) (F0 m 4 ls [])) : ∀ (x0 : Nat) (x2 : Int32) (h : Hp) (H : Heap) (locs : List Loc) (cells slots : Nat) (ls : Array Slot), HP D Hs h H → LO Hs locs → lv_has ls 3 [(0, rv x0), (2, .int x2)] → f_X1_first_37 k4 x0 x2 h = some rr → W p l e R s m args below meth c H locs cells slots (ZM D Hs iR rr below args s) (F0 m 37 ls []) := by
  obtain ⟨⟨hx, hb, hml, hown, hts⟩, -⟩ := id C
  have hl9 := C.2.1.2.2.1
  intro x0 x2 h H locs cells slots ls hH hL hl hrun
  unfold f_X1_first_37 at hrun
  refine V_aload_n (pc := 37) hx hb dX1_first_37 rfl (lv_at hl 0 rfl) ?_
  refine lv_iload_n (pc := 38) hx hb dX1_first_38 rfl (lv_at hl 1 rfl) ?_
  obtain ⟨c4, hrun⟩ := gd_some hrun
  refine V_bd5 (pc := 39) C hL rfl hrun (fun rr1 e1 => Z_runF (rest := []) C hH (m_J2_get hl9 e1) rfl wF_X1_19_J2 c4 (by decide) rfl ⟨by decide, by decide⟩ rfl (Nat.le_of_ble_eq_true rfl) hl.1 dX1_first_39) (fun v2 h3 H locs cells slots hH hL hrun => ?_)
  obtain ⟨c5, hrun⟩ := gd_some hrun
  refine V_castNum (pc := 44) C hH q958 dX1_first_44 c5 ?_
  refine lv_goto (tgt := 51) (pc := 47) hx hb dX1_first_47 (by decide) ?_
  exact b_X1_first_51 C K4 x0 x2 v2 h3 H locs cells slots ls hH hL (lv_sub hl [0, 1] rfl) hrun

theorem b_X1_first_4 {rr : (Nat ⊕ Ex) × Hp}  (C : CX p l R s m args meth c D Hs cX1_first "Massclaim" 3 (some (.object "Massclaim$Numbered")) [] 4 64)  : ∀ (n : Nat) (x0 : Nat) (x1 : Nat) (x2 : Int32) (h : Hp) (H : Heap) (locs : List Loc) (cells slots : Nat) (ls : Array Slot), HP D Hs h H → LO Hs locs → lv_has ls 3 [(0, rv x0), (1, rv x1), (2, .int x2)] → f_X1_first_4 n x0 x1 x2 h = some rr → W p l e R s m args below meth c H locs cells slots (ZM D Hs iR rr below args s) (F0 m 4 ls []) := by
  obtain ⟨⟨hx, hb, hml, hown, hts⟩, -⟩ := id C
  have hl9 := C.2.1.2.2.1
  intro n
  induction n with
  | zero =>
    intro x0 x1 x2 h H locs cells slots ls hH hL hl hrun
    cases (show (none : Option _) = some rr from hrun)
  | succ n ih =>
    intro x0 x1 x2 h H locs cells slots ls hH hL hl hrun
    rw [f_X1_first_4] at hrun
    refine lv_iload_n (pc := 4) hx hb dX1_first_4 rfl (lv_at hl 2 rfl) ?_
    refine V_aload_n (pc := 5) hx hb dX1_first_5 rfl (lv_at hl 0 rfl) ?_
    obtain ⟨c8, hrun⟩ := gd_some hrun
    refine V_bd5 (pc := 6) C hL rfl hrun (fun rr1 e1 => Z_runF (rest := [.int x2]) C hH (m_J2_size hl9 e1) rfl wF_X1_13_J2 c8 (by decide) rfl ⟨by decide, by decide⟩ rfl (Nat.le_of_ble_eq_true rfl) hl.1 dX1_first_6) (fun v6 h7 H locs cells slots hH hL hrun => ?_)
    refine lv_icmp_ge (tgt := 58) (pc := 11) hx hb dX1_first_11 (by decide) (fun c_ => ?_) (fun c_ => ?_)
    · have hrun := ite_t hrun c_
      refine V_aload_n (pc := 58) hx hb dX1_first_58 rfl (lv_at hl 1 rfl) ?_
      exact V_aret (pc := 59) C (Or.inl ⟨_, rfl⟩) hH hL hrun dX1_first_59
    · have hrun := ite_f hrun c_
      refine V_aload_n (pc := 14) hx hb dX1_first_14 rfl (lv_at hl 1 rfl) ?_
      refine V_ifnull (tgt := 37) (pc := 15) hx hb dX1_first_15 (by decide) hrun (fun c_ hrun => ?_) (fun c_ hrun => ?_)
      · exact b_X1_first_37 C ih x0 x2 h7 H locs cells slots ls hH hL (lv_sub hl [0, 2] rfl) hrun
      · refine V_aload_n (pc := 18) hx hb dX1_first_18 rfl (lv_at hl 0 rfl) ?_
        refine lv_iload_n (pc := 19) hx hb dX1_first_19 rfl (lv_at hl 2 rfl) ?_
        obtain ⟨c11, hrun⟩ := gd_some hrun
        refine V_bd5 (pc := 20) C hL rfl hrun (fun rr1 e1 => Z_runF (rest := []) C hH (m_J2_get hl9 e1) rfl wF_X1_19_J2 c11 (by decide) rfl ⟨by decide, by decide⟩ rfl (Nat.le_of_ble_eq_true rfl) hl.1 dX1_first_20) (fun v9 h10 H locs cells slots hH hL hrun => ?_)
        obtain ⟨c12, hrun⟩ := gd_some hrun
        refine V_castNum (pc := 25) C hH q958 dX1_first_25 c12 ?_
        refine V_aload_n (pc := 28) hx hb dX1_first_28 rfl (lv_at hl 1 rfl) ?_
        obtain ⟨c15, hrun⟩ := gd_some hrun
        refine V_bd5 (pc := 29) C hL rfl hrun (fun rr1 e1 => Z_cmp (rest := []) C hH (m_X18_compareTo hl9 e1) c15 q960 ⟨by decide, by decide⟩ rfl (Nat.le_of_ble_eq_true rfl) hl.1 dX1_first_29) (fun v13 h14 H locs cells slots hH hL hrun => ?_)
        refine lv_if_ge (tgt := 50) (pc := 34) hx hb dX1_first_34 (by decide) (fun c_ => ?_) (fun c_ => ?_)
        · have hrun := ite_t hrun c_
          refine V_aload_n (pc := 50) hx hb dX1_first_50 rfl (lv_at hl 1 rfl) ?_
          exact b_X1_first_51 C ih x0 x2 x1 h14 H locs cells slots ls hH hL (lv_sub hl [0, 2] rfl) hrun
        · have hrun := ite_f hrun c_
          exact b_X1_first_37 C ih x0 x2 h14 H locs cells slots ls hH hL (lv_sub hl [0, 2] rfl) hrun

theorem b_X1_first {rr : (Nat ⊕ Ex) × Hp}  (C : CX p l R s m args meth c D Hs cX1_first "Massclaim" 3 (some (.object "Massclaim$Numbered")) [] 4 64)  : ∀ (x0 : Nat) (h : Hp) (H : Heap) (locs : List Loc) (cells slots : Nat) (ls : Array Slot), HP D Hs h H → LO Hs locs → lv_has ls 3 [(0, rv x0)] → f_X1_first x0 h = some rr → W p l e R s m args below meth c H locs cells slots (ZM D Hs iR rr below args s) (F0 m 0 ls []) := by
  obtain ⟨⟨hx, hb, hml, hown, hts⟩, -⟩ := id C
  have hl9 := C.2.1.2.2.1
  intro x0 h H locs cells slots ls hH hL hl hrun
  unfold f_X1_first at hrun
  refine V_null (pc := 0) hx hb dX1_first_0 ?_
  refine V_astore_n (i := 1) (lv' := [(1, rv 0), (0, rv x0)]) (pc := 1) hx hb dX1_first_1 rfl hl (by decide) (by simp [rv_cat, cat_i, cat_l, cat_f, cat_d]) (fun ls hl => ?_)
  refine lv_iconst (v := (0 : Int32)) (pc := 2) hx hb dX1_first_2 (by decide) ?_
  refine lv_istore_n (i := 2) (lv' := [(2, .int (0 : Int32)), (1, rv 0), (0, rv x0)]) (pc := 3) hx hb dX1_first_3 rfl hl (by decide) (by simp [rv_cat, cat_i, cat_l, cat_f, cat_d]) (fun ls hl => ?_)
  exact b_X1_first_4 C FU x0 0 (0 : Int32) h H locs cells slots ls hH hL (lv_sub hl [2, 1, 0] rfl) hrun

theorem m_X1_first {l : Launch} {D : va_G} {Hs : Heap} {h : Hp} {rr : (Nat ⊕ Ex) × Hp} (hl9 : l.stackTraces = false) {x0 : Nat} (hrun : f_X1_first x0 h = some rr) : CM l yX1_first (ws_ yX1_first cX1_first 3 (some (.object "Massclaim$Numbered"))) 4 64 iR [rv x0] D Hs h rr := by
  refine CM.of (lv := [(0, rv x0)]) (plainFor_of_name (by decide)) hl9 (by simp [lv_args, rv_cat, cat_i, cat_l, cat_f, cat_d]) (by simp [lg_sl, rv_cat, cat_i, cat_l, cat_f, cat_d]) ?_
  intro p e R s m args below meth c H ls C hH hl hin
  exact b_X1_first C x0 _ H [] _ _ ls hH (fun _ q => nomatch q) (lv_sub hl [0] rfl) hrun

/-! Massclaim$Person.subclass()LMassclaim$Subclass; -/
def f_X5_subclass_101  (y0 : Nat) (h : Hp) : Rt Nat :=
  some (.inl y0, h)
def f_X5_subclass_76 (k10 : Nat → Nat → Int32 → Hp → Rt Nat) (x0 : Nat) (x1 : Nat) (x2 : Int32) (y0 : Int32) (h : Hp) : Rt Nat :=
  vl (x2 + (1 : Int32)) fun v1 => k10 x0 x1 v1 h
def f_X5_subclass_75 (k10 : Nat → Nat → Int32 → Hp → Rt Nat) (x0 : Nat) (x1 : Nat) (x2 : Int32) (h : Hp) : Rt Nat :=
  f_X5_subclass_76 k10 x0 x1 x2 (0 : Int32) h
def f_X5_subclass_10  : Nat → Nat → Nat → Int32 → Hp → Rt Nat
  | 0, _, _, _, _ => none
  | n + 1, x0, x1, x2, h => gd (kC h x0 = 5) <| gd (kC h (kR h 421 x0) = 1) <| gd (kC h (kR h 1 (kR h 421 x0)) = 2) <| bd (f_X2_size (kR h 1 (kR h 421 x0)) h) fun v4 h5 => if v4 ≤ x2 then
  (gd (kC h5 x0 = 5) <| bd (f_X5_isMember x0 h5) fun v7 h8 => if v7 = 0 then
  (f_X5_subclass_101 0 h8)
  else
  (bd (f_X1_first x1 h8) fun v10 h11 => gd (v10 = 0 ∨ kC h11 v10 = 7) <| f_X5_subclass_101 v10 h11))
  else
  (gd (kC h5 x0 = 5) <| gd (kC h5 (kR h5 421 x0) = 1) <| gd (kC h5 (kR h5 1 (kR h5 421 x0)) = 2) <| bd (f_X2_at (kR h5 1 (kR h5 421 x0)) x2 h5) fun v15 h16 => gd (v15 = 0 ∨ kC h16 v15 = 7) <| gd (kC h16 x0 = 5) <| gd (kC h16 v15 = 7) <| bd (f_X7_has v15 (kI h16 405 x0) h16) fun v20 h21 => if v20 = 0 then
  (f_X5_subclass_75 (f_X5_subclass_10 n) x0 x1 x2 h21)
  else
  (gd (kC h21 x0 = 5) <| gd (kC h21 (kR h21 421 x0) = 1) <| gd (kC h21 (kR h21 1 (kR h21 421 x0)) = 2) <| bd (f_X2_at (kR h21 1 (kR h21 421 x0)) x2 h21) fun v25 h26 => gd (v25 = 0 ∨ kC h26 v25 = 7) <| gd (kC h26 x1 = 18) <| bd (f_J2_add x1 v25 h26) fun v29 h30 => if v29 = 0 then
  (f_X5_subclass_75 (f_X5_subclass_10 n) x0 x1 x2 h30)
  else
  (f_X5_subclass_76 (f_X5_subclass_10 n) x0 x1 x2 (1 : Int32) h30)))
def f_X5_subclass  (x0 : Nat) (h : Hp) : Rt Nat :=
  nw h 18 3 fun q32 h33 => gd (kC h33 q32 = 18) <| bd (f_J2_init q32 h33) fun _ h35 => f_X5_subclass_10 FU x0 q32 (0 : Int32) h35
theorem b_X5_subclass_101 {rr : (Nat ⊕ Ex) × Hp}  (C : CX p l R s m args meth c D Hs cX5_subclass "Massclaim$Person" 4 (some (.object "Massclaim$Subclass")) [] 8 331)  : ∀ (y0 : Nat) (h : Hp) (H : Heap) (locs : List Loc) (cells slots : Nat) (ls : Array Slot), HP D Hs h H → LO Hs locs → lv_has ls 4 [] → f_X5_subclass_101 y0 h = some rr → W p l e R s m args below meth c H locs cells slots (ZM D Hs iR rr below args s) (F0 m 101 ls [rv y0]) := by
  obtain ⟨⟨hx, hb, hml, hown, hts⟩, -⟩ := id C
  have hl9 := C.2.1.2.2.1
  intro y0 h H locs cells slots ls hH hL hl hrun
  unfold f_X5_subclass_101 at hrun
  exact V_aret (pc := 101) C (Or.inl ⟨_, rfl⟩) hH hL hrun dX5_subclass_101

theorem b_X5_subclass_76 {rr : (Nat ⊕ Ex) × Hp} {k10 : Nat → Nat → Int32 → Hp → Rt Nat} (C : CX p l R s m args meth c D Hs cX5_subclass "Massclaim$Person" 4 (some (.object "Massclaim$Subclass")) [] 8 331) (K10 : ∀ (x0 : Nat) (x1 : Nat) (x2 : Int32) (h : Hp) (H : Heap) (locs : List Loc) (cells slots : Nat) (ls : Array Slot), HP D Hs h H → LO Hs locs → lv_has ls 4 [(0, rv x0), (1, rv x1), (2, .int x2)] → k10 x0 x1 x2 h = some rr → W p l e R s m args below meth c H locs cells slots (ZM D Hs iR rr below args s) (F0 m 10 ls [])) : ∀ (x0 : Nat) (x1 : Nat) (x2 : Int32) (y0 : Int32) (h : Hp) (H : Heap) (locs : List Loc) (cells slots : Nat) (ls : Array Slot), HP D Hs h H → LO Hs locs → lv_has ls 4 [(0, rv x0), (1, rv x1), (2, .int x2)] → f_X5_subclass_76 k10 x0 x1 x2 y0 h = some rr → W p l e R s m args below meth c H locs cells slots (ZM D Hs iR rr below args s) (F0 m 76 ls [.int y0]) := by
  obtain ⟨⟨hx, hb, hml, hown, hts⟩, -⟩ := id C
  have hl9 := C.2.1.2.2.1
  intro x0 x1 x2 y0 h H locs cells slots ls hH hL hl hrun
  unfold f_X5_subclass_76 at hrun
  refine lv_istore_n (i := 3) (lv' := [(3, .int y0), (0, rv x0), (1, rv x1), (2, .int x2)]) (pc := 76) hx hb dX5_subclass_76 rfl hl (by decide) rfl (fun ls hl => ?_)
  obtain ⟨v1, ev1⟩ : ∃ y : Int32, y = x2 + (1 : Int32) := ⟨_, rfl⟩
  have hrun := vl_at hrun v1 ev1
  refine lv_iinc (v := v1) (lv' := [(2, .int v1), (3, .int y0), (0, rv x0), (1, rv x1)]) (pc := 77) hx hb dX5_subclass_77 hl (k := 3) rfl (by rw [ev1]; rfl) (by decide) (by first | rfl | simp [rv_cat, cat_i, cat_l, cat_f, cat_d]) (fun ls hl => ?_)
  refine lv_goto (tgt := 10) (pc := 80) hx hb dX5_subclass_80 (by decide) ?_
  exact K10 x0 x1 v1 h H locs cells slots ls hH hL (lv_sub hl [2, 3, 0] rfl) hrun

theorem b_X5_subclass_75 {rr : (Nat ⊕ Ex) × Hp} {k10 : Nat → Nat → Int32 → Hp → Rt Nat} (C : CX p l R s m args meth c D Hs cX5_subclass "Massclaim$Person" 4 (some (.object "Massclaim$Subclass")) [] 8 331) (K10 : ∀ (x0 : Nat) (x1 : Nat) (x2 : Int32) (h : Hp) (H : Heap) (locs : List Loc) (cells slots : Nat) (ls : Array Slot), HP D Hs h H → LO Hs locs → lv_has ls 4 [(0, rv x0), (1, rv x1), (2, .int x2)] → k10 x0 x1 x2 h = some rr → W p l e R s m args below meth c H locs cells slots (ZM D Hs iR rr below args s) (F0 m 10 ls [])) : ∀ (x0 : Nat) (x1 : Nat) (x2 : Int32) (h : Hp) (H : Heap) (locs : List Loc) (cells slots : Nat) (ls : Array Slot), HP D Hs h H → LO Hs locs → lv_has ls 4 [(0, rv x0), (1, rv x1), (2, .int x2)] → f_X5_subclass_75 k10 x0 x1 x2 h = some rr → W p l e R s m args below meth c H locs cells slots (ZM D Hs iR rr below args s) (F0 m 75 ls []) := by
  obtain ⟨⟨hx, hb, hml, hown, hts⟩, -⟩ := id C
  have hl9 := C.2.1.2.2.1
  intro x0 x1 x2 h H locs cells slots ls hH hL hl hrun
  unfold f_X5_subclass_75 at hrun
  refine lv_iconst (v := (0 : Int32)) (pc := 75) hx hb dX5_subclass_75 (by decide) ?_
  exact b_X5_subclass_76 C K10 x0 x1 x2 (0 : Int32) h H locs cells slots ls hH hL (lv_sub hl [0, 1, 2] rfl) hrun

theorem b_X5_subclass_10 {rr : (Nat ⊕ Ex) × Hp}  (C : CX p l R s m args meth c D Hs cX5_subclass "Massclaim$Person" 4 (some (.object "Massclaim$Subclass")) [] 8 331)  : ∀ (n : Nat) (x0 : Nat) (x1 : Nat) (x2 : Int32) (h : Hp) (H : Heap) (locs : List Loc) (cells slots : Nat) (ls : Array Slot), HP D Hs h H → LO Hs locs → lv_has ls 4 [(0, rv x0), (1, rv x1), (2, .int x2)] → f_X5_subclass_10 n x0 x1 x2 h = some rr → W p l e R s m args below meth c H locs cells slots (ZM D Hs iR rr below args s) (F0 m 10 ls []) := by
  obtain ⟨⟨hx, hb, hml, hown, hts⟩, -⟩ := id C
  have hl9 := C.2.1.2.2.1
  intro n
  induction n with
  | zero =>
    intro x0 x1 x2 h H locs cells slots ls hH hL hl hrun
    cases (show (none : Option _) = some rr from hrun)
  | succ n ih =>
    intro x0 x1 x2 h H locs cells slots ls hH hL hl hrun
    rw [f_X5_subclass_10] at hrun
    refine lv_iload_n (pc := 10) hx hb dX5_subclass_10 rfl (lv_at hl 2 rfl) ?_
    refine V_aload_n (pc := 11) hx hb dX5_subclass_11 rfl (lv_at hl 0 rfl) ?_
    obtain ⟨c2, hrun⟩ := gd_some hrun
    refine V_getR (pc := 12) C hH fr_X5_3 dX5_subclass_12 c2 rfl ?_
    obtain ⟨c3, hrun⟩ := gd_some hrun
    refine V_getNR (pc := 15) C hH fn_X5_74 dX5_subclass_15 c3 rfl ?_
    obtain ⟨c6, hrun⟩ := gd_some hrun
    refine V_bd (pc := 18) C hL rfl hrun (fun rr1 e1 => Z_runV (rest := [.int x2]) C hH (m_X2_size hl9 e1) wV_X5_78 c6 rfl (by decide) rfl rfl ⟨by decide, by decide⟩ rfl (Nat.le_of_ble_eq_true rfl) hl.1 dX5_subclass_18) (fun v4 h5 H locs cells slots hH hL hrun => ?_)
    refine lv_icmp_ge (tgt := 83) (pc := 21) hx hb dX5_subclass_21 (by decide) (fun c_ => ?_) (fun c_ => ?_)
    · have hrun := ite_t hrun c_
      refine V_aload_n (pc := 83) hx hb dX5_subclass_83 rfl (lv_at hl 0 rfl) ?_
      obtain ⟨c9, hrun⟩ := gd_some hrun
      refine V_bd (pc := 84) C hL rfl hrun (fun rr1 e1 => Z_runV (rest := []) C hH (m_X5_isMember hl9 e1) wV_X5_103 c9 rfl (by decide) rfl rfl ⟨by decide, by decide⟩ rfl (Nat.le_of_ble_eq_true rfl) hl.1 dX5_subclass_84) (fun v7 h8 H locs cells slots hH hL hrun => ?_)
      refine lv_if_eq (tgt := 100) (pc := 87) hx hb dX5_subclass_87 (by decide) (fun c_ => ?_) (fun c_ => ?_)
      · have hrun := ite_t hrun c_
        refine V_null (pc := 100) hx hb dX5_subclass_100 ?_
        exact b_X5_subclass_101 C 0 h8 H locs cells slots ls hH hL (lv_sub hl [] rfl) hrun
      · have hrun := ite_f hrun c_
        refine V_aload_n (pc := 90) hx hb dX5_subclass_90 rfl (lv_at hl 1 rfl) ?_
        refine V_bd (pc := 91) C hL rfl hrun (fun rr1 e1 => Z_runSN (rest := []) C hH (m_X1_first hl9 e1) wSN_X5_106 rfl ⟨by decide, by decide⟩ rfl (Nat.le_of_ble_eq_true rfl) hl.1 dX5_subclass_91) (fun v10 h11 H locs cells slots hH hL hrun => ?_)
        obtain ⟨c12, hrun⟩ := gd_some hrun
        refine V_castX (pc := 94) (ci := 6) C hH rfl (by decide) q942 dX5_subclass_94 c12 ?_
        refine lv_goto (tgt := 101) (pc := 97) hx hb dX5_subclass_97 (by decide) ?_
        exact b_X5_subclass_101 C v10 h11 H locs cells slots ls hH hL (lv_sub hl [] rfl) hrun
    · have hrun := ite_f hrun c_
      refine V_aload_n (pc := 24) hx hb dX5_subclass_24 rfl (lv_at hl 0 rfl) ?_
      obtain ⟨c13, hrun⟩ := gd_some hrun
      refine V_getR (pc := 25) C hH fr_X5_3 dX5_subclass_25 c13 rfl ?_
      obtain ⟨c14, hrun⟩ := gd_some hrun
      refine V_getNR (pc := 28) C hH fn_X5_74 dX5_subclass_28 c14 rfl ?_
      refine lv_iload_n (pc := 31) hx hb dX5_subclass_31 rfl (lv_at hl 2 rfl) ?_
      obtain ⟨c17, hrun⟩ := gd_some hrun
      refine V_bd (pc := 32) C hL rfl hrun (fun rr1 e1 => Z_runV (rest := []) C hH (m_X2_at hl9 e1) wV_X5_84 c17 rfl (by decide) rfl rfl ⟨by decide, by decide⟩ rfl (Nat.le_of_ble_eq_true rfl) hl.1 dX5_subclass_32) (fun v15 h16 H locs cells slots hH hL hrun => ?_)
      obtain ⟨c18, hrun⟩ := gd_some hrun
      refine V_castX (pc := 35) (ci := 6) C hH rfl (by decide) q942 dX5_subclass_35 c18 ?_
      refine V_aload_n (pc := 38) hx hb dX5_subclass_38 rfl (lv_at hl 0 rfl) ?_
      obtain ⟨c19, hrun⟩ := gd_some hrun
      refine V_getI (pc := 39) C hH fr_X5_90 dX5_subclass_39 c19 rfl ?_
      obtain ⟨c22, hrun⟩ := gd_some hrun
      refine V_bd (pc := 42) C hL rfl hrun (fun rr1 e1 => Z_runV (rest := []) C hH (m_X7_has hl9 e1) wV_X5_93 c22 rfl (by decide) rfl rfl ⟨by decide, by decide⟩ rfl (Nat.le_of_ble_eq_true rfl) hl.1 dX5_subclass_42) (fun v20 h21 H locs cells slots hH hL hrun => ?_)
      refine lv_if_eq (tgt := 75) (pc := 45) hx hb dX5_subclass_45 (by decide) (fun c_ => ?_) (fun c_ => ?_)
      · have hrun := ite_t hrun c_
        exact b_X5_subclass_75 C ih x0 x1 x2 h21 H locs cells slots ls hH hL (lv_sub hl [0, 1, 2] rfl) hrun
      · have hrun := ite_f hrun c_
        refine V_aload_n (pc := 48) hx hb dX5_subclass_48 rfl (lv_at hl 1 rfl) ?_
        refine V_aload_n (pc := 49) hx hb dX5_subclass_49 rfl (lv_at hl 0 rfl) ?_
        obtain ⟨c23, hrun⟩ := gd_some hrun
        refine V_getR (pc := 50) C hH fr_X5_3 dX5_subclass_50 c23 rfl ?_
        obtain ⟨c24, hrun⟩ := gd_some hrun
        refine V_getNR (pc := 53) C hH fn_X5_74 dX5_subclass_53 c24 rfl ?_
        refine lv_iload_n (pc := 56) hx hb dX5_subclass_56 rfl (lv_at hl 2 rfl) ?_
        obtain ⟨c27, hrun⟩ := gd_some hrun
        refine V_bd (pc := 57) C hL rfl hrun (fun rr1 e1 => Z_runV (rest := [rv x1]) C hH (m_X2_at hl9 e1) wV_X5_84 c27 rfl (by decide) rfl rfl ⟨by decide, by decide⟩ rfl (by simp [csum, rv_cat, cat_i, cat_l, cat_f, cat_d]) hl.1 dX5_subclass_57) (fun v25 h26 H locs cells slots hH hL hrun => ?_)
        obtain ⟨c28, hrun⟩ := gd_some hrun
        refine V_castX (pc := 60) (ci := 6) C hH rfl (by decide) q942 dX5_subclass_60 c28 ?_
        obtain ⟨c31, hrun⟩ := gd_some hrun
        refine V_bd5 (pc := 63) C hL rfl hrun (fun rr1 e1 => Z_runF (rest := []) C hH (m_J2_add hl9 e1) rfl wF_X5_97_J2 c31 (by decide) rfl ⟨by decide, by decide⟩ rfl (Nat.le_of_ble_eq_true rfl) hl.1 dX5_subclass_63) (fun v29 h30 H locs cells slots hH hL hrun => ?_)
        refine lv_if_eq (tgt := 75) (pc := 68) hx hb dX5_subclass_68 (by decide) (fun c_ => ?_) (fun c_ => ?_)
        · have hrun := ite_t hrun c_
          exact b_X5_subclass_75 C ih x0 x1 x2 h30 H locs cells slots ls hH hL (lv_sub hl [0, 1, 2] rfl) hrun
        · have hrun := ite_f hrun c_
          refine lv_iconst (v := (1 : Int32)) (pc := 71) hx hb dX5_subclass_71 (by decide) ?_
          refine lv_goto (tgt := 76) (pc := 72) hx hb dX5_subclass_72 (by decide) ?_
          exact b_X5_subclass_76 C ih x0 x1 x2 (1 : Int32) h30 H locs cells slots ls hH hL (lv_sub hl [0, 1, 2] rfl) hrun

theorem b_X5_subclass {rr : (Nat ⊕ Ex) × Hp}  (C : CX p l R s m args meth c D Hs cX5_subclass "Massclaim$Person" 4 (some (.object "Massclaim$Subclass")) [] 8 331)  : ∀ (x0 : Nat) (h : Hp) (H : Heap) (locs : List Loc) (cells slots : Nat) (ls : Array Slot), HP D Hs h H → LO Hs locs → lv_has ls 4 [(0, rv x0)] → f_X5_subclass x0 h = some rr → W p l e R s m args below meth c H locs cells slots (ZM D Hs iR rr below args s) (F0 m 0 ls []) := by
  obtain ⟨⟨hx, hb, hml, hown, hts⟩, -⟩ := id C
  have hl9 := C.2.1.2.2.1
  intro x0 h H locs cells slots ls hH hL hl hrun
  unfold f_X5_subclass at hrun
  refine V_new (pc := 0) C hH nl_X5_29 dX5_subclass_0 hrun (fun q32 h33 H cells slots hH hrun => ?_)
  refine lv_dup (pc := 3) hx hb dX5_subclass_3 (rv_cat _) ?_
  obtain ⟨c36, hrun⟩ := gd_some hrun
  refine V_bd (pc := 4) C hL rfl hrun (fun rr1 e1 => Z_runI (rest := [rv q32]) C hH (m_J2_init hl9 e1) wI_X5_31 (hH.pos c36) rfl ⟨by decide, by decide⟩ rfl (by simp [csum, rv_cat, cat_i, cat_l, cat_f, cat_d]) hl.1 dX5_subclass_4) (fun _ h35 H locs cells slots hH hL hrun => ?_)
  refine V_astore_n (i := 1) (lv' := [(1, rv q32), (0, rv x0)]) (pc := 7) hx hb dX5_subclass_7 rfl hl (by decide) (by simp [rv_cat, cat_i, cat_l, cat_f, cat_d]) (fun ls hl => ?_)
  refine lv_iconst (v := (0 : Int32)) (pc := 8) hx hb dX5_subclass_8 (by decide) ?_
  refine lv_istore_n (i := 2) (lv' := [(2, .int (0 : Int32)), (1, rv q32), (0, rv x0)]) (pc := 9) hx hb dX5_subclass_9 rfl hl (by decide) (by simp [rv_cat, cat_i, cat_l, cat_f, cat_d]) (fun ls hl => ?_)
  exact b_X5_subclass_10 C FU x0 q32 (0 : Int32) h35 H locs cells slots ls hH hL (lv_sub hl [2, 1, 0] rfl) hrun

theorem m_X5_subclass {l : Launch} {D : va_G} {Hs : Heap} {h : Hp} {rr : (Nat ⊕ Ex) × Hp} (hl9 : l.stackTraces = false) {x0 : Nat} (hrun : f_X5_subclass x0 h = some rr) : CM l yX5_subclass (ws_ yX5_subclass cX5_subclass 4 (some (.object "Massclaim$Subclass"))) 8 331 iR [rv x0] D Hs h rr := by
  refine CM.of (lv := [(0, rv x0)]) (plainFor_of_name (by decide)) hl9 (by simp [lv_args, rv_cat, cat_i, cat_l, cat_f, cat_d]) (by simp [lg_sl, rv_cat, cat_i, cat_l, cat_f, cat_d]) ?_
  intro p e R s m args below meth c H ls C hH hl hin
  exact b_X5_subclass C x0 _ H [] _ _ ls hH (fun _ q => nomatch q) (lv_sub hl [0] rfl) hrun

/-! Massclaim$Person.isBarred()Z -/
def f_X5_isBarred_15  (y0 : Int32) (h : Hp) : Rt Int32 :=
  gd (b01 y0) <| some (.inl y0, h)
def f_X5_isBarred  (x0 : Nat) (h : Hp) : Rt Int32 :=
  gd (kC h x0 = 5) <| if (kI h 407 x0) < (1080 : Int32) then
  (f_X5_isBarred_15 (0 : Int32) h)
  else
  (f_X5_isBarred_15 (1 : Int32) h)
theorem b_X5_isBarred_15 {rr : (Int32 ⊕ Ex) × Hp}  (C : CX p l R s m args meth c D Hs cX5_isBarred "Massclaim$Person" 1 (some .boolean) [] 1 0)  : ∀ (y0 : Int32) (h : Hp) (H : Heap) (locs : List Loc) (cells slots : Nat) (ls : Array Slot), HP D Hs h H → LO Hs locs → lv_has ls 1 [] → f_X5_isBarred_15 y0 h = some rr → W p l e R s m args below meth c H locs cells slots (ZM D Hs iI rr below args s) (F0 m 15 ls [.int y0]) := by
  obtain ⟨⟨hx, hb, hml, hown, hts⟩, -⟩ := id C
  have hl9 := C.2.1.2.2.1
  intro y0 h H locs cells slots ls hH hL hl hrun
  unfold f_X5_isBarred_15 at hrun
  obtain ⟨c1, hrun⟩ := gd_some hrun
  exact V_zret (pc := 15) C hH hL c1 hrun dX5_isBarred_15

theorem b_X5_isBarred {rr : (Int32 ⊕ Ex) × Hp}  (C : CX p l R s m args meth c D Hs cX5_isBarred "Massclaim$Person" 1 (some .boolean) [] 1 0)  : ∀ (x0 : Nat) (h : Hp) (H : Heap) (locs : List Loc) (cells slots : Nat) (ls : Array Slot), HP D Hs h H → LO Hs locs → lv_has ls 1 [(0, rv x0)] → f_X5_isBarred x0 h = some rr → W p l e R s m args below meth c H locs cells slots (ZM D Hs iI rr below args s) (F0 m 0 ls []) := by
  obtain ⟨⟨hx, hb, hml, hown, hts⟩, -⟩ := id C
  have hl9 := C.2.1.2.2.1
  intro x0 h H locs cells slots ls hH hL hl hrun
  unfold f_X5_isBarred at hrun
  refine V_aload_n (pc := 0) hx hb dX5_isBarred_0 rfl (lv_at hl 0 rfl) ?_
  obtain ⟨c2, hrun⟩ := gd_some hrun
  refine V_getI (pc := 1) C hH fr_X5_71 dX5_isBarred_1 c2 rfl ?_
  refine lv_sipush (v := (1080 : Int32)) (pc := 4) hx hb dX5_isBarred_4 (by decide) ?_
  refine lv_icmp_lt (tgt := 14) (pc := 7) hx hb dX5_isBarred_7 (by decide) (fun c_ => ?_) (fun c_ => ?_)
  · have hrun := ite_t hrun c_
    refine lv_iconst (v := (0 : Int32)) (pc := 14) hx hb dX5_isBarred_14 (by decide) ?_
    exact b_X5_isBarred_15 C (0 : Int32) h H locs cells slots ls hH hL (lv_sub hl [] rfl) hrun
  · have hrun := ite_f hrun c_
    refine lv_iconst (v := (1 : Int32)) (pc := 10) hx hb dX5_isBarred_10 (by decide) ?_
    refine lv_goto (tgt := 15) (pc := 11) hx hb dX5_isBarred_11 (by decide) ?_
    exact b_X5_isBarred_15 C (1 : Int32) h H locs cells slots ls hH hL (lv_sub hl [] rfl) hrun

theorem m_X5_isBarred {l : Launch} {D : va_G} {Hs : Heap} {h : Hp} {rr : (Int32 ⊕ Ex) × Hp} (hl9 : l.stackTraces = false) {x0 : Nat} (hrun : f_X5_isBarred x0 h = some rr) : CM l yX5_isBarred (ws_ yX5_isBarred cX5_isBarred 1 (some .boolean)) 1 0 iI [rv x0] D Hs h rr := by
  refine CM.of (lv := [(0, rv x0)]) (plainFor_of_name (by decide)) hl9 (by simp [lv_args, rv_cat, cat_i, cat_l, cat_f, cat_d]) (by simp [lg_sl, rv_cat, cat_i, cat_l, cat_f, cat_d]) ?_
  intro p e R s m args below meth c H ls C hH hl hin
  exact b_X5_isBarred C x0 _ H [] _ _ ls hH (fun _ q => nomatch q) (lv_sub hl [0] rfl) hrun
end WK3

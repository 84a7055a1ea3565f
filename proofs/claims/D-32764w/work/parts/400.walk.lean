section WK0
variable {p : Program} {l : Launch} {e : Env} {R : Room} {s : State} {m : MethodId} {args : Array Value} {below : List Frame} {meth : Method} {c : Code} {D : va_G} {Hs : Heap} {F X : Nat}
/-! java/util/AbstractCollection.<init>()V -/
def f_J0_init  (x0 : Nat) (h : Hp) : Rt Unit :=
  gd (kC h x0 = 18) <| some (.inl (), h)
theorem b_J0_init {rr : (Unit ⊕ Ex) × Hp}  (C : CX p l R s m args meth c D Hs cJ0_init "java/util/AbstractCollection" 1 none [] 1 20) (hin : meth.name = "<init>")  : ∀ (x0 : Nat) (h : Hp) (H : Heap) (locs : List Loc) (cells slots : Nat) (ls : Array Slot), HP D Hs h H → LO Hs locs → lv_has ls 1 [(0, rv x0)] → f_J0_init x0 h = some rr → W p l e R s m args below meth c H locs cells slots (ZM D Hs iV rr below args s) (F0 m 0 ls []) := by
  obtain ⟨⟨hx, hb, hml, hown, hts⟩, -⟩ := id C
  have hl9 := C.2.1.2.2.1
  intro x0 h H locs cells slots ls hH hL hl hrun
  unfold f_J0_init at hrun
  refine V_aload_n (pc := 0) hx hb dJ0_init_0 rfl (lv_at hl 0 rfl) ?_
  obtain ⟨c1, hrun⟩ := gd_some hrun
  refine V_objInit (pc := 1) C q132 q113 q114 (hH.pos c1) dJ0_init_1 (by decide) (by simp [csum, rv_cat, cat_i, cat_l, cat_f, cat_d]) hl.1 ?_
  exact V_vret (pc := 4) C hH hL hrun dJ0_init_4

theorem m_J0_init {l : Launch} {D : va_G} {Hs : Heap} {h : Hp} {rr : (Unit ⊕ Ex) × Hp} (hl9 : l.stackTraces = false) {x0 : Nat} (hrun : f_J0_init x0 h = some rr) : CM l yJ0_init (ws_ yJ0_init cJ0_init 1 none) 1 20 iV [rv x0] D Hs h rr := by
  refine CM.of (lv := [(0, rv x0)]) (by decide +kernel) hl9 (by simp [lv_args, rv_cat, cat_i, cat_l, cat_f, cat_d]) (by simp [lg_sl, rv_cat, cat_i, cat_l, cat_f, cat_d]) ?_
  intro p e R s m args below meth c H ls C hH hl hin
  exact b_J0_init C hin x0 _ H [] _ _ ls hH (fun _ q => nomatch q) (lv_sub hl [0] rfl) hrun

/-! java/util/AbstractList.<init>()V -/
def f_J1_init  (x0 : Nat) (h : Hp) : Rt Unit :=
  gd (kC h x0 = 18) <| bd (f_J0_init x0 h) fun _ h2 => gd (kC h2 x0 = 18) <| vl (sI h2 1700 x0 (0 : Int32)) fun h5 => some (.inl (), h5)
theorem b_J1_init {rr : (Unit ⊕ Ex) × Hp}  (C : CX p l R s m args meth c D Hs cJ1_init "java/util/AbstractList" 1 none [] 2 40) (hin : meth.name = "<init>")  : ∀ (x0 : Nat) (h : Hp) (H : Heap) (locs : List Loc) (cells slots : Nat) (ls : Array Slot), HP D Hs h H → LO Hs locs → lv_has ls 1 [(0, rv x0)] → f_J1_init x0 h = some rr → W p l e R s m args below meth c H locs cells slots (ZM D Hs iV rr below args s) (F0 m 0 ls []) := by
  obtain ⟨⟨hx, hb, hml, hown, hts⟩, -⟩ := id C
  have hl9 := C.2.1.2.2.1
  intro x0 h H locs cells slots ls hH hL hl hrun
  unfold f_J1_init at hrun
  refine V_aload_n (pc := 0) hx hb dJ1_init_0 rfl (lv_at hl 0 rfl) ?_
  obtain ⟨c3, hrun⟩ := gd_some hrun
  refine V_bd (pc := 1) C hL rfl hrun (fun rr1 e1 => Z_runI (rest := []) C hH (m_J0_init hl9 e1) wI_J1_1 (hH.pos c3) rfl ⟨by decide, by decide⟩ rfl (Nat.le_of_ble_eq_true rfl) hl.1 dJ1_init_1) (fun _ h2 H locs cells slots hH hL hrun => ?_)
  refine V_aload_n (pc := 4) hx hb dJ1_init_4 rfl (lv_at hl 0 rfl) ?_
  refine lv_iconst (v := (0 : Int32)) (pc := 5) hx hb dJ1_init_5 (by decide) ?_
  obtain ⟨c4, hrun⟩ := gd_some hrun
  refine V_putI (pc := 6) C hH hL fl_J1_7 dJ1_init_6 c4 (fok_i _) rfl (fun q => Bool.noConfusion q) hrun (fun h5 H locs hH hL hrun => ?_)
  exact V_vret (pc := 9) C hH hL hrun dJ1_init_9

theorem m_J1_init {l : Launch} {D : va_G} {Hs : Heap} {h : Hp} {rr : (Unit ⊕ Ex) × Hp} (hl9 : l.stackTraces = false) {x0 : Nat} (hrun : f_J1_init x0 h = some rr) : CM l yJ1_init (ws_ yJ1_init cJ1_init 1 none) 2 40 iV [rv x0] D Hs h rr := by
  refine CM.of (lv := [(0, rv x0)]) (by decide +kernel) hl9 (by simp [lv_args, rv_cat, cat_i, cat_l, cat_f, cat_d]) (by simp [lg_sl, rv_cat, cat_i, cat_l, cat_f, cat_d]) ?_
  intro p e R s m args below meth c H ls C hH hl hin
  exact b_J1_init C hin x0 _ H [] _ _ ls hH (fun _ q => nomatch q) (lv_sub hl [0] rfl) hrun

/-! java/util/ArrayList.<init>()V -/
def f_J2_init  (x0 : Nat) (h : Hp) : Rt Unit :=
  gd (kC h x0 = 18) <| bd (f_J1_init x0 h) fun _ h2 => gd (kC h2 x0 = 18) <| vl (sR h2 1701 x0 (kE h2)) fun h5 => some (.inl (), h5)
theorem b_J2_init {rr : (Unit ⊕ Ex) × Hp}  (C : CX p l R s m args meth c D Hs cJ2_init "java/util/ArrayList" 1 none [] 3 60) (hin : meth.name = "<init>")  : ∀ (x0 : Nat) (h : Hp) (H : Heap) (locs : List Loc) (cells slots : Nat) (ls : Array Slot), HP D Hs h H → LO Hs locs → lv_has ls 1 [(0, rv x0)] → f_J2_init x0 h = some rr → W p l e R s m args below meth c H locs cells slots (ZM D Hs iV rr below args s) (F0 m 0 ls []) := by
  obtain ⟨⟨hx, hb, hml, hown, hts⟩, -⟩ := id C
  have hl9 := C.2.1.2.2.1
  intro x0 h H locs cells slots ls hH hL hl hrun
  unfold f_J2_init at hrun
  refine V_aload_n (pc := 0) hx hb dJ2_init_0 rfl (lv_at hl 0 rfl) ?_
  obtain ⟨c3, hrun⟩ := gd_some hrun
  refine V_bd (pc := 1) C hL rfl hrun (fun rr1 e1 => Z_runI (rest := []) C hH (m_J1_init hl9 e1) wI_J2_1 (hH.pos c3) rfl ⟨by decide, by decide⟩ rfl (Nat.le_of_ble_eq_true rfl) hl.1 dJ2_init_1) (fun _ h2 H locs cells slots hH hL hrun => ?_)
  refine V_aload_n (pc := 4) hx hb dJ2_init_4 rfl (lv_at hl 0 rfl) ?_
  refine V_getE (pc := 5) C hH q133 dJ2_init_5 ?_
  obtain ⟨c4, hrun⟩ := gd_some hrun
  refine V_putR (pc := 8) C hH hL fl_J2_9 dJ2_init_8 c4 (fok_a _ _) rfl (fun q => Bool.noConfusion q) hrun (fun h5 H locs hH hL hrun => ?_)
  exact V_vret (pc := 11) C hH hL hrun dJ2_init_11

theorem m_J2_init {l : Launch} {D : va_G} {Hs : Heap} {h : Hp} {rr : (Unit ⊕ Ex) × Hp} (hl9 : l.stackTraces = false) {x0 : Nat} (hrun : f_J2_init x0 h = some rr) : CM l yJ2_init (ws_ yJ2_init cJ2_init 1 none) 3 60 iV [rv x0] D Hs h rr := by
  refine CM.of (lv := [(0, rv x0)]) (by decide +kernel) hl9 (by simp [lv_args, rv_cat, cat_i, cat_l, cat_f, cat_d]) (by simp [lg_sl, rv_cat, cat_i, cat_l, cat_f, cat_d]) ?_
  intro p e R s m args below meth c H ls C hH hl hin
  exact b_J2_init C hin x0 _ H [] _ _ ls hH (fun _ q => nomatch q) (lv_sub hl [0] rfl) hrun

/-! Massclaim$Row.<init>(I)V -/
def f_X2_init  (x0 : Nat) (x1 : Int32) (h : Hp) : Rt Unit :=
  gd (kC h x0 = 2) <| nw h 18 3 fun q2 h3 => gd (kC h3 q2 = 18) <| bd (f_J2_init q2 h3) fun _ h5 => gd (kC h5 x0 = 2) <| vl (sR h5 100 x0 q2) fun h8 => gd (kC h8 x0 = 2) <| vl (sI h8 101 x0 x1) fun h10 => some (.inl (), h10)
theorem b_X2_init {rr : (Unit ⊕ Ex) × Hp}  (C : CX p l R s m args meth c D Hs cX2_init "Massclaim$Row" 2 none [] 4 80) (hin : meth.name = "<init>")  : ∀ (x0 : Nat) (x1 : Int32) (h : Hp) (H : Heap) (locs : List Loc) (cells slots : Nat) (ls : Array Slot), HP D Hs h H → LO Hs locs → lv_has ls 2 [(0, rv x0), (1, .int x1)] → f_X2_init x0 x1 h = some rr → W p l e R s m args below meth c H locs cells slots (ZM D Hs iV rr below args s) (F0 m 0 ls []) := by
  obtain ⟨⟨hx, hb, hml, hown, hts⟩, -⟩ := id C
  have hl9 := C.2.1.2.2.1
  intro x0 x1 h H locs cells slots ls hH hL hl hrun
  unfold f_X2_init at hrun
  refine V_aload_n (pc := 0) hx hb dX2_init_0 rfl (lv_at hl 0 rfl) ?_
  obtain ⟨c1, hrun⟩ := gd_some hrun
  refine V_objInit (pc := 1) C q120 q113 q114 (hH.pos c1) dX2_init_1 (by decide) (by simp [csum, rv_cat, cat_i, cat_l, cat_f, cat_d]) hl.1 ?_
  refine V_aload_n (pc := 4) hx hb dX2_init_4 rfl (lv_at hl 0 rfl) ?_
  refine V_new (pc := 5) C hH nl_X2_7 dX2_init_5 hrun (fun q2 h3 H cells slots hH hrun => ?_)
  refine lv_dup (pc := 8) hx hb dX2_init_8 (rv_cat _) ?_
  obtain ⟨c6, hrun⟩ := gd_some hrun
  refine V_bd (pc := 9) C hL rfl hrun (fun rr1 e1 => Z_runI (rest := [rv q2, rv x0]) C hH (m_J2_init hl9 e1) wI_X2_9 (hH.pos c6) rfl ⟨by decide, by decide⟩ rfl (by simp [csum, rv_cat, cat_i, cat_l, cat_f, cat_d]) hl.1 dX2_init_9) (fun _ h5 H locs cells slots hH hL hrun => ?_)
  obtain ⟨c7, hrun⟩ := gd_some hrun
  refine V_putR (pc := 12) C hH hL fl_X2_10 dX2_init_12 c7 (fok_o _ _) rfl (fun _ => hin) hrun (fun h8 H locs hH hL hrun => ?_)
  refine V_aload_n (pc := 15) hx hb dX2_init_15 rfl (lv_at hl 0 rfl) ?_
  refine lv_iload_n (pc := 16) hx hb dX2_init_16 rfl (lv_at hl 1 rfl) ?_
  obtain ⟨c9, hrun⟩ := gd_some hrun
  refine V_putI (pc := 17) C hH hL fl_X2_16 dX2_init_17 c9 (fok_i _) rfl (fun _ => hin) hrun (fun h10 H locs hH hL hrun => ?_)
  exact V_vret (pc := 20) C hH hL hrun dX2_init_20

theorem m_X2_init {l : Launch} {D : va_G} {Hs : Heap} {h : Hp} {rr : (Unit ⊕ Ex) × Hp} (hl9 : l.stackTraces = false) {x0 : Nat} {x1 : Int32} (hrun : f_X2_init x0 x1 h = some rr) : CM l yX2_init (ws_ yX2_init cX2_init 2 none) 4 80 iV [rv x0, .int x1] D Hs h rr := by
  refine CM.of (lv := [(0, rv x0), (1, .int x1)]) (plainFor_of_name (by decide)) hl9 (by simp [lv_args, rv_cat, cat_i, cat_l, cat_f, cat_d]) (by simp [lg_sl, rv_cat, cat_i, cat_l, cat_f, cat_d]) ?_
  intro p e R s m args below meth c H ls C hH hl hin
  exact b_X2_init C hin x0 x1 _ H [] _ _ ls hH (fun _ q => nomatch q) (lv_sub hl [0, 1] rfl) hrun

/-! Massclaim$Out.<init>()V -/
def f_X3_init  (x0 : Nat) (h : Hp) : Rt Unit :=
  gd (kC h x0 = 3) <| na h 102 (6 : Int32) fun q2 h3 => gd (kC h3 x0 = 3) <| vl (sR h3 201 x0 q2) fun h5 => some (.inl (), h5)
theorem b_X3_init {rr : (Unit ⊕ Ex) × Hp}  (C : CX p l R s m args meth c D Hs cX3_init "Massclaim$Out" 1 none [] 1 20) (hin : meth.name = "<init>")  : ∀ (x0 : Nat) (h : Hp) (H : Heap) (locs : List Loc) (cells slots : Nat) (ls : Array Slot), HP D Hs h H → LO Hs locs → lv_has ls 1 [(0, rv x0)] → f_X3_init x0 h = some rr → W p l e R s m args below meth c H locs cells slots (ZM D Hs iV rr below args s) (F0 m 0 ls []) := by
  obtain ⟨⟨hx, hb, hml, hown, hts⟩, -⟩ := id C
  have hl9 := C.2.1.2.2.1
  intro x0 h H locs cells slots ls hH hL hl hrun
  unfold f_X3_init at hrun
  refine V_aload_n (pc := 0) hx hb dX3_init_0 rfl (lv_at hl 0 rfl) ?_
  obtain ⟨c1, hrun⟩ := gd_some hrun
  refine V_objInit (pc := 1) C q164 q113 q114 (hH.pos c1) dX3_init_1 (by decide) (by simp [csum, rv_cat, cat_i, cat_l, cat_f, cat_d]) hl.1 ?_
  refine V_aload_n (pc := 4) hx hb dX3_init_4 rfl (lv_at hl 0 rfl) ?_
  refine lv_bipush (v := (6 : Int32)) (pc := 5) hx hb dX3_init_5 (by decide) ?_
  refine V_newa (at_ := .long) (pc := 7) C hH (Or.inr ⟨rfl, rfl⟩) q195 dX3_init_7 hrun (fun q2 h3 H cells slots hH hrun => ?_)
  obtain ⟨c4, hrun⟩ := gd_some hrun
  refine V_putR (pc := 9) C hH hL fl_X3_9 dX3_init_9 c4 (fok_a _ _) rfl (fun _ => hin) hrun (fun h5 H locs hH hL hrun => ?_)
  exact V_vret (pc := 12) C hH hL hrun dX3_init_12

theorem m_X3_init {l : Launch} {D : va_G} {Hs : Heap} {h : Hp} {rr : (Unit ⊕ Ex) × Hp} (hl9 : l.stackTraces = false) {x0 : Nat} (hrun : f_X3_init x0 h = some rr) : CM l yX3_init (ws_ yX3_init cX3_init 1 none) 1 20 iV [rv x0] D Hs h rr := by
  refine CM.of (lv := [(0, rv x0)]) (plainFor_of_name (by decide)) hl9 (by simp [lv_args, rv_cat, cat_i, cat_l, cat_f, cat_d]) (by simp [lg_sl, rv_cat, cat_i, cat_l, cat_f, cat_d]) ?_
  intro p e R s m args below meth c H ls C hH hl hin
  exact b_X3_init C hin x0 _ H [] _ _ ls hH (fun _ q => nomatch q) (lv_sub hl [0] rfl) hrun

/-! java/util/ArrayList.size()I -/
def f_J2_size  (x0 : Nat) (h : Hp) : Rt Int32 :=
  gd (kC h x0 = 18) <| some (.inl (kI h 1702 x0), h)
theorem b_J2_size {rr : (Int32 ⊕ Ex) × Hp}  (C : CX p l R s m args meth c D Hs cJ2_size "java/util/ArrayList" 1 (some .int) [] 1 0)  : ∀ (x0 : Nat) (h : Hp) (H : Heap) (locs : List Loc) (cells slots : Nat) (ls : Array Slot), HP D Hs h H → LO Hs locs → lv_has ls 1 [(0, rv x0)] → f_J2_size x0 h = some rr → W p l e R s m args below meth c H locs cells slots (ZM D Hs iI rr below args s) (F0 m 0 ls []) := by
  obtain ⟨⟨hx, hb, hml, hown, hts⟩, -⟩ := id C
  have hl9 := C.2.1.2.2.1
  intro x0 h H locs cells slots ls hH hL hl hrun
  unfold f_J2_size at hrun
  refine V_aload_n (pc := 0) hx hb dJ2_size_0 rfl (lv_at hl 0 rfl) ?_
  obtain ⟨c1, hrun⟩ := gd_some hrun
  refine V_getI (pc := 1) C hH fr_J2_48 dJ2_size_1 c1 rfl ?_
  exact V_iret (pc := 4) C hH hL hrun dJ2_size_4

theorem m_J2_size {l : Launch} {D : va_G} {Hs : Heap} {h : Hp} {rr : (Int32 ⊕ Ex) × Hp} (hl9 : l.stackTraces = false) {x0 : Nat} (hrun : f_J2_size x0 h = some rr) : CM l yJ2_size (ws_ yJ2_size cJ2_size 1 (some .int)) 1 0 iI [rv x0] D Hs h rr := by
  refine CM.of (lv := [(0, rv x0)]) (by decide +kernel) hl9 (by simp [lv_args, rv_cat, cat_i, cat_l, cat_f, cat_d]) (by simp [lg_sl, rv_cat, cat_i, cat_l, cat_f, cat_d]) ?_
  intro p e R s m args below meth c H ls C hH hl hin
  exact b_J2_size C x0 _ H [] _ _ ls hH (fun _ q => nomatch q) (lv_sub hl [0] rfl) hrun

/-! java/util/ArrayList.clear()V -/
def f_J2_clear_27  : Nat → Nat → Int32 → Int32 → Hp → Rt Unit
  | 0, _, _, _, _ => none
  | n + 1, x1, x2, x3, h => if x2 ≤ x3 then
  (some (.inl (), h))
  else
  (gd (kC h x1 = 103 ∧ ixo x3 (kN h x1)) <| gd (0 = 0 ∨ kC h 0 ≠ 0) <| vl (tR h x1 (x3).toNatClampNeg 0) fun h3 => vl (x3 + (1 : Int32)) fun v4 => f_J2_clear_27 n x1 x2 v4 h3)
def f_J2_clear  (x0 : Nat) (h : Hp) : Rt Unit :=
  gd (kC h x0 = 18) <| vl (sI h 1700 x0 ((kI h 1700 x0) + (1 : Int32))) fun h6 => gd (kC h6 x0 = 18) <| vl (kR h6 1701 x0) fun v8 => vl (kI h6 1702 x0) fun v9 => vl (sI h6 1702 x0 (0 : Int32)) fun h10 => f_J2_clear_27 FU v8 v9 (0 : Int32) h10
theorem b_J2_clear_27 {rr : (Unit ⊕ Ex) × Hp}  (C : CX p l R s m args meth c D Hs cJ2_clear "java/util/ArrayList" 4 none [] 1 0)  : ∀ (n : Nat) (x1 : Nat) (x2 : Int32) (x3 : Int32) (h : Hp) (H : Heap) (locs : List Loc) (cells slots : Nat) (ls : Array Slot), HP D Hs h H → LO Hs locs → lv_has ls 4 [(1, rv x1), (2, .int x2), (3, .int x3)] → f_J2_clear_27 n x1 x2 x3 h = some rr → W p l e R s m args below meth c H locs cells slots (ZM D Hs iV rr below args s) (F0 m 27 ls []) := by
  obtain ⟨⟨hx, hb, hml, hown, hts⟩, -⟩ := id C
  have hl9 := C.2.1.2.2.1
  intro n
  induction n with
  | zero =>
    intro x1 x2 x3 h H locs cells slots ls hH hL hl hrun
    cases (show (none : Option _) = some rr from hrun)
  | succ n ih =>
    intro x1 x2 x3 h H locs cells slots ls hH hL hl hrun
    rw [f_J2_clear_27] at hrun
    refine lv_iload_n (pc := 27) hx hb dJ2_clear_27 rfl (lv_at hl 2 rfl) ?_
    refine lv_iload_n (pc := 28) hx hb dJ2_clear_28 rfl (lv_at hl 1 rfl) ?_
    refine lv_icmp_ge (tgt := 42) (pc := 29) hx hb dJ2_clear_29 (by decide) (fun c_ => ?_) (fun c_ => ?_)
    · have hrun := ite_t hrun c_
      exact V_vret (pc := 42) C hH hL hrun dJ2_clear_42
    · have hrun := ite_f hrun c_
      refine V_aload_n (pc := 32) hx hb dJ2_clear_32 rfl (lv_at hl 0 rfl) ?_
      refine lv_iload_n (pc := 33) hx hb dJ2_clear_33 rfl (lv_at hl 2 rfl) ?_
      refine V_null (pc := 34) hx hb dJ2_clear_34 ?_
      obtain ⟨c1, hrun⟩ := gd_some hrun
      obtain ⟨c2, hrun⟩ := gd_some hrun
      refine V_aast (pc := 35) C hH hL dJ2_clear_35 c1 c2 hrun (fun h3 H locs hH hL hrun => ?_)
      obtain ⟨v4, ev4⟩ : ∃ y : Int32, y = x3 + (1 : Int32) := ⟨_, rfl⟩
      have hrun := vl_at hrun v4 ev4
      refine lv_iinc (v := v4) (lv' := [(3, .int v4), (1, rv x1), (2, .int x2)]) (pc := 36) hx hb dJ2_clear_36 hl (k := 2) rfl (by rw [ev4]; rfl) (by decide) (by first | rfl | simp [rv_cat, cat_i, cat_l, cat_f, cat_d]) (fun ls hl => ?_)
      refine lv_goto (tgt := 27) (pc := 39) hx hb dJ2_clear_39 (by decide) ?_
      exact ih x1 x2 v4 h3 H locs cells slots ls hH hL (lv_sub hl [1, 2, 0] rfl) hrun

theorem b_J2_clear {rr : (Unit ⊕ Ex) × Hp}  (C : CX p l R s m args meth c D Hs cJ2_clear "java/util/ArrayList" 4 none [] 1 0)  : ∀ (x0 : Nat) (h : Hp) (H : Heap) (locs : List Loc) (cells slots : Nat) (ls : Array Slot), HP D Hs h H → LO Hs locs → lv_has ls 4 [(0, rv x0)] → f_J2_clear x0 h = some rr → W p l e R s m args below meth c H locs cells slots (ZM D Hs iV rr below args s) (F0 m 0 ls []) := by
  obtain ⟨⟨hx, hb, hml, hown, hts⟩, -⟩ := id C
  have hl9 := C.2.1.2.2.1
  intro x0 h H locs cells slots ls hH hL hl hrun
  unfold f_J2_clear at hrun
  refine V_aload_n (pc := 0) hx hb dJ2_clear_0 rfl (lv_at hl 0 rfl) ?_
  refine lv_dup (pc := 1) hx hb dJ2_clear_1 (rv_cat _) ?_
  obtain ⟨c5, hrun⟩ := gd_some hrun
  refine V_getI (pc := 2) C hH fr_J2_63 dJ2_clear_2 c5 rfl ?_
  refine lv_iconst (v := (1 : Int32)) (pc := 5) hx hb dJ2_clear_5 (by decide) ?_
  refine lv_iadd (pc := 6) hx hb dJ2_clear_6 ?_
  refine V_putI (pc := 7) C hH hL fl_J2_63 dJ2_clear_7 c5 (fok_i _) rfl (fun q => Bool.noConfusion q) hrun (fun h6 H locs hH hL hrun => ?_)
  refine V_aload_n (pc := 10) hx hb dJ2_clear_10 rfl (lv_at hl 0 rfl) ?_
  obtain ⟨c7, hrun⟩ := gd_some hrun
  refine V_getR (pc := 11) C hH fr_J2_9 dJ2_clear_11 c7 rfl ?_
  refine V_topr (fun v8 ev8 => ?_)
  have hrun := vl_at hrun v8 ev8
  refine V_astore_n (i := 1) (lv' := [(1, rv v8), (0, rv x0)]) (pc := 14) hx hb dJ2_clear_14 rfl hl (by decide) (by simp [rv_cat, cat_i, cat_l, cat_f, cat_d]) (fun ls hl => ?_)
  refine V_aload_n (pc := 15) hx hb dJ2_clear_15 rfl (lv_at hl 1 rfl) ?_
  refine V_getI (pc := 16) C hH fr_J2_48 dJ2_clear_16 c7 rfl ?_
  refine lv_topi (fun v9 ev9 => ?_)
  have hrun := vl_at hrun v9 ev9
  refine lv_istore_n (i := 2) (lv' := [(2, .int v9), (1, rv v8), (0, rv x0)]) (pc := 19) hx hb dJ2_clear_19 rfl hl (by decide) (by simp [rv_cat, cat_i, cat_l, cat_f, cat_d]) (fun ls hl => ?_)
  refine V_aload_n (pc := 20) hx hb dJ2_clear_20 rfl (lv_at hl 2 rfl) ?_
  refine lv_iconst (v := (0 : Int32)) (pc := 21) hx hb dJ2_clear_21 (by decide) ?_
  refine lv_dup_x1 (pc := 22) hx hb dJ2_clear_22 rfl (rv_cat _) ?_
  refine V_putI (pc := 23) C hH hL fl_J2_48 dJ2_clear_23 c7 (fok_i _) rfl (fun q => Bool.noConfusion q) hrun (fun h10 H locs hH hL hrun => ?_)
  refine lv_istore_n (i := 3) (lv' := [(3, .int (0 : Int32)), (2, .int v9), (1, rv v8), (0, rv x0)]) (pc := 26) hx hb dJ2_clear_26 rfl hl (by decide) rfl (fun ls hl => ?_)
  exact b_J2_clear_27 C FU v8 v9 (0 : Int32) h10 H locs cells slots ls hH hL (lv_sub hl [2, 1, 0] rfl) hrun

theorem m_J2_clear {l : Launch} {D : va_G} {Hs : Heap} {h : Hp} {rr : (Unit ⊕ Ex) × Hp} (hl9 : l.stackTraces = false) {x0 : Nat} (hrun : f_J2_clear x0 h = some rr) : CM l yJ2_clear (ws_ yJ2_clear cJ2_clear 4 none) 1 0 iV [rv x0] D Hs h rr := by
  refine CM.of (lv := [(0, rv x0)]) (by decide +kernel) hl9 (by simp [lv_args, rv_cat, cat_i, cat_l, cat_f, cat_d]) (by simp [lg_sl, rv_cat, cat_i, cat_l, cat_f, cat_d]) ?_
  intro p e R s m args below meth c H ls C hH hl hin
  exact b_J2_clear C x0 _ H [] _ _ ls hH (fun _ q => nomatch q) (lv_sub hl [0] rfl) hrun

/-! Massclaim$Row.clear()I -/
def f_X2_clear  (x0 : Nat) (h : Hp) : Rt Int32 :=
  gd (kC h x0 = 2) <| gd (kC h (kR h 100 x0) = 18) <| bd (f_J2_size (kR h 100 x0) h) fun v2 h3 => gd (kC h3 x0 = 2) <| gd (kC h3 (kR h3 100 x0) = 18) <| bd (f_J2_clear (kR h3 100 x0) h3) fun _ h7 => some (.inl v2, h7)
theorem b_X2_clear {rr : (Int32 ⊕ Ex) × Hp}  (C : CX p l R s m args meth c D Hs cX2_clear "Massclaim$Row" 2 (some .int) [] 2 23)  : ∀ (x0 : Nat) (h : Hp) (H : Heap) (locs : List Loc) (cells slots : Nat) (ls : Array Slot), HP D Hs h H → LO Hs locs → lv_has ls 2 [(0, rv x0)] → f_X2_clear x0 h = some rr → W p l e R s m args below meth c H locs cells slots (ZM D Hs iI rr below args s) (F0 m 0 ls []) := by
  obtain ⟨⟨hx, hb, hml, hown, hts⟩, -⟩ := id C
  have hl9 := C.2.1.2.2.1
  intro x0 h H locs cells slots ls hH hL hl hrun
  unfold f_X2_clear at hrun
  refine V_aload_n (pc := 0) hx hb dX2_clear_0 rfl (lv_at hl 0 rfl) ?_
  obtain ⟨c1, hrun⟩ := gd_some hrun
  refine V_getR (pc := 1) C hH fr_X2_10 dX2_clear_1 c1 rfl ?_
  obtain ⟨c4, hrun⟩ := gd_some hrun
  refine V_bd5 (pc := 4) C hL rfl hrun (fun rr1 e1 => Z_runF (rest := []) C hH (m_J2_size hl9 e1) rfl wF_X2_20_J2 c4 (by decide) rfl ⟨by decide, by decide⟩ rfl (Nat.le_of_ble_eq_true rfl) hl.1 dX2_clear_4) (fun v2 h3 H locs cells slots hH hL hrun => ?_)
  refine lv_istore_n (i := 1) (lv' := [(1, .int v2), (0, rv x0)]) (pc := 9) hx hb dX2_clear_9 rfl hl (by decide) (by simp [rv_cat, cat_i, cat_l, cat_f, cat_d]) (fun ls hl => ?_)
  refine V_aload_n (pc := 10) hx hb dX2_clear_10 rfl (lv_at hl 1 rfl) ?_
  obtain ⟨c5, hrun⟩ := gd_some hrun
  refine V_getR (pc := 11) C hH fr_X2_10 dX2_clear_11 c5 rfl ?_
  obtain ⟨c8, hrun⟩ := gd_some hrun
  refine V_bd5 (pc := 14) C hL rfl hrun (fun rr1 e1 => Z_runF (rest := []) C hH (m_J2_clear hl9 e1) rfl wF_X2_56_J2 c8 (by decide) rfl ⟨by decide, by decide⟩ rfl (Nat.le_of_ble_eq_true rfl) hl.1 dX2_clear_14) (fun _ h7 H locs cells slots hH hL hrun => ?_)
  refine lv_iload_n (pc := 19) hx hb dX2_clear_19 rfl (lv_at hl 0 rfl) ?_
  exact V_iret (pc := 20) C hH hL hrun dX2_clear_20

theorem m_X2_clear {l : Launch} {D : va_G} {Hs : Heap} {h : Hp} {rr : (Int32 ⊕ Ex) × Hp} (hl9 : l.stackTraces = false) {x0 : Nat} (hrun : f_X2_clear x0 h = some rr) : CM l yX2_clear (ws_ yX2_clear cX2_clear 2 (some .int)) 2 23 iI [rv x0] D Hs h rr := by
  refine CM.of (lv := [(0, rv x0)]) (plainFor_of_name (by decide)) hl9 (by simp [lv_args, rv_cat, cat_i, cat_l, cat_f, cat_d]) (by simp [lg_sl, rv_cat, cat_i, cat_l, cat_f, cat_d]) ?_
  intro p e R s m args below meth c H ls C hH hl hin
  exact b_X2_clear C x0 _ H [] _ _ ls hH (fun _ q => nomatch q) (lv_sub hl [0] rfl) hrun

/-! Massclaim.restart()I -/
def f_X1_restart_55 (k34 : Nat → Int32 → Hp → Rt Int32) : Nat → Nat → Int32 → Int32 → Hp → Rt Int32
  | 0, _, _, _, _ => none
  | n + 1, x0, x2, x3, h => if (4 : Int32) ≤ x3 then
  (vl (x2 + (1 : Int32)) fun v1 => k34 x0 v1 h)
  else
  (gd (kC h x0 = 1) <| gd (kC h (kR h 5 x0) = 104 ∧ ixo x2 (kN h (kR h 5 x0))) <| gd (kC h (jR h (kR h 5 x0) (x2).toNatClampNeg) = 101 ∧ ixo x3 (kN h (jR h (kR h 5 x0) (x2).toNatClampNeg))) <| vl (tI h (jR h (kR h 5 x0) (x2).toNatClampNeg) (x3).toNatClampNeg (((1000 : Int32) * (x2 + (1 : Int32))) * (x2 + (1 : Int32)))) fun h5 => vl (x3 + (1 : Int32)) fun v6 => f_X1_restart_55 k34 n x0 x2 v6 h5)
def f_X1_restart_34  : Nat → Nat → Int32 → Hp → Rt Int32
  | 0, _, _, _ => none
  | n + 1, x0, x2, h => if (5 : Int32) ≤ x2 then
  (nw h 3 6 fun q7 h8 => gd (kC h8 q7 = 3) <| bd (f_X3_init q7 h8) fun _ h10 => gd (kC h10 x0 = 1) <| vl (sR h10 8 x0 q7) fun h13 => gd (kC h13 x0 = 1) <| vl (sR h13 9 x0 0) fun h15 => gd (kC h15 x0 = 1) <| vl (sI h15 10 x0 (0 : Int32)) fun h17 => gd (kC h17 x0 = 1) <| vl (sI h17 11 x0 (0 : Int32)) fun h19 => gd (kC h19 x0 = 1) <| vl (sI h19 12 x0 (0 : Int32)) fun h21 => gd (kC h21 x0 = 1) <| vl (sI h21 13 x0 (1000000 : Int32)) fun h23 => gd (kC h23 x0 = 1) <| vl (sI h23 14 x0 (10 : Int32)) fun h25 => gd (kC h25 x0 = 1) <| vl (sI h25 15 x0 (0 : Int32)) fun h27 => gd (kC h27 x0 = 1) <| vl (sI h27 16 x0 (0 : Int32)) fun h29 => gd (kC h29 x0 = 1) <| vl (sL h29 17 x0 (0 : Int64)) fun h31 => gd (kC h31 x0 = 1) <| vl (sI h31 18 x0 (0 : Int32)) fun h33 => gd (kC h33 x0 = 1) <| gd (kC h33 (kR h33 0 x0) = 2) <| bd (f_X2_clear (kR h33 0 x0) h33) fun v35 h36 => some (.inl v35, h36))
  else
  (gd (kC h x0 = 1) <| gd (kC h (kR h 6 x0) = 102 ∧ ixo x2 (kN h (kR h 6 x0))) <| vl (tL h (kR h 6 x0) (x2).toNatClampNeg (0 : Int64)) fun h40 => gd (kC h40 x0 = 1) <| gd (kC h40 (kR h40 7 x0) = 101 ∧ ixo x2 (kN h40 (kR h40 7 x0))) <| vl (tI h40 (kR h40 7 x0) (x2).toNatClampNeg (0 : Int32)) fun h43 => f_X1_restart_55 (f_X1_restart_34 n) FU x0 x2 (0 : Int32) h43)
def f_X1_restart  (x0 : Nat) (h : Hp) : Rt Int32 :=
  gd (kC h x0 = 1) <| gd (kC h (kR h 1 x0) = 2) <| bd (f_X2_clear (kR h 1 x0) h) fun v45 h46 => gd (kC h46 x0 = 1) <| gd (kC h46 (kR h46 2 x0) = 2) <| bd (f_X2_clear (kR h46 2 x0) h46) fun v49 h50 => gd (kC h50 x0 = 1) <| gd (kC h50 (kR h50 3 x0) = 2) <| bd (f_X2_clear (kR h50 3 x0) h50) fun v53 h54 => gd (kC h54 x0 = 1) <| gd (kC h54 (kR h54 4 x0) = 2) <| bd (f_X2_clear (kR h54 4 x0) h54) fun v57 h58 => vl (((v45 + v49) + v53) + v57) fun v60 => f_X1_restart_34 FU x0 (0 : Int32) h58
theorem b_X1_restart_55 {rr : (Int32 ⊕ Ex) × Hp} {k34 : Nat → Int32 → Hp → Rt Int32} (C : CX p l R s m args meth c D Hs cX1_restart "Massclaim" 4 (some .int) [] 3 44) (K34 : ∀ (x0 : Nat) (x2 : Int32) (h : Hp) (H : Heap) (locs : List Loc) (cells slots : Nat) (ls : Array Slot), HP D Hs h H → LO Hs locs → lv_has ls 4 [(0, rv x0), (2, .int x2)] → k34 x0 x2 h = some rr → W p l e R s m args below meth c H locs cells slots (ZM D Hs iI rr below args s) (F0 m 34 ls [])) : ∀ (n : Nat) (x0 : Nat) (x2 : Int32) (x3 : Int32) (h : Hp) (H : Heap) (locs : List Loc) (cells slots : Nat) (ls : Array Slot), HP D Hs h H → LO Hs locs → lv_has ls 4 [(0, rv x0), (2, .int x2), (3, .int x3)] → f_X1_restart_55 k34 n x0 x2 x3 h = some rr → W p l e R s m args below meth c H locs cells slots (ZM D Hs iI rr below args s) (F0 m 55 ls []) := by
  obtain ⟨⟨hx, hb, hml, hown, hts⟩, -⟩ := id C
  have hl9 := C.2.1.2.2.1
  intro n
  induction n with
  | zero =>
    intro x0 x2 x3 h H locs cells slots ls hH hL hl hrun
    cases (show (none : Option _) = some rr from hrun)
  | succ n ih =>
    intro x0 x2 x3 h H locs cells slots ls hH hL hl hrun
    rw [f_X1_restart_55] at hrun
    refine lv_iload_n (pc := 55) hx hb dX1_restart_55 rfl (lv_at hl 2 rfl) ?_
    refine lv_iconst (v := (4 : Int32)) (pc := 56) hx hb dX1_restart_56 (by decide) ?_
    refine lv_icmp_ge (tgt := 85) (pc := 57) hx hb dX1_restart_57 (by decide) (fun c_ => ?_) (fun c_ => ?_)
    · have hrun := ite_t hrun c_
      obtain ⟨v1, ev1⟩ : ∃ y : Int32, y = x2 + (1 : Int32) := ⟨_, rfl⟩
      have hrun := vl_at hrun v1 ev1
      refine lv_iinc (v := v1) (lv' := [(2, .int v1), (0, rv x0), (3, .int x3)]) (pc := 85) hx hb dX1_restart_85 hl (k := 1) rfl (by rw [ev1]; rfl) (by decide) (by first | rfl | simp [rv_cat, cat_i, cat_l, cat_f, cat_d]) (fun ls hl => ?_)
      refine lv_goto (tgt := 34) (pc := 88) hx hb dX1_restart_88 (by decide) ?_
      exact K34 x0 v1 h H locs cells slots ls hH hL (lv_sub hl [1, 0] rfl) hrun
    · have hrun := ite_f hrun c_
      refine V_aload_n (pc := 60) hx hb dX1_restart_60 rfl (lv_at hl 0 rfl) ?_
      obtain ⟨c2, hrun⟩ := gd_some hrun
      refine V_getR (pc := 61) C hH fr_X1_60 dX1_restart_61 c2 rfl ?_
      refine lv_iload_n (pc := 64) hx hb dX1_restart_64 rfl (lv_at hl 1 rfl) ?_
      obtain ⟨c3, hrun⟩ := gd_some hrun
      refine V_aald2 (pc := 65) C hH dX1_restart_65 c3 ?_
      refine lv_iload_n (pc := 66) hx hb dX1_restart_66 rfl (lv_at hl 2 rfl) ?_
      refine lv_sipush (v := (1000 : Int32)) (pc := 67) hx hb dX1_restart_67 (by decide) ?_
      refine lv_iload_n (pc := 70) hx hb dX1_restart_70 rfl (lv_at hl 1 rfl) ?_
      refine lv_iconst (v := (1 : Int32)) (pc := 71) hx hb dX1_restart_71 (by decide) ?_
      refine lv_iadd (pc := 72) hx hb dX1_restart_72 ?_
      refine lv_imul (pc := 73) hx hb dX1_restart_73 ?_
      refine lv_iload_n (pc := 74) hx hb dX1_restart_74 rfl (lv_at hl 1 rfl) ?_
      refine lv_iconst (v := (1 : Int32)) (pc := 75) hx hb dX1_restart_75 (by decide) ?_
      refine lv_iadd (pc := 76) hx hb dX1_restart_76 ?_
      refine lv_imul (pc := 77) hx hb dX1_restart_77 ?_
      obtain ⟨c4, hrun⟩ := gd_some hrun
      refine V_iast (pc := 78) C hH hL dX1_restart_78 c4 hrun (fun h5 H locs hH hL hrun => ?_)
      obtain ⟨v6, ev6⟩ : ∃ y : Int32, y = x3 + (1 : Int32) := ⟨_, rfl⟩
      have hrun := vl_at hrun v6 ev6
      refine lv_iinc (v := v6) (lv' := [(3, .int v6), (0, rv x0), (2, .int x2)]) (pc := 79) hx hb dX1_restart_79 hl (k := 2) rfl (by rw [ev6]; rfl) (by decide) (by first | rfl | simp [rv_cat, cat_i, cat_l, cat_f, cat_d]) (fun ls hl => ?_)
      refine lv_goto (tgt := 55) (pc := 82) hx hb dX1_restart_82 (by decide) ?_
      exact ih x0 x2 v6 h5 H locs cells slots ls hH hL (lv_sub hl [1, 2, 0] rfl) hrun

theorem b_X1_restart_34 {rr : (Int32 ⊕ Ex) × Hp}  (C : CX p l R s m args meth c D Hs cX1_restart "Massclaim" 4 (some .int) [] 3 44)  : ∀ (n : Nat) (x0 : Nat) (x2 : Int32) (h : Hp) (H : Heap) (locs : List Loc) (cells slots : Nat) (ls : Array Slot), HP D Hs h H → LO Hs locs → lv_has ls 4 [(0, rv x0), (2, .int x2)] → f_X1_restart_34 n x0 x2 h = some rr → W p l e R s m args below meth c H locs cells slots (ZM D Hs iI rr below args s) (F0 m 34 ls []) := by
  obtain ⟨⟨hx, hb, hml, hown, hts⟩, -⟩ := id C
  have hl9 := C.2.1.2.2.1
  intro n
  induction n with
  | zero =>
    intro x0 x2 h H locs cells slots ls hH hL hl hrun
    cases (show (none : Option _) = some rr from hrun)
  | succ n ih =>
    intro x0 x2 h H locs cells slots ls hH hL hl hrun
    rw [f_X1_restart_34] at hrun
    refine lv_iload_n (pc := 34) hx hb dX1_restart_34 rfl (lv_at hl 1 rfl) ?_
    refine lv_iconst (v := (5 : Int32)) (pc := 35) hx hb dX1_restart_35 (by decide) ?_
    refine lv_icmp_ge (tgt := 91) (pc := 36) hx hb dX1_restart_36 (by decide) (fun c_ => ?_) (fun c_ => ?_)
    · have hrun := ite_t hrun c_
      refine V_aload_n (pc := 91) hx hb dX1_restart_91 rfl (lv_at hl 0 rfl) ?_
      refine V_new (pc := 92) C hH nl_X1_71 dX1_restart_92 hrun (fun q7 h8 H cells slots hH hrun => ?_)
      refine lv_dup (pc := 95) hx hb dX1_restart_95 (rv_cat _) ?_
      obtain ⟨c11, hrun⟩ := gd_some hrun
      refine V_bd (pc := 96) C hL rfl hrun (fun rr1 e1 => Z_runIN (rest := [rv q7, rv x0]) C hH (m_X3_init hl9 e1) wIN_X1_73 (hH.pos c11) rfl ⟨by decide, by decide⟩ rfl (by simp [csum, rv_cat, cat_i, cat_l, cat_f, cat_d]) hl.1 dX1_restart_96) (fun _ h10 H locs cells slots hH hL hrun => ?_)
      obtain ⟨c12, hrun⟩ := gd_some hrun
      refine V_putR (pc := 99) C hH hL fl_X1_74 dX1_restart_99 c12 (fok_o _ _) rfl (fun q => Bool.noConfusion q) hrun (fun h13 H locs hH hL hrun => ?_)
      refine V_aload_n (pc := 102) hx hb dX1_restart_102 rfl (lv_at hl 0 rfl) ?_
      refine V_null (pc := 103) hx hb dX1_restart_103 ?_
      obtain ⟨c14, hrun⟩ := gd_some hrun
      refine V_putR (pc := 104) C hH hL fl_X1_84 dX1_restart_104 c14 (fok_o _ _) rfl (fun q => Bool.noConfusion q) hrun (fun h15 H locs hH hL hrun => ?_)
      refine V_aload_n (pc := 107) hx hb dX1_restart_107 rfl (lv_at hl 0 rfl) ?_
      refine lv_iconst (v := (0 : Int32)) (pc := 108) hx hb dX1_restart_108 (by decide) ?_
      obtain ⟨c16, hrun⟩ := gd_some hrun
      refine V_putI (pc := 109) C hH hL fl_X1_88 dX1_restart_109 c16 (fok_i _) rfl (fun q => Bool.noConfusion q) hrun (fun h17 H locs hH hL hrun => ?_)
      refine V_aload_n (pc := 112) hx hb dX1_restart_112 rfl (lv_at hl 0 rfl) ?_
      refine lv_iconst (v := (0 : Int32)) (pc := 113) hx hb dX1_restart_113 (by decide) ?_
      obtain ⟨c18, hrun⟩ := gd_some hrun
      refine V_putI (pc := 114) C hH hL fl_X1_92 dX1_restart_114 c18 (fok_i _) rfl (fun q => Bool.noConfusion q) hrun (fun h19 H locs hH hL hrun => ?_)
      refine V_aload_n (pc := 117) hx hb dX1_restart_117 rfl (lv_at hl 0 rfl) ?_
      refine lv_iconst (v := (0 : Int32)) (pc := 118) hx hb dX1_restart_118 (by decide) ?_
      obtain ⟨c20, hrun⟩ := gd_some hrun
      refine V_putI (pc := 119) C hH hL fl_X1_95 dX1_restart_119 c20 (fok_i _) rfl (fun q => Bool.noConfusion q) hrun (fun h21 H locs hH hL hrun => ?_)
      refine V_aload_n (pc := 122) hx hb dX1_restart_122 rfl (lv_at hl 0 rfl) ?_
      refine lv_ldc (pc := 123) hx hb hown (hts _ q223) dX1_restart_123 ?_
      obtain ⟨c22, hrun⟩ := gd_some hrun
      refine V_putI (pc := 125) C hH hL fl_X1_99 dX1_restart_125 c22 (fok_i _) rfl (fun q => Bool.noConfusion q) hrun (fun h23 H locs hH hL hrun => ?_)
      refine V_aload_n (pc := 128) hx hb dX1_restart_128 rfl (lv_at hl 0 rfl) ?_
      refine lv_bipush (v := (10 : Int32)) (pc := 129) hx hb dX1_restart_129 (by decide) ?_
      obtain ⟨c24, hrun⟩ := gd_some hrun
      refine V_putI (pc := 131) C hH hL fl_X1_102 dX1_restart_131 c24 (fok_i _) rfl (fun q => Bool.noConfusion q) hrun (fun h25 H locs hH hL hrun => ?_)
      refine V_aload_n (pc := 134) hx hb dX1_restart_134 rfl (lv_at hl 0 rfl) ?_
      refine lv_iconst (v := (0 : Int32)) (pc := 135) hx hb dX1_restart_135 (by decide) ?_
      obtain ⟨c26, hrun⟩ := gd_some hrun
      refine V_putI (pc := 136) C hH hL fl_X1_105 dX1_restart_136 c26 (fok_i _) rfl (fun q => Bool.noConfusion q) hrun (fun h27 H locs hH hL hrun => ?_)
      refine V_aload_n (pc := 139) hx hb dX1_restart_139 rfl (lv_at hl 0 rfl) ?_
      refine lv_iconst (v := (0 : Int32)) (pc := 140) hx hb dX1_restart_140 (by decide) ?_
      obtain ⟨c28, hrun⟩ := gd_some hrun
      refine V_putI (pc := 141) C hH hL fl_X1_108 dX1_restart_141 c28 (fok_i _) rfl (fun q => Bool.noConfusion q) hrun (fun h29 H locs hH hL hrun => ?_)
      refine V_aload_n (pc := 144) hx hb dX1_restart_144 rfl (lv_at hl 0 rfl) ?_
      refine lv_lconst (v := (0 : Int64)) (pc := 145) hx hb dX1_restart_145 (by decide) ?_
      obtain ⟨c30, hrun⟩ := gd_some hrun
      refine V_putL (pc := 146) C hH hL fl_X1_111 dX1_restart_146 c30 (fok_l _) rfl (fun q => Bool.noConfusion q) hrun (fun h31 H locs hH hL hrun => ?_)
      refine V_aload_n (pc := 149) hx hb dX1_restart_149 rfl (lv_at hl 0 rfl) ?_
      refine lv_iconst (v := (0 : Int32)) (pc := 150) hx hb dX1_restart_150 (by decide) ?_
      obtain ⟨c32, hrun⟩ := gd_some hrun
      refine V_putI (pc := 151) C hH hL fl_X1_115 dX1_restart_151 c32 (fok_i _) rfl (fun q => Bool.noConfusion q) hrun (fun h33 H locs hH hL hrun => ?_)
      refine V_aload_n (pc := 154) hx hb dX1_restart_154 rfl (lv_at hl 0 rfl) ?_
      obtain ⟨c34, hrun⟩ := gd_some hrun
      refine V_getR (pc := 155) C hH fr_X1_42 dX1_restart_155 c34 rfl ?_
      obtain ⟨c37, hrun⟩ := gd_some hrun
      refine V_bd (pc := 158) C hL rfl hrun (fun rr1 e1 => Z_runV (rest := []) C hH (m_X2_clear hl9 e1) wV_X1_81 c37 rfl (by decide) rfl rfl ⟨by decide, by decide⟩ rfl (Nat.le_of_ble_eq_true rfl) hl.1 dX1_restart_158) (fun v35 h36 H locs cells slots hH hL hrun => ?_)
      exact V_iret (pc := 161) C hH hL hrun dX1_restart_161
    · have hrun := ite_f hrun c_
      refine V_aload_n (pc := 39) hx hb dX1_restart_39 rfl (lv_at hl 0 rfl) ?_
      obtain ⟨c38, hrun⟩ := gd_some hrun
      refine V_getR (pc := 40) C hH fr_X1_63 dX1_restart_40 c38 rfl ?_
      refine lv_iload_n (pc := 43) hx hb dX1_restart_43 rfl (lv_at hl 1 rfl) ?_
      refine lv_lconst (v := (0 : Int64)) (pc := 44) hx hb dX1_restart_44 (by decide) ?_
      obtain ⟨c39, hrun⟩ := gd_some hrun
      refine V_last (pc := 45) C hH hL dX1_restart_45 c39 hrun (fun h40 H locs hH hL hrun => ?_)
      refine V_aload_n (pc := 46) hx hb dX1_restart_46 rfl (lv_at hl 0 rfl) ?_
      obtain ⟨c41, hrun⟩ := gd_some hrun
      refine V_getR (pc := 47) C hH fr_X1_67 dX1_restart_47 c41 rfl ?_
      refine lv_iload_n (pc := 50) hx hb dX1_restart_50 rfl (lv_at hl 1 rfl) ?_
      refine lv_iconst (v := (0 : Int32)) (pc := 51) hx hb dX1_restart_51 (by decide) ?_
      obtain ⟨c42, hrun⟩ := gd_some hrun
      refine V_iast (pc := 52) C hH hL dX1_restart_52 c42 hrun (fun h43 H locs hH hL hrun => ?_)
      refine lv_iconst (v := (0 : Int32)) (pc := 53) hx hb dX1_restart_53 (by decide) ?_
      refine lv_istore_n (i := 3) (lv' := [(3, .int (0 : Int32)), (0, rv x0), (2, .int x2)]) (pc := 54) hx hb dX1_restart_54 rfl hl (by decide) rfl (fun ls hl => ?_)
      exact b_X1_restart_55 C ih FU x0 x2 (0 : Int32) h43 H locs cells slots ls hH hL (lv_sub hl [1, 2, 0] rfl) hrun

theorem b_X1_restart {rr : (Int32 ⊕ Ex) × Hp}  (C : CX p l R s m args meth c D Hs cX1_restart "Massclaim" 4 (some .int) [] 3 44)  : ∀ (x0 : Nat) (h : Hp) (H : Heap) (locs : List Loc) (cells slots : Nat) (ls : Array Slot), HP D Hs h H → LO Hs locs → lv_has ls 4 [(0, rv x0)] → f_X1_restart x0 h = some rr → W p l e R s m args below meth c H locs cells slots (ZM D Hs iI rr below args s) (F0 m 0 ls []) := by
  obtain ⟨⟨hx, hb, hml, hown, hts⟩, -⟩ := id C
  have hl9 := C.2.1.2.2.1
  intro x0 h H locs cells slots ls hH hL hl hrun
  unfold f_X1_restart at hrun
  refine V_aload_n (pc := 0) hx hb dX1_restart_0 rfl (lv_at hl 0 rfl) ?_
  obtain ⟨c44, hrun⟩ := gd_some hrun
  refine V_getR (pc := 1) C hH fr_X1_46 dX1_restart_1 c44 rfl ?_
  obtain ⟨c47, hrun⟩ := gd_some hrun
  refine V_bd (pc := 4) C hL rfl hrun (fun rr1 e1 => Z_runV (rest := []) C hH (m_X2_clear hl9 e1) wV_X1_81 c47 rfl (by decide) rfl rfl ⟨by decide, by decide⟩ rfl (Nat.le_of_ble_eq_true rfl) hl.1 dX1_restart_4) (fun v45 h46 H locs cells slots hH hL hrun => ?_)
  refine V_aload_n (pc := 7) hx hb dX1_restart_7 rfl (lv_at hl 0 rfl) ?_
  obtain ⟨c48, hrun⟩ := gd_some hrun
  refine V_getR (pc := 8) C hH fr_X1_49 dX1_restart_8 c48 rfl ?_
  obtain ⟨c51, hrun⟩ := gd_some hrun
  refine V_bd (pc := 11) C hL rfl hrun (fun rr1 e1 => Z_runV (rest := [.int v45]) C hH (m_X2_clear hl9 e1) wV_X1_81 c51 rfl (by decide) rfl rfl ⟨by decide, by decide⟩ rfl (Nat.le_of_ble_eq_true rfl) hl.1 dX1_restart_11) (fun v49 h50 H locs cells slots hH hL hrun => ?_)
  refine lv_iadd (pc := 14) hx hb dX1_restart_14 ?_
  refine V_aload_n (pc := 15) hx hb dX1_restart_15 rfl (lv_at hl 0 rfl) ?_
  obtain ⟨c52, hrun⟩ := gd_some hrun
  refine V_getR (pc := 16) C hH fr_X1_52 dX1_restart_16 c52 rfl ?_
  obtain ⟨c55, hrun⟩ := gd_some hrun
  refine V_bd (pc := 19) C hL rfl hrun (fun rr1 e1 => Z_runV (rest := [.int (v45 + v49)]) C hH (m_X2_clear hl9 e1) wV_X1_81 c55 rfl (by decide) rfl rfl ⟨by decide, by decide⟩ rfl (Nat.le_of_ble_eq_true rfl) hl.1 dX1_restart_19) (fun v53 h54 H locs cells slots hH hL hrun => ?_)
  refine lv_iadd (pc := 22) hx hb dX1_restart_22 ?_
  refine V_aload_n (pc := 23) hx hb dX1_restart_23 rfl (lv_at hl 0 rfl) ?_
  obtain ⟨c56, hrun⟩ := gd_some hrun
  refine V_getR (pc := 24) C hH fr_X1_55 dX1_restart_24 c56 rfl ?_
  obtain ⟨c59, hrun⟩ := gd_some hrun
  refine V_bd (pc := 27) C hL rfl hrun (fun rr1 e1 => Z_runV (rest := [.int ((v45 + v49) + v53)]) C hH (m_X2_clear hl9 e1) wV_X1_81 c59 rfl (by decide) rfl rfl ⟨by decide, by decide⟩ rfl (Nat.le_of_ble_eq_true rfl) hl.1 dX1_restart_27) (fun v57 h58 H locs cells slots hH hL hrun => ?_)
  refine lv_iadd (pc := 30) hx hb dX1_restart_30 ?_
  refine lv_topi (fun v60 ev60 => ?_)
  have hrun := vl_at hrun v60 ev60
  refine lv_istore_n (i := 1) (lv' := [(1, .int v60), (0, rv x0)]) (pc := 31) hx hb dX1_restart_31 rfl hl (by decide) (by simp [rv_cat, cat_i, cat_l, cat_f, cat_d]) (fun ls hl => ?_)
  refine lv_iconst (v := (0 : Int32)) (pc := 32) hx hb dX1_restart_32 (by decide) ?_
  refine lv_istore_n (i := 2) (lv' := [(2, .int (0 : Int32)), (1, .int v60), (0, rv x0)]) (pc := 33) hx hb dX1_restart_33 rfl hl (by decide) rfl (fun ls hl => ?_)
  exact b_X1_restart_34 C FU x0 (0 : Int32) h58 H locs cells slots ls hH hL (lv_sub hl [2, 0] rfl) hrun

theorem m_X1_restart {l : Launch} {D : va_G} {Hs : Heap} {h : Hp} {rr : (Int32 ⊕ Ex) × Hp} (hl9 : l.stackTraces = false) {x0 : Nat} (hrun : f_X1_restart x0 h = some rr) : CM l yX1_restart (ws_ yX1_restart cX1_restart 4 (some .int)) 3 44 iI [rv x0] D Hs h rr := by
  refine CM.of (lv := [(0, rv x0)]) (plainFor_of_name (by decide)) hl9 (by simp [lv_args, rv_cat, cat_i, cat_l, cat_f, cat_d]) (by simp [lg_sl, rv_cat, cat_i, cat_l, cat_f, cat_d]) ?_
  intro p e R s m args below meth c H ls C hH hl hin
  exact b_X1_restart C x0 _ H [] _ _ ls hH (fun _ q => nomatch q) (lv_sub hl [0] rfl) hrun

/-! Massclaim.<init>()V -/
def f_X1_init  (x0 : Nat) (h : Hp) : Rt Unit :=
  gd (kC h x0 = 1) <| nw h 2 2 fun q2 h3 => gd (kC h3 q2 = 2) <| bd (f_X2_init q2 (50 : Int32) h3) fun _ h5 => gd (kC h5 x0 = 1) <| vl (sR h5 0 x0 q2) fun h8 => nw h8 2 2 fun q9 h10 => gd (kC h10 q9 = 2) <| bd (f_X2_init q9 (4 : Int32) h10) fun _ h12 => gd (kC h12 x0 = 1) <| vl (sR h12 1 x0 q9) fun h15 => nw h15 2 2 fun q16 h17 => gd (kC h17 q16 = 2) <| bd (f_X2_init q16 (4 : Int32) h17) fun _ h19 => gd (kC h19 x0 = 1) <| vl (sR h19 2 x0 q16) fun h22 => nw h22 2 2 fun q23 h24 => gd (kC h24 q23 = 2) <| bd (f_X2_init q23 (50 : Int32) h24) fun _ h26 => gd (kC h26 x0 = 1) <| vl (sR h26 3 x0 q23) fun h29 => nw h29 2 2 fun q30 h31 => gd (kC h31 q30 = 2) <| bd (f_X2_init q30 (20 : Int32) h31) fun _ h33 => gd (kC h33 x0 = 1) <| vl (sR h33 4 x0 q30) fun h36 => nm_ h36 (5 : Int32) (4 : Int32) fun q37 h38 => gd (kC h38 x0 = 1) <| vl (sR h38 5 x0 q37) fun h40 => na h40 102 (5 : Int32) fun q41 h42 => gd (kC h42 x0 = 1) <| vl (sR h42 6 x0 q41) fun h44 => na h44 101 (5 : Int32) fun q45 h46 => gd (kC h46 x0 = 1) <| vl (sR h46 7 x0 q45) fun h48 => nw h48 3 6 fun q49 h50 => gd (kC h50 q49 = 3) <| bd (f_X3_init q49 h50) fun _ h52 => gd (kC h52 x0 = 1) <| vl (sR h52 8 x0 q49) fun h55 => gd (kC h55 x0 = 1) <| bd (f_X1_restart x0 h55) fun v56 h57 => some (.inl (), h57)
theorem b_X1_init {rr : (Unit ⊕ Ex) × Hp}  (C : CX p l R s m args meth c D Hs cX1_init "Massclaim" 2 none [] 5 101) (hin : meth.name = "<init>")  : ∀ (x0 : Nat) (h : Hp) (H : Heap) (locs : List Loc) (cells slots : Nat) (ls : Array Slot), HP D Hs h H → LO Hs locs → lv_has ls 2 [(0, rv x0)] → f_X1_init x0 h = some rr → W p l e R s m args below meth c H locs cells slots (ZM D Hs iV rr below args s) (F0 m 0 ls []) := by
  obtain ⟨⟨hx, hb, hml, hown, hts⟩, -⟩ := id C
  have hl9 := C.2.1.2.2.1
  intro x0 h H locs cells slots ls hH hL hl hrun
  unfold f_X1_init at hrun
  refine V_aload_n (pc := 0) hx hb dX1_init_0 rfl (lv_at hl 0 rfl) ?_
  obtain ⟨c1, hrun⟩ := gd_some hrun
  refine V_objInit (pc := 1) C q112 q113 q114 (hH.pos c1) dX1_init_1 (by decide) (by simp [csum, rv_cat, cat_i, cat_l, cat_f, cat_d]) hl.1 ?_
  refine V_aload_n (pc := 4) hx hb dX1_init_4 rfl (lv_at hl 0 rfl) ?_
  refine V_new (pc := 5) C hH nl_X1_37 dX1_init_5 hrun (fun q2 h3 H cells slots hH hrun => ?_)
  refine lv_dup (pc := 8) hx hb dX1_init_8 (rv_cat _) ?_
  refine lv_bipush (v := (50 : Int32)) (pc := 9) hx hb dX1_init_9 (by decide) ?_
  obtain ⟨c6, hrun⟩ := gd_some hrun
  refine V_bd (pc := 11) C hL rfl hrun (fun rr1 e1 => Z_runI (rest := [rv q2, rv x0]) C hH (m_X2_init hl9 e1) wI_X1_41 (hH.pos c6) rfl ⟨by decide, by decide⟩ rfl (by simp [csum, rv_cat, cat_i, cat_l, cat_f, cat_d]) hl.1 dX1_init_11) (fun _ h5 H locs cells slots hH hL hrun => ?_)
  obtain ⟨c7, hrun⟩ := gd_some hrun
  refine V_putR (pc := 14) C hH hL fl_X1_42 dX1_init_14 c7 (fok_o _ _) rfl (fun _ => hin) hrun (fun h8 H locs hH hL hrun => ?_)
  refine V_aload_n (pc := 17) hx hb dX1_init_17 rfl (lv_at hl 0 rfl) ?_
  refine V_new (pc := 18) C hH nl_X1_37 dX1_init_18 hrun (fun q9 h10 H cells slots hH hrun => ?_)
  refine lv_dup (pc := 21) hx hb dX1_init_21 (rv_cat _) ?_
  refine lv_iconst (v := (4 : Int32)) (pc := 22) hx hb dX1_init_22 (by decide) ?_
  obtain ⟨c13, hrun⟩ := gd_some hrun
  refine V_bd (pc := 23) C hL rfl hrun (fun rr1 e1 => Z_runI (rest := [rv q9, rv x0]) C hH (m_X2_init hl9 e1) wI_X1_41 (hH.pos c13) rfl ⟨by decide, by decide⟩ rfl (by simp [csum, rv_cat, cat_i, cat_l, cat_f, cat_d]) hl.1 dX1_init_23) (fun _ h12 H locs cells slots hH hL hrun => ?_)
  obtain ⟨c14, hrun⟩ := gd_some hrun
  refine V_putR (pc := 26) C hH hL fl_X1_46 dX1_init_26 c14 (fok_o _ _) rfl (fun _ => hin) hrun (fun h15 H locs hH hL hrun => ?_)
  refine V_aload_n (pc := 29) hx hb dX1_init_29 rfl (lv_at hl 0 rfl) ?_
  refine V_new (pc := 30) C hH nl_X1_37 dX1_init_30 hrun (fun q16 h17 H cells slots hH hrun => ?_)
  refine lv_dup (pc := 33) hx hb dX1_init_33 (rv_cat _) ?_
  refine lv_iconst (v := (4 : Int32)) (pc := 34) hx hb dX1_init_34 (by decide) ?_
  obtain ⟨c20, hrun⟩ := gd_some hrun
  refine V_bd (pc := 35) C hL rfl hrun (fun rr1 e1 => Z_runI (rest := [rv q16, rv x0]) C hH (m_X2_init hl9 e1) wI_X1_41 (hH.pos c20) rfl ⟨by decide, by decide⟩ rfl (by simp [csum, rv_cat, cat_i, cat_l, cat_f, cat_d]) hl.1 dX1_init_35) (fun _ h19 H locs cells slots hH hL hrun => ?_)
  obtain ⟨c21, hrun⟩ := gd_some hrun
  refine V_putR (pc := 38) C hH hL fl_X1_49 dX1_init_38 c21 (fok_o _ _) rfl (fun _ => hin) hrun (fun h22 H locs hH hL hrun => ?_)
  refine V_aload_n (pc := 41) hx hb dX1_init_41 rfl (lv_at hl 0 rfl) ?_
  refine V_new (pc := 42) C hH nl_X1_37 dX1_init_42 hrun (fun q23 h24 H cells slots hH hrun => ?_)
  refine lv_dup (pc := 45) hx hb dX1_init_45 (rv_cat _) ?_
  refine lv_bipush (v := (50 : Int32)) (pc := 46) hx hb dX1_init_46 (by decide) ?_
  obtain ⟨c27, hrun⟩ := gd_some hrun
  refine V_bd (pc := 48) C hL rfl hrun (fun rr1 e1 => Z_runI (rest := [rv q23, rv x0]) C hH (m_X2_init hl9 e1) wI_X1_41 (hH.pos c27) rfl ⟨by decide, by decide⟩ rfl (by simp [csum, rv_cat, cat_i, cat_l, cat_f, cat_d]) hl.1 dX1_init_48) (fun _ h26 H locs cells slots hH hL hrun => ?_)
  obtain ⟨c28, hrun⟩ := gd_some hrun
  refine V_putR (pc := 51) C hH hL fl_X1_52 dX1_init_51 c28 (fok_o _ _) rfl (fun _ => hin) hrun (fun h29 H locs hH hL hrun => ?_)
  refine V_aload_n (pc := 54) hx hb dX1_init_54 rfl (lv_at hl 0 rfl) ?_
  refine V_new (pc := 55) C hH nl_X1_37 dX1_init_55 hrun (fun q30 h31 H cells slots hH hrun => ?_)
  refine lv_dup (pc := 58) hx hb dX1_init_58 (rv_cat _) ?_
  refine lv_bipush (v := (20 : Int32)) (pc := 59) hx hb dX1_init_59 (by decide) ?_
  obtain ⟨c34, hrun⟩ := gd_some hrun
  refine V_bd (pc := 61) C hL rfl hrun (fun rr1 e1 => Z_runI (rest := [rv q30, rv x0]) C hH (m_X2_init hl9 e1) wI_X1_41 (hH.pos c34) rfl ⟨by decide, by decide⟩ rfl (by simp [csum, rv_cat, cat_i, cat_l, cat_f, cat_d]) hl.1 dX1_init_61) (fun _ h33 H locs cells slots hH hL hrun => ?_)
  obtain ⟨c35, hrun⟩ := gd_some hrun
  refine V_putR (pc := 64) C hH hL fl_X1_55 dX1_init_64 c35 (fok_o _ _) rfl (fun _ => hin) hrun (fun h36 H locs hH hL hrun => ?_)
  refine V_aload_n (pc := 67) hx hb dX1_init_67 rfl (lv_at hl 0 rfl) ?_
  refine lv_iconst (v := (5 : Int32)) (pc := 68) hx hb dX1_init_68 (by decide) ?_
  refine lv_iconst (v := (4 : Int32)) (pc := 69) hx hb dX1_init_69 (by decide) ?_
  refine V_multi (pc := 70) C hH q157 dX1_init_70 hrun (fun q37 h38 H cells slots hH hrun => ?_)
  obtain ⟨c39, hrun⟩ := gd_some hrun
  refine V_putR (pc := 74) C hH hL fl_X1_60 dX1_init_74 c39 (fok_a _ _) rfl (fun _ => hin) hrun (fun h40 H locs hH hL hrun => ?_)
  refine V_aload_n (pc := 77) hx hb dX1_init_77 rfl (lv_at hl 0 rfl) ?_
  refine lv_iconst (v := (5 : Int32)) (pc := 78) hx hb dX1_init_78 (by decide) ?_
  refine V_newa (at_ := .long) (pc := 79) C hH (Or.inr ⟨rfl, rfl⟩) q195 dX1_init_79 hrun (fun q41 h42 H cells slots hH hrun => ?_)
  obtain ⟨c43, hrun⟩ := gd_some hrun
  refine V_putR (pc := 81) C hH hL fl_X1_63 dX1_init_81 c43 (fok_a _ _) rfl (fun _ => hin) hrun (fun h44 H locs hH hL hrun => ?_)
  refine V_aload_n (pc := 84) hx hb dX1_init_84 rfl (lv_at hl 0 rfl) ?_
  refine lv_iconst (v := (5 : Int32)) (pc := 85) hx hb dX1_init_85 (by decide) ?_
  refine V_newa (at_ := .int) (pc := 86) C hH (Or.inl ⟨rfl, rfl⟩) q194 dX1_init_86 hrun (fun q45 h46 H cells slots hH hrun => ?_)
  obtain ⟨c47, hrun⟩ := gd_some hrun
  refine V_putR (pc := 88) C hH hL fl_X1_67 dX1_init_88 c47 (fok_a _ _) rfl (fun _ => hin) hrun (fun h48 H locs hH hL hrun => ?_)
  refine V_aload_n (pc := 91) hx hb dX1_init_91 rfl (lv_at hl 0 rfl) ?_
  refine V_new (pc := 92) C hH nl_X1_71 dX1_init_92 hrun (fun q49 h50 H cells slots hH hrun => ?_)
  refine lv_dup (pc := 95) hx hb dX1_init_95 (rv_cat _) ?_
  obtain ⟨c53, hrun⟩ := gd_some hrun
  refine V_bd (pc := 96) C hL rfl hrun (fun rr1 e1 => Z_runIN (rest := [rv q49, rv x0]) C hH (m_X3_init hl9 e1) wIN_X1_73 (hH.pos c53) rfl ⟨by decide, by decide⟩ rfl (by simp [csum, rv_cat, cat_i, cat_l, cat_f, cat_d]) hl.1 dX1_init_96) (fun _ h52 H locs cells slots hH hL hrun => ?_)
  obtain ⟨c54, hrun⟩ := gd_some hrun
  refine V_putR (pc := 99) C hH hL fl_X1_74 dX1_init_99 c54 (fok_o _ _) rfl (fun q => Bool.noConfusion q) hrun (fun h55 H locs hH hL hrun => ?_)
  refine V_aload_n (pc := 102) hx hb dX1_init_102 rfl (lv_at hl 0 rfl) ?_
  obtain ⟨c58, hrun⟩ := gd_some hrun
  refine V_bd (pc := 103) C hL rfl hrun (fun rr1 e1 => Z_runV (rest := []) C hH (m_X1_restart hl9 e1) wV_X1_78 c58 rfl (by decide) rfl rfl ⟨by decide, by decide⟩ rfl (Nat.le_of_ble_eq_true rfl) hl.1 dX1_init_103) (fun v56 h57 H locs cells slots hH hL hrun => ?_)
  refine lv_istore_n (i := 1) (lv' := [(1, .int v56), (0, rv x0)]) (pc := 106) hx hb dX1_init_106 rfl hl (by decide) (by simp [rv_cat, cat_i, cat_l, cat_f, cat_d]) (fun ls hl => ?_)
  exact V_vret (pc := 107) C hH hL hrun dX1_init_107

theorem m_X1_init {l : Launch} {D : va_G} {Hs : Heap} {h : Hp} {rr : (Unit ⊕ Ex) × Hp} (hl9 : l.stackTraces = false) {x0 : Nat} (hrun : f_X1_init x0 h = some rr) : CM l yX1_init (ws_ yX1_init cX1_init 2 none) 5 101 iV [rv x0] D Hs h rr := by
  refine CM.of (lv := [(0, rv x0)]) (plainFor_of_name (by decide)) hl9 (by simp [lv_args, rv_cat, cat_i, cat_l, cat_f, cat_d]) (by simp [lg_sl, rv_cat, cat_i, cat_l, cat_f, cat_d]) ?_
  intro p e R s m args below meth c H ls C hH hl hin
  exact b_X1_init C hin x0 _ H [] _ _ ls hH (fun _ q => nomatch q) (lv_sub hl [0] rfl) hrun

/-! MassclaimModel.fresh()V -/
def f_X4_fresh_146  : Nat → Nat → Int32 → Hp → Rt Unit
  | 0, _, _, _ => none
  | n + 1, x0, x1, h => if (6 : Int32) ≤ x1 then
  (gd (kC h x0 = 4) <| vl (sL h 326 x0 (0 : Int64)) fun h2 => gd (kC h2 x0 = 4) <| vl (sL h2 327 x0 (0 : Int64)) fun h4 => gd (kC h4 x0 = 4) <| vl (sL h4 328 x0 (0 : Int64)) fun h6 => some (.inl (), h6))
  else
  (gd (kC h x0 = 4) <| gd (kC h (kR h 325 x0) = 102 ∧ ixo x1 (kN h (kR h 325 x0))) <| vl (tL h (kR h 325 x0) (x1).toNatClampNeg (0 : Int64)) fun h9 => vl (x1 + (1 : Int32)) fun v10 => f_X4_fresh_146 n x0 v10 h9)
def f_X4_fresh_55 (k48 : Nat → Int32 → Hp → Rt Unit) : Nat → Nat → Int32 → Int32 → Hp → Rt Unit
  | 0, _, _, _, _ => none
  | n + 1, x0, x1, x2, h => if (4 : Int32) ≤ x2 then
  (vl (x1 + (1 : Int32)) fun v11 => k48 x0 v11 h)
  else
  (gd (kC h x0 = 4) <| gd (kC h (kR h 315 x0) = 101 ∧ ixo (((4 : Int32) * x1) + x2) (kN h (kR h 315 x0))) <| vl (tI h (kR h 315 x0) ((((4 : Int32) * x1) + x2)).toNatClampNeg (((1000 : Int32) * (x1 + (1 : Int32))) * (x1 + (1 : Int32)))) fun h14 => vl (x2 + (1 : Int32)) fun v15 => f_X4_fresh_55 k48 n x0 x1 v15 h14)
def f_X4_fresh_48  : Nat → Nat → Int32 → Hp → Rt Unit
  | 0, _, _, _ => none
  | n + 1, x0, x1, h => if (5 : Int32) ≤ x1 then
  (gd (kC h x0 = 4) <| vl (sI h 316 x0 (1000000 : Int32)) fun h17 => gd (kC h17 x0 = 4) <| vl (sI h17 317 x0 (10 : Int32)) fun h19 => gd (kC h19 x0 = 4) <| vl (sI h19 318 x0 (0 : Int32)) fun h21 => gd (kC h21 x0 = 4) <| vl (sI h21 319 x0 (0 : Int32)) fun h23 => gd (kC h23 x0 = 4) <| gd (kC h23 (kR h23 320 x0) = 18) <| bd (f_J2_clear (kR h23 320 x0) h23) fun _ h26 => gd (kC h26 x0 = 4) <| gd (kC h26 (kR h26 321 x0) = 18) <| bd (f_J2_clear (kR h26 321 x0) h26) fun _ h30 => gd (kC h30 x0 = 4) <| vl (sL h30 322 x0 (0 : Int64)) fun h33 => gd (kC h33 x0 = 4) <| vl (sL h33 323 x0 (0 : Int64)) fun h35 => gd (kC h35 x0 = 4) <| vl (sL h35 324 x0 (0 : Int64)) fun h37 => f_X4_fresh_146 FU x0 (0 : Int32) h37)
  else
  (f_X4_fresh_55 (f_X4_fresh_48 n) FU x0 x1 (0 : Int32) h)
def f_X4_fresh  (x0 : Nat) (h : Hp) : Rt Unit :=
  gd (kC h x0 = 4) <| vl (sI h 301 x0 (0 : Int32)) fun h39 => gd (kC h39 x0 = 4) <| gd (kC h39 (kR h39 302 x0) = 18) <| bd (f_J2_clear (kR h39 302 x0) h39) fun _ h42 => gd (kC h42 x0 = 4) <| vl (sI h42 303 x0 (0 : Int32)) fun h45 => gd (kC h45 x0 = 4) <| gd (kC h45 (kR h45 307 x0) = 18) <| bd (f_J2_clear (kR h45 307 x0) h45) fun _ h48 => gd (kC h48 x0 = 4) <| gd (kC h48 (kR h48 308 x0) = 18) <| bd (f_J2_clear (kR h48 308 x0) h48) fun _ h52 => gd (kC h52 x0 = 4) <| vl (sI h52 309 x0 (0 : Int32)) fun h55 => gd (kC h55 x0 = 4) <| vl (sL h55 310 x0 (0 : Int64)) fun h57 => gd (kC h57 x0 = 4) <| vl (sI h57 314 x0 (0 : Int32)) fun h59 => f_X4_fresh_48 FU x0 (0 : Int32) h59
theorem b_X4_fresh_146 {rr : (Unit ⊕ Ex) × Hp}  (C : CX p l R s m args meth c D Hs cX4_fresh "MassclaimModel" 3 none [] 2 23)  : ∀ (n : Nat) (x0 : Nat) (x1 : Int32) (h : Hp) (H : Heap) (locs : List Loc) (cells slots : Nat) (ls : Array Slot), HP D Hs h H → LO Hs locs → lv_has ls 3 [(0, rv x0), (1, .int x1)] → f_X4_fresh_146 n x0 x1 h = some rr → W p l e R s m args below meth c H locs cells slots (ZM D Hs iV rr below args s) (F0 m 146 ls []) := by
  obtain ⟨⟨hx, hb, hml, hown, hts⟩, -⟩ := id C
  have hl9 := C.2.1.2.2.1
  intro n
  induction n with
  | zero =>
    intro x0 x1 h H locs cells slots ls hH hL hl hrun
    cases (show (none : Option _) = some rr from hrun)
  | succ n ih =>
    intro x0 x1 h H locs cells slots ls hH hL hl hrun
    rw [f_X4_fresh_146] at hrun
    refine lv_iload_n (pc := 146) hx hb dX4_fresh_146 rfl (lv_at hl 1 rfl) ?_
    refine lv_bipush (v := (6 : Int32)) (pc := 147) hx hb dX4_fresh_147 (by decide) ?_
    refine lv_icmp_ge (tgt := 165) (pc := 149) hx hb dX4_fresh_149 (by decide) (fun c_ => ?_) (fun c_ => ?_)
    · have hrun := ite_t hrun c_
      refine V_aload_n (pc := 165) hx hb dX4_fresh_165 rfl (lv_at hl 0 rfl) ?_
      refine lv_lconst (v := (0 : Int64)) (pc := 166) hx hb dX4_fresh_166 (by decide) ?_
      obtain ⟨c1, hrun⟩ := gd_some hrun
      refine V_putL (pc := 167) C hH hL fl_X4_85 dX4_fresh_167 c1 (fok_l _) rfl (fun q => Bool.noConfusion q) hrun (fun h2 H locs hH hL hrun => ?_)
      refine V_aload_n (pc := 170) hx hb dX4_fresh_170 rfl (lv_at hl 0 rfl) ?_
      refine lv_lconst (v := (0 : Int64)) (pc := 171) hx hb dX4_fresh_171 (by decide) ?_
      obtain ⟨c3, hrun⟩ := gd_some hrun
      refine V_putL (pc := 172) C hH hL fl_X4_88 dX4_fresh_172 c3 (fok_l _) rfl (fun q => Bool.noConfusion q) hrun (fun h4 H locs hH hL hrun => ?_)
      refine V_aload_n (pc := 175) hx hb dX4_fresh_175 rfl (lv_at hl 0 rfl) ?_
      refine lv_lconst (v := (0 : Int64)) (pc := 176) hx hb dX4_fresh_176 (by decide) ?_
      obtain ⟨c5, hrun⟩ := gd_some hrun
      refine V_putL (pc := 177) C hH hL fl_X4_91 dX4_fresh_177 c5 (fok_l _) rfl (fun q => Bool.noConfusion q) hrun (fun h6 H locs hH hL hrun => ?_)
      exact V_vret (pc := 180) C hH hL hrun dX4_fresh_180
    · have hrun := ite_f hrun c_
      refine V_aload_n (pc := 152) hx hb dX4_fresh_152 rfl (lv_at hl 0 rfl) ?_
      obtain ⟨c7, hrun⟩ := gd_some hrun
      refine V_getR (pc := 153) C hH fr_X4_36 dX4_fresh_153 c7 rfl ?_
      refine lv_iload_n (pc := 156) hx hb dX4_fresh_156 rfl (lv_at hl 1 rfl) ?_
      refine lv_lconst (v := (0 : Int64)) (pc := 157) hx hb dX4_fresh_157 (by decide) ?_
      obtain ⟨c8, hrun⟩ := gd_some hrun
      refine V_last (pc := 158) C hH hL dX4_fresh_158 c8 hrun (fun h9 H locs hH hL hrun => ?_)
      obtain ⟨v10, ev10⟩ : ∃ y : Int32, y = x1 + (1 : Int32) := ⟨_, rfl⟩
      have hrun := vl_at hrun v10 ev10
      refine lv_iinc (v := v10) (lv' := [(1, .int v10), (0, rv x0)]) (pc := 159) hx hb dX4_fresh_159 hl (k := 1) rfl (by rw [ev10]; rfl) (by decide) (by first | rfl | simp [rv_cat, cat_i, cat_l, cat_f, cat_d]) (fun ls hl => ?_)
      refine lv_goto (tgt := 146) (pc := 162) hx hb dX4_fresh_162 (by decide) ?_
      exact ih x0 v10 h9 H locs cells slots ls hH hL (lv_sub hl [1, 0] rfl) hrun

theorem b_X4_fresh_55 {rr : (Unit ⊕ Ex) × Hp} {k48 : Nat → Int32 → Hp → Rt Unit} (C : CX p l R s m args meth c D Hs cX4_fresh "MassclaimModel" 3 none [] 2 23) (K48 : ∀ (x0 : Nat) (x1 : Int32) (h : Hp) (H : Heap) (locs : List Loc) (cells slots : Nat) (ls : Array Slot), HP D Hs h H → LO Hs locs → lv_has ls 3 [(0, rv x0), (1, .int x1)] → k48 x0 x1 h = some rr → W p l e R s m args below meth c H locs cells slots (ZM D Hs iV rr below args s) (F0 m 48 ls [])) : ∀ (n : Nat) (x0 : Nat) (x1 : Int32) (x2 : Int32) (h : Hp) (H : Heap) (locs : List Loc) (cells slots : Nat) (ls : Array Slot), HP D Hs h H → LO Hs locs → lv_has ls 3 [(0, rv x0), (1, .int x1), (2, .int x2)] → f_X4_fresh_55 k48 n x0 x1 x2 h = some rr → W p l e R s m args below meth c H locs cells slots (ZM D Hs iV rr below args s) (F0 m 55 ls []) := by
  obtain ⟨⟨hx, hb, hml, hown, hts⟩, -⟩ := id C
  have hl9 := C.2.1.2.2.1
  intro n
  induction n with
  | zero =>
    intro x0 x1 x2 h H locs cells slots ls hH hL hl hrun
    cases (show (none : Option _) = some rr from hrun)
  | succ n ih =>
    intro x0 x1 x2 h H locs cells slots ls hH hL hl hrun
    rw [f_X4_fresh_55] at hrun
    refine lv_iload_n (pc := 55) hx hb dX4_fresh_55 rfl (lv_at hl 2 rfl) ?_
    refine lv_iconst (v := (4 : Int32)) (pc := 56) hx hb dX4_fresh_56 (by decide) ?_
    refine lv_icmp_ge (tgt := 87) (pc := 57) hx hb dX4_fresh_57 (by decide) (fun c_ => ?_) (fun c_ => ?_)
    · have hrun := ite_t hrun c_
      obtain ⟨v11, ev11⟩ : ∃ y : Int32, y = x1 + (1 : Int32) := ⟨_, rfl⟩
      have hrun := vl_at hrun v11 ev11
      refine lv_iinc (v := v11) (lv' := [(1, .int v11), (0, rv x0), (2, .int x2)]) (pc := 87) hx hb dX4_fresh_87 hl (k := 1) rfl (by rw [ev11]; rfl) (by decide) (by first | rfl | simp [rv_cat, cat_i, cat_l, cat_f, cat_d]) (fun ls hl => ?_)
      refine lv_goto (tgt := 48) (pc := 90) hx hb dX4_fresh_90 (by decide) ?_
      exact K48 x0 v11 h H locs cells slots ls hH hL (lv_sub hl [1, 0] rfl) hrun
    · have hrun := ite_f hrun c_
      refine V_aload_n (pc := 60) hx hb dX4_fresh_60 rfl (lv_at hl 0 rfl) ?_
      obtain ⟨c12, hrun⟩ := gd_some hrun
      refine V_getR (pc := 61) C hH fr_X4_26 dX4_fresh_61 c12 rfl ?_
      refine lv_iconst (v := (4 : Int32)) (pc := 64) hx hb dX4_fresh_64 (by decide) ?_
      refine lv_iload_n (pc := 65) hx hb dX4_fresh_65 rfl (lv_at hl 1 rfl) ?_
      refine lv_imul (pc := 66) hx hb dX4_fresh_66 ?_
      refine lv_iload_n (pc := 67) hx hb dX4_fresh_67 rfl (lv_at hl 2 rfl) ?_
      refine lv_iadd (pc := 68) hx hb dX4_fresh_68 ?_
      refine lv_sipush (v := (1000 : Int32)) (pc := 69) hx hb dX4_fresh_69 (by decide) ?_
      refine lv_iload_n (pc := 72) hx hb dX4_fresh_72 rfl (lv_at hl 1 rfl) ?_
      refine lv_iconst (v := (1 : Int32)) (pc := 73) hx hb dX4_fresh_73 (by decide) ?_
      refine lv_iadd (pc := 74) hx hb dX4_fresh_74 ?_
      refine lv_imul (pc := 75) hx hb dX4_fresh_75 ?_
      refine lv_iload_n (pc := 76) hx hb dX4_fresh_76 rfl (lv_at hl 1 rfl) ?_
      refine lv_iconst (v := (1 : Int32)) (pc := 77) hx hb dX4_fresh_77 (by decide) ?_
      refine lv_iadd (pc := 78) hx hb dX4_fresh_78 ?_
      refine lv_imul (pc := 79) hx hb dX4_fresh_79 ?_
      obtain ⟨c13, hrun⟩ := gd_some hrun
      refine V_iast (pc := 80) C hH hL dX4_fresh_80 c13 hrun (fun h14 H locs hH hL hrun => ?_)
      obtain ⟨v15, ev15⟩ : ∃ y : Int32, y = x2 + (1 : Int32) := ⟨_, rfl⟩
      have hrun := vl_at hrun v15 ev15
      refine lv_iinc (v := v15) (lv' := [(2, .int v15), (0, rv x0), (1, .int x1)]) (pc := 81) hx hb dX4_fresh_81 hl (k := 2) rfl (by rw [ev15]; rfl) (by decide) (by first | rfl | simp [rv_cat, cat_i, cat_l, cat_f, cat_d]) (fun ls hl => ?_)
      refine lv_goto (tgt := 55) (pc := 84) hx hb dX4_fresh_84 (by decide) ?_
      exact ih x0 x1 v15 h14 H locs cells slots ls hH hL (lv_sub hl [1, 2, 0] rfl) hrun

theorem b_X4_fresh_48 {rr : (Unit ⊕ Ex) × Hp}  (C : CX p l R s m args meth c D Hs cX4_fresh "MassclaimModel" 3 none [] 2 23)  : ∀ (n : Nat) (x0 : Nat) (x1 : Int32) (h : Hp) (H : Heap) (locs : List Loc) (cells slots : Nat) (ls : Array Slot), HP D Hs h H → LO Hs locs → lv_has ls 3 [(0, rv x0), (1, .int x1)] → f_X4_fresh_48 n x0 x1 h = some rr → W p l e R s m args below meth c H locs cells slots (ZM D Hs iV rr below args s) (F0 m 48 ls []) := by
  obtain ⟨⟨hx, hb, hml, hown, hts⟩, -⟩ := id C
  have hl9 := C.2.1.2.2.1
  intro n
  induction n with
  | zero =>
    intro x0 x1 h H locs cells slots ls hH hL hl hrun
    cases (show (none : Option _) = some rr from hrun)
  | succ n ih =>
    intro x0 x1 h H locs cells slots ls hH hL hl hrun
    rw [f_X4_fresh_48] at hrun
    refine lv_iload_n (pc := 48) hx hb dX4_fresh_48 rfl (lv_at hl 1 rfl) ?_
    refine lv_iconst (v := (5 : Int32)) (pc := 49) hx hb dX4_fresh_49 (by decide) ?_
    refine lv_icmp_ge (tgt := 93) (pc := 50) hx hb dX4_fresh_50 (by decide) (fun c_ => ?_) (fun c_ => ?_)
    · have hrun := ite_t hrun c_
      refine V_aload_n (pc := 93) hx hb dX4_fresh_93 rfl (lv_at hl 0 rfl) ?_
      refine lv_ldc (pc := 94) hx hb hown (hts _ q1839) dX4_fresh_94 ?_
      obtain ⟨c16, hrun⟩ := gd_some hrun
      refine V_putI (pc := 96) C hH hL fl_X4_64 dX4_fresh_96 c16 (fok_i _) rfl (fun q => Bool.noConfusion q) hrun (fun h17 H locs hH hL hrun => ?_)
      refine V_aload_n (pc := 99) hx hb dX4_fresh_99 rfl (lv_at hl 0 rfl) ?_
      refine lv_bipush (v := (10 : Int32)) (pc := 100) hx hb dX4_fresh_100 (by decide) ?_
      obtain ⟨c18, hrun⟩ := gd_some hrun
      refine V_putI (pc := 102) C hH hL fl_X4_67 dX4_fresh_102 c18 (fok_i _) rfl (fun q => Bool.noConfusion q) hrun (fun h19 H locs hH hL hrun => ?_)
      refine V_aload_n (pc := 105) hx hb dX4_fresh_105 rfl (lv_at hl 0 rfl) ?_
      refine lv_iconst (v := (0 : Int32)) (pc := 106) hx hb dX4_fresh_106 (by decide) ?_
      obtain ⟨c20, hrun⟩ := gd_some hrun
      refine V_putI (pc := 107) C hH hL fl_X4_70 dX4_fresh_107 c20 (fok_i _) rfl (fun q => Bool.noConfusion q) hrun (fun h21 H locs hH hL hrun => ?_)
      refine V_aload_n (pc := 110) hx hb dX4_fresh_110 rfl (lv_at hl 0 rfl) ?_
      refine lv_iconst (v := (0 : Int32)) (pc := 111) hx hb dX4_fresh_111 (by decide) ?_
      obtain ⟨c22, hrun⟩ := gd_some hrun
      refine V_putI (pc := 112) C hH hL fl_X4_73 dX4_fresh_112 c22 (fok_i _) rfl (fun q => Bool.noConfusion q) hrun (fun h23 H locs hH hL hrun => ?_)
      refine V_aload_n (pc := 115) hx hb dX4_fresh_115 rfl (lv_at hl 0 rfl) ?_
      obtain ⟨c24, hrun⟩ := gd_some hrun
      refine V_getR (pc := 116) C hH fr_X4_30 dX4_fresh_116 c24 rfl ?_
      obtain ⟨c27, hrun⟩ := gd_some hrun
      refine V_bd (pc := 119) C hL rfl hrun (fun rr1 e1 => Z_runV (rest := []) C hH (m_J2_clear hl9 e1) wV_X4_46 c27 rfl (by decide) rfl rfl ⟨by decide, by decide⟩ rfl (Nat.le_of_ble_eq_true rfl) hl.1 dX4_fresh_119) (fun _ h26 H locs cells slots hH hL hrun => ?_)
      refine V_aload_n (pc := 122) hx hb dX4_fresh_122 rfl (lv_at hl 0 rfl) ?_
      obtain ⟨c28, hrun⟩ := gd_some hrun
      refine V_getR (pc := 123) C hH fr_X4_33 dX4_fresh_123 c28 rfl ?_
      obtain ⟨c31, hrun⟩ := gd_some hrun
      refine V_bd (pc := 126) C hL rfl hrun (fun rr1 e1 => Z_runV (rest := []) C hH (m_J2_clear hl9 e1) wV_X4_46 c31 rfl (by decide) rfl rfl ⟨by decide, by decide⟩ rfl (Nat.le_of_ble_eq_true rfl) hl.1 dX4_fresh_126) (fun _ h30 H locs cells slots hH hL hrun => ?_)
      refine V_aload_n (pc := 129) hx hb dX4_fresh_129 rfl (lv_at hl 0 rfl) ?_
      refine lv_lconst (v := (0 : Int64)) (pc := 130) hx hb dX4_fresh_130 (by decide) ?_
      obtain ⟨c32, hrun⟩ := gd_some hrun
      refine V_putL (pc := 131) C hH hL fl_X4_76 dX4_fresh_131 c32 (fok_l _) rfl (fun q => Bool.noConfusion q) hrun (fun h33 H locs hH hL hrun => ?_)
      refine V_aload_n (pc := 134) hx hb dX4_fresh_134 rfl (lv_at hl 0 rfl) ?_
      refine lv_lconst (v := (0 : Int64)) (pc := 135) hx hb dX4_fresh_135 (by decide) ?_
      obtain ⟨c34, hrun⟩ := gd_some hrun
      refine V_putL (pc := 136) C hH hL fl_X4_79 dX4_fresh_136 c34 (fok_l _) rfl (fun q => Bool.noConfusion q) hrun (fun h35 H locs hH hL hrun => ?_)
      refine V_aload_n (pc := 139) hx hb dX4_fresh_139 rfl (lv_at hl 0 rfl) ?_
      refine lv_lconst (v := (0 : Int64)) (pc := 140) hx hb dX4_fresh_140 (by decide) ?_
      obtain ⟨c36, hrun⟩ := gd_some hrun
      refine V_putL (pc := 141) C hH hL fl_X4_82 dX4_fresh_141 c36 (fok_l _) rfl (fun q => Bool.noConfusion q) hrun (fun h37 H locs hH hL hrun => ?_)
      refine lv_iconst (v := (0 : Int32)) (pc := 144) hx hb dX4_fresh_144 (by decide) ?_
      refine lv_istore_n (i := 1) (lv' := [(1, .int (0 : Int32)), (0, rv x0)]) (pc := 145) hx hb dX4_fresh_145 rfl hl (by decide) (by simp [rv_cat, cat_i, cat_l, cat_f, cat_d]) (fun ls hl => ?_)
      exact b_X4_fresh_146 C FU x0 (0 : Int32) h37 H locs cells slots ls hH hL (lv_sub hl [1, 0] rfl) hrun
    · have hrun := ite_f hrun c_
      refine lv_iconst (v := (0 : Int32)) (pc := 53) hx hb dX4_fresh_53 (by decide) ?_
      refine lv_istore_n (i := 2) (lv' := [(2, .int (0 : Int32)), (0, rv x0), (1, .int x1)]) (pc := 54) hx hb dX4_fresh_54 rfl hl (by decide) rfl (fun ls hl => ?_)
      exact b_X4_fresh_55 C ih FU x0 x1 (0 : Int32) h H locs cells slots ls hH hL (lv_sub hl [1, 2, 0] rfl) hrun

theorem b_X4_fresh {rr : (Unit ⊕ Ex) × Hp}  (C : CX p l R s m args meth c D Hs cX4_fresh "MassclaimModel" 3 none [] 2 23)  : ∀ (x0 : Nat) (h : Hp) (H : Heap) (locs : List Loc) (cells slots : Nat) (ls : Array Slot), HP D Hs h H → LO Hs locs → lv_has ls 3 [(0, rv x0)] → f_X4_fresh x0 h = some rr → W p l e R s m args below meth c H locs cells slots (ZM D Hs iV rr below args s) (F0 m 0 ls []) := by
  obtain ⟨⟨hx, hb, hml, hown, hts⟩, -⟩ := id C
  have hl9 := C.2.1.2.2.1
  intro x0 h H locs cells slots ls hH hL hl hrun
  unfold f_X4_fresh at hrun
  refine V_aload_n (pc := 0) hx hb dX4_fresh_0 rfl (lv_at hl 0 rfl) ?_
  refine lv_iconst (v := (0 : Int32)) (pc := 1) hx hb dX4_fresh_1 (by decide) ?_
  obtain ⟨c38, hrun⟩ := gd_some hrun
  refine V_putI (pc := 2) C hH hL fl_X4_43 dX4_fresh_2 c38 (fok_i _) rfl (fun q => Bool.noConfusion q) hrun (fun h39 H locs hH hL hrun => ?_)
  refine V_aload_n (pc := 5) hx hb dX4_fresh_5 rfl (lv_at hl 0 rfl) ?_
  obtain ⟨c40, hrun⟩ := gd_some hrun
  refine V_getR (pc := 6) C hH fr_X4_16 dX4_fresh_6 c40 rfl ?_
  obtain ⟨c43, hrun⟩ := gd_some hrun
  refine V_bd (pc := 9) C hL rfl hrun (fun rr1 e1 => Z_runV (rest := []) C hH (m_J2_clear hl9 e1) wV_X4_46 c43 rfl (by decide) rfl rfl ⟨by decide, by decide⟩ rfl (Nat.le_of_ble_eq_true rfl) hl.1 dX4_fresh_9) (fun _ h42 H locs cells slots hH hL hrun => ?_)
  refine V_aload_n (pc := 12) hx hb dX4_fresh_12 rfl (lv_at hl 0 rfl) ?_
  refine lv_iconst (v := (0 : Int32)) (pc := 13) hx hb dX4_fresh_13 (by decide) ?_
  obtain ⟨c44, hrun⟩ := gd_some hrun
  refine V_putI (pc := 14) C hH hL fl_X4_49 dX4_fresh_14 c44 (fok_z (Or.inl rfl)) rfl (fun q => Bool.noConfusion q) hrun (fun h45 H locs hH hL hrun => ?_)
  refine V_aload_n (pc := 17) hx hb dX4_fresh_17 rfl (lv_at hl 0 rfl) ?_
  obtain ⟨c46, hrun⟩ := gd_some hrun
  refine V_getR (pc := 18) C hH fr_X4_20 dX4_fresh_18 c46 rfl ?_
  obtain ⟨c49, hrun⟩ := gd_some hrun
  refine V_bd (pc := 21) C hL rfl hrun (fun rr1 e1 => Z_runV (rest := []) C hH (m_J2_clear hl9 e1) wV_X4_46 c49 rfl (by decide) rfl rfl ⟨by decide, by decide⟩ rfl (Nat.le_of_ble_eq_true rfl) hl.1 dX4_fresh_21) (fun _ h48 H locs cells slots hH hL hrun => ?_)
  refine V_aload_n (pc := 24) hx hb dX4_fresh_24 rfl (lv_at hl 0 rfl) ?_
  obtain ⟨c50, hrun⟩ := gd_some hrun
  refine V_getR (pc := 25) C hH fr_X4_23 dX4_fresh_25 c50 rfl ?_
  obtain ⟨c53, hrun⟩ := gd_some hrun
  refine V_bd (pc := 28) C hL rfl hrun (fun rr1 e1 => Z_runV (rest := []) C hH (m_J2_clear hl9 e1) wV_X4_46 c53 rfl (by decide) rfl rfl ⟨by decide, by decide⟩ rfl (Nat.le_of_ble_eq_true rfl) hl.1 dX4_fresh_28) (fun _ h52 H locs cells slots hH hL hrun => ?_)
  refine V_aload_n (pc := 31) hx hb dX4_fresh_31 rfl (lv_at hl 0 rfl) ?_
  refine lv_iconst (v := (0 : Int32)) (pc := 32) hx hb dX4_fresh_32 (by decide) ?_
  obtain ⟨c54, hrun⟩ := gd_some hrun
  refine V_putI (pc := 33) C hH hL fl_X4_53 dX4_fresh_33 c54 (fok_i _) rfl (fun q => Bool.noConfusion q) hrun (fun h55 H locs hH hL hrun => ?_)
  refine V_aload_n (pc := 36) hx hb dX4_fresh_36 rfl (lv_at hl 0 rfl) ?_
  refine lv_lconst (v := (0 : Int64)) (pc := 37) hx hb dX4_fresh_37 (by decide) ?_
  obtain ⟨c56, hrun⟩ := gd_some hrun
  refine V_putL (pc := 38) C hH hL fl_X4_56 dX4_fresh_38 c56 (fok_l _) rfl (fun q => Bool.noConfusion q) hrun (fun h57 H locs hH hL hrun => ?_)
  refine V_aload_n (pc := 41) hx hb dX4_fresh_41 rfl (lv_at hl 0 rfl) ?_
  refine lv_iconst (v := (0 : Int32)) (pc := 42) hx hb dX4_fresh_42 (by decide) ?_
  obtain ⟨c58, hrun⟩ := gd_some hrun
  refine V_putI (pc := 43) C hH hL fl_X4_60 dX4_fresh_43 c58 (fok_z (Or.inl rfl)) rfl (fun q => Bool.noConfusion q) hrun (fun h59 H locs hH hL hrun => ?_)
  refine lv_iconst (v := (0 : Int32)) (pc := 46) hx hb dX4_fresh_46 (by decide) ?_
  refine lv_istore_n (i := 1) (lv' := [(1, .int (0 : Int32)), (0, rv x0)]) (pc := 47) hx hb dX4_fresh_47 rfl hl (by decide) (by simp [rv_cat, cat_i, cat_l, cat_f, cat_d]) (fun ls hl => ?_)
  exact b_X4_fresh_48 C FU x0 (0 : Int32) h59 H locs cells slots ls hH hL (lv_sub hl [1, 0] rfl) hrun

theorem m_X4_fresh {l : Launch} {D : va_G} {Hs : Heap} {h : Hp} {rr : (Unit ⊕ Ex) × Hp} (hl9 : l.stackTraces = false) {x0 : Nat} (hrun : f_X4_fresh x0 h = some rr) : CM l yX4_fresh (ws_ yX4_fresh cX4_fresh 3 none) 2 23 iV [rv x0] D Hs h rr := by
  refine CM.of (lv := [(0, rv x0)]) (plainFor_of_name (by decide)) hl9 (by simp [lv_args, rv_cat, cat_i, cat_l, cat_f, cat_d]) (by simp [lg_sl, rv_cat, cat_i, cat_l, cat_f, cat_d]) ?_
  intro p e R s m args below meth c H ls C hH hl hin
  exact b_X4_fresh C x0 _ H [] _ _ ls hH (fun _ q => nomatch q) (lv_sub hl [0] rfl) hrun

/-! MassclaimModel.<init>()V -/
def f_X4_init  (x0 : Nat) (h : Hp) : Rt Unit :=
  gd (kC h x0 = 4) <| nw h 18 3 fun q2 h3 => gd (kC h3 q2 = 18) <| bd (f_J2_init q2 h3) fun _ h5 => gd (kC h5 x0 = 4) <| vl (sR h5 302 x0 q2) fun h8 => nw h8 18 3 fun q9 h10 => gd (kC h10 q9 = 18) <| bd (f_J2_init q9 h10) fun _ h12 => gd (kC h12 x0 = 4) <| vl (sR h12 307 x0 q9) fun h15 => nw h15 18 3 fun q16 h17 => gd (kC h17 q16 = 18) <| bd (f_J2_init q16 h17) fun _ h19 => gd (kC h19 x0 = 4) <| vl (sR h19 308 x0 q16) fun h22 => na h22 101 (20 : Int32) fun q23 h24 => gd (kC h24 x0 = 4) <| vl (sR h24 315 x0 q23) fun h26 => nw h26 18 3 fun q27 h28 => gd (kC h28 q27 = 18) <| bd (f_J2_init q27 h28) fun _ h30 => gd (kC h30 x0 = 4) <| vl (sR h30 320 x0 q27) fun h33 => nw h33 18 3 fun q34 h35 => gd (kC h35 q34 = 18) <| bd (f_J2_init q34 h35) fun _ h37 => gd (kC h37 x0 = 4) <| vl (sR h37 321 x0 q34) fun h40 => na h40 102 (6 : Int32) fun q41 h42 => gd (kC h42 x0 = 4) <| vl (sR h42 325 x0 q41) fun h44 => gd (kC h44 x0 = 4) <| bd (f_X4_fresh x0 h44) fun _ h46 => some (.inl (), h46)
theorem b_X4_init {rr : (Unit ⊕ Ex) × Hp}  (C : CX p l R s m args meth c D Hs cX4_init "MassclaimModel" 1 none [] 4 80) (hin : meth.name = "<init>")  : ∀ (x0 : Nat) (h : Hp) (H : Heap) (locs : List Loc) (cells slots : Nat) (ls : Array Slot), HP D Hs h H → LO Hs locs → lv_has ls 1 [(0, rv x0)] → f_X4_init x0 h = some rr → W p l e R s m args below meth c H locs cells slots (ZM D Hs iV rr below args s) (F0 m 0 ls []) := by
  obtain ⟨⟨hx, hb, hml, hown, hts⟩, -⟩ := id C
  have hl9 := C.2.1.2.2.1
  intro x0 h H locs cells slots ls hH hL hl hrun
  unfold f_X4_init at hrun
  refine V_aload_n (pc := 0) hx hb dX4_init_0 rfl (lv_at hl 0 rfl) ?_
  obtain ⟨c1, hrun⟩ := gd_some hrun
  refine V_objInit (pc := 1) C q1831 q113 q114 (hH.pos c1) dX4_init_1 (by decide) (by simp [csum, rv_cat, cat_i, cat_l, cat_f, cat_d]) hl.1 ?_
  refine V_aload_n (pc := 4) hx hb dX4_init_4 rfl (lv_at hl 0 rfl) ?_
  refine V_new (pc := 5) C hH nl_X4_13 dX4_init_5 hrun (fun q2 h3 H cells slots hH hrun => ?_)
  refine lv_dup (pc := 8) hx hb dX4_init_8 (rv_cat _) ?_
  obtain ⟨c6, hrun⟩ := gd_some hrun
  refine V_bd (pc := 9) C hL rfl hrun (fun rr1 e1 => Z_runI (rest := [rv q2, rv x0]) C hH (m_J2_init hl9 e1) wI_X4_15 (hH.pos c6) rfl ⟨by decide, by decide⟩ rfl (by simp [csum, rv_cat, cat_i, cat_l, cat_f, cat_d]) hl.1 dX4_init_9) (fun _ h5 H locs cells slots hH hL hrun => ?_)
  obtain ⟨c7, hrun⟩ := gd_some hrun
  refine V_putR (pc := 12) C hH hL fl_X4_16 dX4_init_12 c7 (fok_o _ _) rfl (fun _ => hin) hrun (fun h8 H locs hH hL hrun => ?_)
  refine V_aload_n (pc := 15) hx hb dX4_init_15 rfl (lv_at hl 0 rfl) ?_
  refine V_new (pc := 16) C hH nl_X4_13 dX4_init_16 hrun (fun q9 h10 H cells slots hH hrun => ?_)
  refine lv_dup (pc := 19) hx hb dX4_init_19 (rv_cat _) ?_
  obtain ⟨c13, hrun⟩ := gd_some hrun
  refine V_bd (pc := 20) C hL rfl hrun (fun rr1 e1 => Z_runI (rest := [rv q9, rv x0]) C hH (m_J2_init hl9 e1) wI_X4_15 (hH.pos c13) rfl ⟨by decide, by decide⟩ rfl (by simp [csum, rv_cat, cat_i, cat_l, cat_f, cat_d]) hl.1 dX4_init_20) (fun _ h12 H locs cells slots hH hL hrun => ?_)
  obtain ⟨c14, hrun⟩ := gd_some hrun
  refine V_putR (pc := 23) C hH hL fl_X4_20 dX4_init_23 c14 (fok_o _ _) rfl (fun _ => hin) hrun (fun h15 H locs hH hL hrun => ?_)
  refine V_aload_n (pc := 26) hx hb dX4_init_26 rfl (lv_at hl 0 rfl) ?_
  refine V_new (pc := 27) C hH nl_X4_13 dX4_init_27 hrun (fun q16 h17 H cells slots hH hrun => ?_)
  refine lv_dup (pc := 30) hx hb dX4_init_30 (rv_cat _) ?_
  obtain ⟨c20, hrun⟩ := gd_some hrun
  refine V_bd (pc := 31) C hL rfl hrun (fun rr1 e1 => Z_runI (rest := [rv q16, rv x0]) C hH (m_J2_init hl9 e1) wI_X4_15 (hH.pos c20) rfl ⟨by decide, by decide⟩ rfl (by simp [csum, rv_cat, cat_i, cat_l, cat_f, cat_d]) hl.1 dX4_init_31) (fun _ h19 H locs cells slots hH hL hrun => ?_)
  obtain ⟨c21, hrun⟩ := gd_some hrun
  refine V_putR (pc := 34) C hH hL fl_X4_23 dX4_init_34 c21 (fok_o _ _) rfl (fun _ => hin) hrun (fun h22 H locs hH hL hrun => ?_)
  refine V_aload_n (pc := 37) hx hb dX4_init_37 rfl (lv_at hl 0 rfl) ?_
  refine lv_bipush (v := (20 : Int32)) (pc := 38) hx hb dX4_init_38 (by decide) ?_
  refine V_newa (at_ := .int) (pc := 40) C hH (Or.inl ⟨rfl, rfl⟩) q194 dX4_init_40 hrun (fun q23 h24 H cells slots hH hrun => ?_)
  obtain ⟨c25, hrun⟩ := gd_some hrun
  refine V_putR (pc := 42) C hH hL fl_X4_26 dX4_init_42 c25 (fok_a _ _) rfl (fun _ => hin) hrun (fun h26 H locs hH hL hrun => ?_)
  refine V_aload_n (pc := 45) hx hb dX4_init_45 rfl (lv_at hl 0 rfl) ?_
  refine V_new (pc := 46) C hH nl_X4_13 dX4_init_46 hrun (fun q27 h28 H cells slots hH hrun => ?_)
  refine lv_dup (pc := 49) hx hb dX4_init_49 (rv_cat _) ?_
  obtain ⟨c31, hrun⟩ := gd_some hrun
  refine V_bd (pc := 50) C hL rfl hrun (fun rr1 e1 => Z_runI (rest := [rv q27, rv x0]) C hH (m_J2_init hl9 e1) wI_X4_15 (hH.pos c31) rfl ⟨by decide, by decide⟩ rfl (by simp [csum, rv_cat, cat_i, cat_l, cat_f, cat_d]) hl.1 dX4_init_50) (fun _ h30 H locs cells slots hH hL hrun => ?_)
  obtain ⟨c32, hrun⟩ := gd_some hrun
  refine V_putR (pc := 53) C hH hL fl_X4_30 dX4_init_53 c32 (fok_o _ _) rfl (fun _ => hin) hrun (fun h33 H locs hH hL hrun => ?_)
  refine V_aload_n (pc := 56) hx hb dX4_init_56 rfl (lv_at hl 0 rfl) ?_
  refine V_new (pc := 57) C hH nl_X4_13 dX4_init_57 hrun (fun q34 h35 H cells slots hH hrun => ?_)
  refine lv_dup (pc := 60) hx hb dX4_init_60 (rv_cat _) ?_
  obtain ⟨c38, hrun⟩ := gd_some hrun
  refine V_bd (pc := 61) C hL rfl hrun (fun rr1 e1 => Z_runI (rest := [rv q34, rv x0]) C hH (m_J2_init hl9 e1) wI_X4_15 (hH.pos c38) rfl ⟨by decide, by decide⟩ rfl (by simp [csum, rv_cat, cat_i, cat_l, cat_f, cat_d]) hl.1 dX4_init_61) (fun _ h37 H locs cells slots hH hL hrun => ?_)
  obtain ⟨c39, hrun⟩ := gd_some hrun
  refine V_putR (pc := 64) C hH hL fl_X4_33 dX4_init_64 c39 (fok_o _ _) rfl (fun _ => hin) hrun (fun h40 H locs hH hL hrun => ?_)
  refine V_aload_n (pc := 67) hx hb dX4_init_67 rfl (lv_at hl 0 rfl) ?_
  refine lv_bipush (v := (6 : Int32)) (pc := 68) hx hb dX4_init_68 (by decide) ?_
  refine V_newa (at_ := .long) (pc := 70) C hH (Or.inr ⟨rfl, rfl⟩) q195 dX4_init_70 hrun (fun q41 h42 H cells slots hH hrun => ?_)
  obtain ⟨c43, hrun⟩ := gd_some hrun
  refine V_putR (pc := 72) C hH hL fl_X4_36 dX4_init_72 c43 (fok_a _ _) rfl (fun _ => hin) hrun (fun h44 H locs hH hL hrun => ?_)
  refine V_aload_n (pc := 75) hx hb dX4_init_75 rfl (lv_at hl 0 rfl) ?_
  obtain ⟨c47, hrun⟩ := gd_some hrun
  refine V_bd (pc := 76) C hL rfl hrun (fun rr1 e1 => Z_runV (rest := []) C hH (m_X4_fresh hl9 e1) wV_X4_40 c47 rfl (by decide) rfl rfl ⟨by decide, by decide⟩ rfl (Nat.le_of_ble_eq_true rfl) hl.1 dX4_init_76) (fun _ h46 H locs cells slots hH hL hrun => ?_)
  exact V_vret (pc := 79) C hH hL hrun dX4_init_79

theorem m_X4_init {l : Launch} {D : va_G} {Hs : Heap} {h : Hp} {rr : (Unit ⊕ Ex) × Hp} (hl9 : l.stackTraces = false) {x0 : Nat} (hrun : f_X4_init x0 h = some rr) : CM l yX4_init (ws_ yX4_init cX4_init 1 none) 4 80 iV [rv x0] D Hs h rr := by
  refine CM.of (lv := [(0, rv x0)]) (plainFor_of_name (by decide)) hl9 (by simp [lv_args, rv_cat, cat_i, cat_l, cat_f, cat_d]) (by simp [lg_sl, rv_cat, cat_i, cat_l, cat_f, cat_d]) ?_
  intro p e R s m args below meth c H ls C hH hl hin
  exact b_X4_init C hin x0 _ H [] _ _ ls hH (fun _ q => nomatch q) (lv_sub hl [0] rfl) hrun

/-! Massclaim.begin()I -/
def f_X1_begin  (x0 : Nat) (h : Hp) : Rt Int32 :=
  gd (kC h x0 = 1) <| bd (f_X1_restart x0 h) fun v1 h2 => some (.inl v1, h2)
theorem b_X1_begin {rr : (Int32 ⊕ Ex) × Hp}  (C : CX p l R s m args meth c D Hs cX1_begin "Massclaim" 1 (some .int) [] 4 67)  : ∀ (x0 : Nat) (h : Hp) (H : Heap) (locs : List Loc) (cells slots : Nat) (ls : Array Slot), HP D Hs h H → LO Hs locs → lv_has ls 1 [(0, rv x0)] → f_X1_begin x0 h = some rr → W p l e R s m args below meth c H locs cells slots (ZM D Hs iI rr below args s) (F0 m 0 ls []) := by
  obtain ⟨⟨hx, hb, hml, hown, hts⟩, -⟩ := id C
  have hl9 := C.2.1.2.2.1
  intro x0 h H locs cells slots ls hH hL hl hrun
  unfold f_X1_begin at hrun
  refine V_aload_n (pc := 0) hx hb dX1_begin_0 rfl (lv_at hl 0 rfl) ?_
  obtain ⟨c3, hrun⟩ := gd_some hrun
  refine V_bd (pc := 1) C hL rfl hrun (fun rr1 e1 => Z_runV (rest := []) C hH (m_X1_restart hl9 e1) wV_X1_78 c3 rfl (by decide) rfl rfl ⟨by decide, by decide⟩ rfl (Nat.le_of_ble_eq_true rfl) hl.1 dX1_begin_1) (fun v1 h2 H locs cells slots hH hL hrun => ?_)
  exact V_iret (pc := 4) C hH hL hrun dX1_begin_4

theorem m_X1_begin {l : Launch} {D : va_G} {Hs : Heap} {h : Hp} {rr : (Int32 ⊕ Ex) × Hp} (hl9 : l.stackTraces = false) {x0 : Nat} (hrun : f_X1_begin x0 h = some rr) : CM l yX1_begin (ws_ yX1_begin cX1_begin 1 (some .int)) 4 67 iI [rv x0] D Hs h rr := by
  refine CM.of (lv := [(0, rv x0)]) (plainFor_of_name (by decide)) hl9 (by simp [lv_args, rv_cat, cat_i, cat_l, cat_f, cat_d]) (by simp [lg_sl, rv_cat, cat_i, cat_l, cat_f, cat_d]) ?_
  intro p e R s m args below meth c H ls C hH hl hin
  exact b_X1_begin C x0 _ H [] _ _ ls hH (fun _ q => nomatch q) (lv_sub hl [0] rfl) hrun

/-! MassclaimModel.begin()I -/
def f_X4_begin  (x0 : Nat) (h : Hp) : Rt Int32 :=
  gd (kC h x0 = 4) <| vl (sI h 300 x0 (0 : Int32)) fun h2 => gd (kC h2 x0 = 4) <| gd (kC h2 (kR h2 302 x0) = 18) <| bd (f_J2_size (kR h2 302 x0) h2) fun v4 h5 => gd (kC h5 x0 = 4) <| bd (f_X4_fresh x0 h5) fun _ h8 => some (.inl v4, h8)
theorem b_X4_begin {rr : (Int32 ⊕ Ex) × Hp}  (C : CX p l R s m args meth c D Hs cX4_begin "MassclaimModel" 2 (some .int) [] 3 45)  : ∀ (x0 : Nat) (h : Hp) (H : Heap) (locs : List Loc) (cells slots : Nat) (ls : Array Slot), HP D Hs h H → LO Hs locs → lv_has ls 2 [(0, rv x0)] → f_X4_begin x0 h = some rr → W p l e R s m args below meth c H locs cells slots (ZM D Hs iI rr below args s) (F0 m 0 ls []) := by
  obtain ⟨⟨hx, hb, hml, hown, hts⟩, -⟩ := id C
  have hl9 := C.2.1.2.2.1
  intro x0 h H locs cells slots ls hH hL hl hrun
  unfold f_X4_begin at hrun
  refine V_aload_n (pc := 0) hx hb dX4_begin_0 rfl (lv_at hl 0 rfl) ?_
  refine lv_iconst (v := (0 : Int32)) (pc := 1) hx hb dX4_begin_1 (by decide) ?_
  obtain ⟨c1, hrun⟩ := gd_some hrun
  refine V_putI (pc := 2) C hH hL fl_X4_1 dX4_begin_2 c1 (fok_i _) rfl (fun q => Bool.noConfusion q) hrun (fun h2 H locs hH hL hrun => ?_)
  refine V_aload_n (pc := 5) hx hb dX4_begin_5 rfl (lv_at hl 0 rfl) ?_
  obtain ⟨c3, hrun⟩ := gd_some hrun
  refine V_getR (pc := 6) C hH fr_X4_16 dX4_begin_6 c3 rfl ?_
  obtain ⟨c6, hrun⟩ := gd_some hrun
  refine V_bd (pc := 9) C hL rfl hrun (fun rr1 e1 => Z_runV (rest := []) C hH (m_J2_size hl9 e1) wV_X4_94 c6 rfl (by decide) rfl rfl ⟨by decide, by decide⟩ rfl (Nat.le_of_ble_eq_true rfl) hl.1 dX4_begin_9) (fun v4 h5 H locs cells slots hH hL hrun => ?_)
  refine lv_istore_n (i := 1) (lv' := [(1, .int v4), (0, rv x0)]) (pc := 12) hx hb dX4_begin_12 rfl hl (by decide) (by simp [rv_cat, cat_i, cat_l, cat_f, cat_d]) (fun ls hl => ?_)
  refine V_aload_n (pc := 13) hx hb dX4_begin_13 rfl (lv_at hl 1 rfl) ?_
  obtain ⟨c9, hrun⟩ := gd_some hrun
  refine V_bd (pc := 14) C hL rfl hrun (fun rr1 e1 => Z_runV (rest := []) C hH (m_X4_fresh hl9 e1) wV_X4_40 c9 rfl (by decide) rfl rfl ⟨by decide, by decide⟩ rfl (Nat.le_of_ble_eq_true rfl) hl.1 dX4_begin_14) (fun _ h8 H locs cells slots hH hL hrun => ?_)
  refine lv_iload_n (pc := 17) hx hb dX4_begin_17 rfl (lv_at hl 0 rfl) ?_
  exact V_iret (pc := 18) C hH hL hrun dX4_begin_18

theorem m_X4_begin {l : Launch} {D : va_G} {Hs : Heap} {h : Hp} {rr : (Int32 ⊕ Ex) × Hp} (hl9 : l.stackTraces = false) {x0 : Nat} (hrun : f_X4_begin x0 h = some rr) : CM l yX4_begin (ws_ yX4_begin cX4_begin 2 (some .int)) 3 45 iI [rv x0] D Hs h rr := by
  refine CM.of (lv := [(0, rv x0)]) (plainFor_of_name (by decide)) hl9 (by simp [lv_args, rv_cat, cat_i, cat_l, cat_f, cat_d]) (by simp [lg_sl, rv_cat, cat_i, cat_l, cat_f, cat_d]) ?_
  intro p e R s m args below meth c H ls C hH hl hin
  exact b_X4_begin C x0 _ H [] _ _ ls hH (fun _ q => nomatch q) (lv_sub hl [0] rfl) hrun

/-! Massclaim.isIn(JJJ)Z -/
def f_X1_isIn_18  (y0 : Int32) (h : Hp) : Rt Int32 :=
  gd (b01 y0) <| some (.inl y0, h)
def f_X1_isIn_17  (h : Hp) : Rt Int32 :=
  f_X1_isIn_18 (0 : Int32) h
def f_X1_isIn  (x0 : Int64) (x2 : Int64) (x4 : Int64) (h : Hp) : Rt Int32 :=
  if x0 < x2 then
  (f_X1_isIn_17  h)
  else
  (if x4 < x0 then
  (f_X1_isIn_17  h)
  else
  (f_X1_isIn_18 (1 : Int32) h))
theorem b_X1_isIn_18 {rr : (Int32 ⊕ Ex) × Hp}  (C : CX p l R s m args meth c D Hs cX1_isIn "Massclaim" 6 (some .boolean) [] 1 0)  : ∀ (y0 : Int32) (h : Hp) (H : Heap) (locs : List Loc) (cells slots : Nat) (ls : Array Slot), HP D Hs h H → LO Hs locs → lv_has ls 6 [] → f_X1_isIn_18 y0 h = some rr → W p l e R s m args below meth c H locs cells slots (ZM D Hs iI rr below args s) (F0 m 18 ls [.int y0]) := by
  obtain ⟨⟨hx, hb, hml, hown, hts⟩, -⟩ := id C
  have hl9 := C.2.1.2.2.1
  intro y0 h H locs cells slots ls hH hL hl hrun
  unfold f_X1_isIn_18 at hrun
  obtain ⟨c1, hrun⟩ := gd_some hrun
  exact V_zret (pc := 18) C hH hL c1 hrun dX1_isIn_18

theorem b_X1_isIn_17 {rr : (Int32 ⊕ Ex) × Hp}  (C : CX p l R s m args meth c D Hs cX1_isIn "Massclaim" 6 (some .boolean) [] 1 0)  : ∀ (h : Hp) (H : Heap) (locs : List Loc) (cells slots : Nat) (ls : Array Slot), HP D Hs h H → LO Hs locs → lv_has ls 6 [] → f_X1_isIn_17 h = some rr → W p l e R s m args below meth c H locs cells slots (ZM D Hs iI rr below args s) (F0 m 17 ls []) := by
  obtain ⟨⟨hx, hb, hml, hown, hts⟩, -⟩ := id C
  have hl9 := C.2.1.2.2.1
  intro h H locs cells slots ls hH hL hl hrun
  unfold f_X1_isIn_17 at hrun
  refine lv_iconst (v := (0 : Int32)) (pc := 17) hx hb dX1_isIn_17 (by decide) ?_
  exact b_X1_isIn_18 C (0 : Int32) h H locs cells slots ls hH hL (lv_sub hl [] rfl) hrun

theorem b_X1_isIn {rr : (Int32 ⊕ Ex) × Hp}  (C : CX p l R s m args meth c D Hs cX1_isIn "Massclaim" 6 (some .boolean) [] 1 0)  : ∀ (x0 : Int64) (x2 : Int64) (x4 : Int64) (h : Hp) (H : Heap) (locs : List Loc) (cells slots : Nat) (ls : Array Slot), HP D Hs h H → LO Hs locs → lv_has ls 6 [(0, .long x0), (2, .long x2), (4, .long x4)] → f_X1_isIn x0 x2 x4 h = some rr → W p l e R s m args below meth c H locs cells slots (ZM D Hs iI rr below args s) (F0 m 0 ls []) := by
  obtain ⟨⟨hx, hb, hml, hown, hts⟩, -⟩ := id C
  have hl9 := C.2.1.2.2.1
  intro x0 x2 x4 h H locs cells slots ls hH hL hl hrun
  unfold f_X1_isIn at hrun
  refine lv_lload_n (pc := 0) hx hb dX1_isIn_0 rfl (lv_at hl 0 rfl) ?_
  refine lv_lload_n (pc := 1) hx hb dX1_isIn_1 rfl (lv_at hl 1 rfl) ?_
  refine V_lcmp_lt (tgt := 17) (pc := 2) hx hb dX1_isIn_2 dX1_isIn_3 (by decide) (fun c_ => ?_) (fun c_ => ?_)
  · have hrun := ite_t hrun c_
    exact b_X1_isIn_17 C h H locs cells slots ls hH hL (lv_sub hl [] rfl) hrun
  · have hrun := ite_f hrun c_
    refine lv_lload_n (pc := 6) hx hb dX1_isIn_6 rfl (lv_at hl 0 rfl) ?_
    refine lv_lload (pc := 7) hx hb dX1_isIn_7 (lv_at hl 2 rfl) ?_
    refine V_lcmp_gt (tgt := 17) (pc := 9) hx hb dX1_isIn_9 dX1_isIn_10 (by decide) (fun c_ => ?_) (fun c_ => ?_)
    · have hrun := ite_t hrun c_
      exact b_X1_isIn_17 C h H locs cells slots ls hH hL (lv_sub hl [] rfl) hrun
    · have hrun := ite_f hrun c_
      refine lv_iconst (v := (1 : Int32)) (pc := 13) hx hb dX1_isIn_13 (by decide) ?_
      refine lv_goto (tgt := 18) (pc := 14) hx hb dX1_isIn_14 (by decide) ?_
      exact b_X1_isIn_18 C (1 : Int32) h H locs cells slots ls hH hL (lv_sub hl [] rfl) hrun

theorem m_X1_isIn {l : Launch} {D : va_G} {Hs : Heap} {h : Hp} {rr : (Int32 ⊕ Ex) × Hp} (hl9 : l.stackTraces = false) {x0 : Int64} {x2 : Int64} {x4 : Int64} (hrun : f_X1_isIn x0 x2 x4 h = some rr) : CM l yX1_isIn (ws_ yX1_isIn cX1_isIn 6 (some .boolean)) 1 0 iI [.long x0, .long x2, .long x4] D Hs h rr := by
  refine CM.of (lv := [(0, .long x0), (2, .long x2), (4, .long x4)]) (plainFor_of_name (by decide)) hl9 (by simp [lv_args, rv_cat, cat_i, cat_l, cat_f, cat_d]) (by simp [lg_sl, rv_cat, cat_i, cat_l, cat_f, cat_d]) ?_
  intro p e R s m args below meth c H ls C hH hl hin
  exact b_X1_isIn C x0 x2 x4 _ H [] _ _ ls hH (fun _ q => nomatch q) (lv_sub hl [0, 1, 2] rfl) hrun

/-! Massclaim.requireArgument(Z)V -/
def f_X1_requireArgument  (x0 : Int32) (h : Hp) : Rt Unit :=
  if x0 = 0 then
  (th 902 h)
  else
  (some (.inl (), h))
theorem b_X1_requireArgument {rr : (Unit ⊕ Ex) × Hp}  (C : CX p l R s m args meth c D Hs cX1_requireArgument "Massclaim" 1 none [] 6 90)  : ∀ (x0 : Int32) (h : Hp) (H : Heap) (locs : List Loc) (cells slots : Nat) (ls : Array Slot), HP D Hs h H → LO Hs locs → lv_has ls 1 [(0, .int x0)] → f_X1_requireArgument x0 h = some rr → W p l e R s m args below meth c H locs cells slots (ZM D Hs iV rr below args s) (F0 m 0 ls []) := by
  obtain ⟨⟨hx, hb, hml, hown, hts⟩, -⟩ := id C
  have hl9 := C.2.1.2.2.1
  intro x0 h H locs cells slots ls hH hL hl hrun
  unfold f_X1_requireArgument at hrun
  refine lv_iload_n (pc := 0) hx hb dX1_requireArgument_0 rfl (lv_at hl 0 rfl) ?_
  refine lv_if_ne (tgt := 12) (pc := 1) hx hb dX1_requireArgument_1 (by decide) (fun c_ => ?_) (fun c_ => ?_)
  · have hrun := ite_f hrun c_
    exact V_vret (pc := 12) C hH hL hrun dX1_requireArgument_12
  · have hrun := ite_t hrun c_
    exact V_throw0 (pc := 4) C hH hL nt_X1_7 hrun rfl dX1_requireArgument_4 dX1_requireArgument_7 dX1_requireArgument_8 dX1_requireArgument_11 (by decide) (by simp [csum, rv_cat, cat_i, cat_l, cat_f, cat_d]) hl.1

theorem m_X1_requireArgument {l : Launch} {D : va_G} {Hs : Heap} {h : Hp} {rr : (Unit ⊕ Ex) × Hp} (hl9 : l.stackTraces = false) {x0 : Int32} (hrun : f_X1_requireArgument x0 h = some rr) : CM l yX1_requireArgument (ws_ yX1_requireArgument cX1_requireArgument 1 none) 6 90 iV [.int x0] D Hs h rr := by
  refine CM.of (lv := [(0, .int x0)]) (plainFor_of_name (by decide)) hl9 (by simp [lv_args, rv_cat, cat_i, cat_l, cat_f, cat_d]) (by simp [lg_sl, rv_cat, cat_i, cat_l, cat_f, cat_d]) ?_
  intro p e R s m args below meth c H ls C hH hl hin
  exact b_X1_requireArgument C x0 _ H [] _ _ ls hH (fun _ q => nomatch q) (lv_sub hl [0] rfl) hrun

/-! Massclaim$Row.size()I -/
def f_X2_size  (x0 : Nat) (h : Hp) : Rt Int32 :=
  gd (kC h x0 = 2) <| gd (kC h (kR h 100 x0) = 18) <| bd (f_J2_size (kR h 100 x0) h) fun v2 h3 => some (.inl v2, h3)
theorem b_X2_size {rr : (Int32 ⊕ Ex) × Hp}  (C : CX p l R s m args meth c D Hs cX2_size "Massclaim$Row" 1 (some .int) [] 2 20)  : ∀ (x0 : Nat) (h : Hp) (H : Heap) (locs : List Loc) (cells slots : Nat) (ls : Array Slot), HP D Hs h H → LO Hs locs → lv_has ls 1 [(0, rv x0)] → f_X2_size x0 h = some rr → W p l e R s m args below meth c H locs cells slots (ZM D Hs iI rr below args s) (F0 m 0 ls []) := by
  obtain ⟨⟨hx, hb, hml, hown, hts⟩, -⟩ := id C
  have hl9 := C.2.1.2.2.1
  intro x0 h H locs cells slots ls hH hL hl hrun
  unfold f_X2_size at hrun
  refine V_aload_n (pc := 0) hx hb dX2_size_0 rfl (lv_at hl 0 rfl) ?_
  obtain ⟨c1, hrun⟩ := gd_some hrun
  refine V_getR (pc := 1) C hH fr_X2_10 dX2_size_1 c1 rfl ?_
  obtain ⟨c4, hrun⟩ := gd_some hrun
  refine V_bd5 (pc := 4) C hL rfl hrun (fun rr1 e1 => Z_runF (rest := []) C hH (m_J2_size hl9 e1) rfl wF_X2_20_J2 c4 (by decide) rfl ⟨by decide, by decide⟩ rfl (Nat.le_of_ble_eq_true rfl) hl.1 dX2_size_4) (fun v2 h3 H locs cells slots hH hL hrun => ?_)
  exact V_iret (pc := 9) C hH hL hrun dX2_size_9

theorem m_X2_size {l : Launch} {D : va_G} {Hs : Heap} {h : Hp} {rr : (Int32 ⊕ Ex) × Hp} (hl9 : l.stackTraces = false) {x0 : Nat} (hrun : f_X2_size x0 h = some rr) : CM l yX2_size (ws_ yX2_size cX2_size 1 (some .int)) 2 20 iI [rv x0] D Hs h rr := by
  refine CM.of (lv := [(0, rv x0)]) (plainFor_of_name (by decide)) hl9 (by simp [lv_args, rv_cat, cat_i, cat_l, cat_f, cat_d]) (by simp [lg_sl, rv_cat, cat_i, cat_l, cat_f, cat_d]) ?_
  intro p e R s m args below meth c H ls C hH hl hin
  exact b_X2_size C x0 _ H [] _ _ ls hH (fun _ q => nomatch q) (lv_sub hl [0] rfl) hrun

/-! Massclaim.requireIndex(Z)V -/
def f_X1_requireIndex  (x0 : Int32) (h : Hp) : Rt Unit :=
  if x0 = 0 then
  (th 901 h)
  else
  (some (.inl (), h))
theorem b_X1_requireIndex {rr : (Unit ⊕ Ex) × Hp}  (C : CX p l R s m args meth c D Hs cX1_requireIndex "Massclaim" 1 none [] 6 90)  : ∀ (x0 : Int32) (h : Hp) (H : Heap) (locs : List Loc) (cells slots : Nat) (ls : Array Slot), HP D Hs h H → LO Hs locs → lv_has ls 1 [(0, .int x0)] → f_X1_requireIndex x0 h = some rr → W p l e R s m args below meth c H locs cells slots (ZM D Hs iV rr below args s) (F0 m 0 ls []) := by
  obtain ⟨⟨hx, hb, hml, hown, hts⟩, -⟩ := id C
  have hl9 := C.2.1.2.2.1
  intro x0 h H locs cells slots ls hH hL hl hrun
  unfold f_X1_requireIndex at hrun
  refine lv_iload_n (pc := 0) hx hb dX1_requireIndex_0 rfl (lv_at hl 0 rfl) ?_
  refine lv_if_ne (tgt := 12) (pc := 1) hx hb dX1_requireIndex_1 (by decide) (fun c_ => ?_) (fun c_ => ?_)
  · have hrun := ite_f hrun c_
    exact V_vret (pc := 12) C hH hL hrun dX1_requireIndex_12
  · have hrun := ite_t hrun c_
    exact V_throw0 (pc := 4) C hH hL nt_X1_1 hrun rfl dX1_requireIndex_4 dX1_requireIndex_7 dX1_requireIndex_8 dX1_requireIndex_11 (by decide) (by simp [csum, rv_cat, cat_i, cat_l, cat_f, cat_d]) hl.1

theorem m_X1_requireIndex {l : Launch} {D : va_G} {Hs : Heap} {h : Hp} {rr : (Unit ⊕ Ex) × Hp} (hl9 : l.stackTraces = false) {x0 : Int32} (hrun : f_X1_requireIndex x0 h = some rr) : CM l yX1_requireIndex (ws_ yX1_requireIndex cX1_requireIndex 1 none) 6 90 iV [.int x0] D Hs h rr := by
  refine CM.of (lv := [(0, .int x0)]) (plainFor_of_name (by decide)) hl9 (by simp [lv_args, rv_cat, cat_i, cat_l, cat_f, cat_d]) (by simp [lg_sl, rv_cat, cat_i, cat_l, cat_f, cat_d]) ?_
  intro p e R s m args below meth c H ls C hH hl hin
  exact b_X1_requireIndex C x0 _ H [] _ _ ls hH (fun _ q => nomatch q) (lv_sub hl [0] rfl) hrun

/-! jdk/internal/util/Preconditions.checkIndex(IILjava/util/function/BiFunction;)I -/
def f_J9_checkIndex_9  (x0 : Int32) (x1 : Int32) (x2 : Nat) (h : Hp) : Rt Int32 :=
  none
def f_J9_checkIndex  (x0 : Int32) (x1 : Int32) (x2 : Nat) (h : Hp) : Rt Int32 :=
  if x0 < 0 then
  (f_J9_checkIndex_9 x0 x1 x2 h)
  else
  (if x0 < x1 then
  (some (.inl x0, h))
  else
  (f_J9_checkIndex_9 x0 x1 x2 h))
theorem b_J9_checkIndex_9 {rr : (Int32 ⊕ Ex) × Hp}  (C : CX p l R s m args meth c D Hs cJ9_checkIndex "jdk/internal/util/Preconditions" 3 (some .int) [] 1 0)  : ∀ (x0 : Int32) (x1 : Int32) (x2 : Nat) (h : Hp) (H : Heap) (locs : List Loc) (cells slots : Nat) (ls : Array Slot), HP D Hs h H → LO Hs locs → lv_has ls 3 [(0, .int x0), (1, .int x1), (2, rv x2)] → f_J9_checkIndex_9 x0 x1 x2 h = some rr → W p l e R s m args below meth c H locs cells slots (ZM D Hs iI rr below args s) (F0 m 9 ls []) := by
  obtain ⟨⟨hx, hb, hml, hown, hts⟩, -⟩ := id C
  have hl9 := C.2.1.2.2.1
  intro x0 x1 x2 h H locs cells slots ls hH hL hl hrun
  unfold f_J9_checkIndex_9 at hrun
  refine V_aload_n (pc := 9) hx hb dJ9_checkIndex_9 rfl (lv_at hl 2 rfl) ?_
  refine lv_iload_n (pc := 10) hx hb dJ9_checkIndex_10 rfl (lv_at hl 0 rfl) ?_
  refine lv_iload_n (pc := 11) hx hb dJ9_checkIndex_11 rfl (lv_at hl 1 rfl) ?_
  cases hrun

theorem b_J9_checkIndex {rr : (Int32 ⊕ Ex) × Hp}  (C : CX p l R s m args meth c D Hs cJ9_checkIndex "jdk/internal/util/Preconditions" 3 (some .int) [] 1 0)  : ∀ (x0 : Int32) (x1 : Int32) (x2 : Nat) (h : Hp) (H : Heap) (locs : List Loc) (cells slots : Nat) (ls : Array Slot), HP D Hs h H → LO Hs locs → lv_has ls 3 [(0, .int x0), (1, .int x1), (2, rv x2)] → f_J9_checkIndex x0 x1 x2 h = some rr → W p l e R s m args below meth c H locs cells slots (ZM D Hs iI rr below args s) (F0 m 0 ls []) := by
  obtain ⟨⟨hx, hb, hml, hown, hts⟩, -⟩ := id C
  have hl9 := C.2.1.2.2.1
  intro x0 x1 x2 h H locs cells slots ls hH hL hl hrun
  unfold f_J9_checkIndex at hrun
  refine lv_iload_n (pc := 0) hx hb dJ9_checkIndex_0 rfl (lv_at hl 0 rfl) ?_
  refine lv_if_lt (tgt := 9) (pc := 1) hx hb dJ9_checkIndex_1 (by decide) (fun c_ => ?_) (fun c_ => ?_)
  · have hrun := ite_t hrun c_
    exact b_J9_checkIndex_9 C x0 x1 x2 h H locs cells slots ls hH hL (lv_sub hl [0, 1, 2] rfl) hrun
  · have hrun := ite_f hrun c_
    refine lv_iload_n (pc := 4) hx hb dJ9_checkIndex_4 rfl (lv_at hl 0 rfl) ?_
    refine lv_iload_n (pc := 5) hx hb dJ9_checkIndex_5 rfl (lv_at hl 1 rfl) ?_
    refine lv_icmp_lt (tgt := 16) (pc := 6) hx hb dJ9_checkIndex_6 (by decide) (fun c_ => ?_) (fun c_ => ?_)
    · have hrun := ite_t hrun c_
      refine lv_iload_n (pc := 16) hx hb dJ9_checkIndex_16 rfl (lv_at hl 0 rfl) ?_
      exact V_iret (pc := 17) C hH hL hrun dJ9_checkIndex_17
    · have hrun := ite_f hrun c_
      exact b_J9_checkIndex_9 C x0 x1 x2 h H locs cells slots ls hH hL (lv_sub hl [0, 1, 2] rfl) hrun

theorem m_J9_checkIndex {l : Launch} {D : va_G} {Hs : Heap} {h : Hp} {rr : (Int32 ⊕ Ex) × Hp} (hl9 : l.stackTraces = false) {x0 : Int32} {x1 : Int32} {x2 : Nat} (hrun : f_J9_checkIndex x0 x1 x2 h = some rr) : CM l yJ9_checkIndex (ws_ yJ9_checkIndex cJ9_checkIndex 3 (some .int)) 1 0 iI [.int x0, .int x1, rv x2] D Hs h rr := by
  refine CM.of (lv := [(0, .int x0), (1, .int x1), (2, rv x2)]) (by decide +kernel) hl9 (by simp [lv_args, rv_cat, cat_i, cat_l, cat_f, cat_d]) (by simp [lg_sl, rv_cat, cat_i, cat_l, cat_f, cat_d]) ?_
  intro p e R s m args below meth c H ls C hH hl hin
  exact b_J9_checkIndex C x0 x1 x2 _ H [] _ _ ls hH (fun _ q => nomatch q) (lv_sub hl [0, 1, 2] rfl) hrun

/-! java/util/Objects.checkIndex(II)I -/
def f_J8_checkIndex  (x0 : Int32) (x1 : Int32) (h : Hp) : Rt Int32 :=
  bd (f_J9_checkIndex x0 x1 0 h) fun v1 h2 => some (.inl v1, h2)
theorem b_J8_checkIndex {rr : (Int32 ⊕ Ex) × Hp}  (C : CX p l R s m args meth c D Hs cJ8_checkIndex "java/util/Objects" 2 (some .int) [] 2 22)  : ∀ (x0 : Int32) (x1 : Int32) (h : Hp) (H : Heap) (locs : List Loc) (cells slots : Nat) (ls : Array Slot), HP D Hs h H → LO Hs locs → lv_has ls 2 [(0, .int x0), (1, .int x1)] → f_J8_checkIndex x0 x1 h = some rr → W p l e R s m args below meth c H locs cells slots (ZM D Hs iI rr below args s) (F0 m 0 ls []) := by
  obtain ⟨⟨hx, hb, hml, hown, hts⟩, -⟩ := id C
  have hl9 := C.2.1.2.2.1
  intro x0 x1 h H locs cells slots ls hH hL hl hrun
  unfold f_J8_checkIndex at hrun
  refine lv_iload_n (pc := 0) hx hb dJ8_checkIndex_0 rfl (lv_at hl 0 rfl) ?_
  refine lv_iload_n (pc := 1) hx hb dJ8_checkIndex_1 rfl (lv_at hl 1 rfl) ?_
  refine V_null (pc := 2) hx hb dJ8_checkIndex_2 ?_
  refine V_bd (pc := 3) C hL rfl hrun (fun rr1 e1 => Z_runS (rest := []) C hH (m_J9_checkIndex hl9 e1) wS_J8_105 rfl ⟨by decide, by decide⟩ rfl (Nat.le_of_ble_eq_true rfl) hl.1 dJ8_checkIndex_3) (fun v1 h2 H locs cells slots hH hL hrun => ?_)
  exact V_iret (pc := 6) C hH hL hrun dJ8_checkIndex_6

theorem m_J8_checkIndex {l : Launch} {D : va_G} {Hs : Heap} {h : Hp} {rr : (Int32 ⊕ Ex) × Hp} (hl9 : l.stackTraces = false) {x0 : Int32} {x1 : Int32} (hrun : f_J8_checkIndex x0 x1 h = some rr) : CM l yJ8_checkIndex (ws_ yJ8_checkIndex cJ8_checkIndex 2 (some .int)) 2 22 iI [.int x0, .int x1] D Hs h rr := by
  refine CM.of (lv := [(0, .int x0), (1, .int x1)]) (by decide +kernel) hl9 (by simp [lv_args, rv_cat, cat_i, cat_l, cat_f, cat_d]) (by simp [lg_sl, rv_cat, cat_i, cat_l, cat_f, cat_d]) ?_
  intro p e R s m args below meth c H ls C hH hl hin
  exact b_J8_checkIndex C x0 x1 _ H [] _ _ ls hH (fun _ q => nomatch q) (lv_sub hl [0, 1] rfl) hrun

/-! java/util/ArrayList.elementData(I)Ljava/lang/Object; -/
def f_J2_elementData  (x0 : Nat) (x1 : Int32) (h : Hp) : Rt Nat :=
  gd (kC h x0 = 18) <| gd (kC h (kR h 1701 x0) = 103 ∧ ixo x1 (kN h (kR h 1701 x0))) <| some (.inl (jR h (kR h 1701 x0) (x1).toNatClampNeg), h)
theorem b_J2_elementData {rr : (Nat ⊕ Ex) × Hp}  (C : CX p l R s m args meth c D Hs cJ2_elementData "java/util/ArrayList" 2 (some (.object "java/lang/Object")) [] 1 0)  : ∀ (x0 : Nat) (x1 : Int32) (h : Hp) (H : Heap) (locs : List Loc) (cells slots : Nat) (ls : Array Slot), HP D Hs h H → LO Hs locs → lv_has ls 2 [(0, rv x0), (1, .int x1)] → f_J2_elementData x0 x1 h = some rr → W p l e R s m args below meth c H locs cells slots (ZM D Hs iR rr below args s) (F0 m 0 ls []) := by
  obtain ⟨⟨hx, hb, hml, hown, hts⟩, -⟩ := id C
  have hl9 := C.2.1.2.2.1
  intro x0 x1 h H locs cells slots ls hH hL hl hrun
  unfold f_J2_elementData at hrun
  refine V_aload_n (pc := 0) hx hb dJ2_elementData_0 rfl (lv_at hl 0 rfl) ?_
  obtain ⟨c1, hrun⟩ := gd_some hrun
  refine V_getR (pc := 1) C hH fr_J2_9 dJ2_elementData_1 c1 rfl ?_
  refine lv_iload_n (pc := 4) hx hb dJ2_elementData_4 rfl (lv_at hl 1 rfl) ?_
  obtain ⟨c2, hrun⟩ := gd_some hrun
  refine V_aald (pc := 5) C hH dJ2_elementData_5 c2 ?_
  exact V_aret (pc := 6) C (Or.inl ⟨_, rfl⟩) hH hL hrun dJ2_elementData_6

theorem m_J2_elementData {l : Launch} {D : va_G} {Hs : Heap} {h : Hp} {rr : (Nat ⊕ Ex) × Hp} (hl9 : l.stackTraces = false) {x0 : Nat} {x1 : Int32} (hrun : f_J2_elementData x0 x1 h = some rr) : CM l yJ2_elementData (ws_ yJ2_elementData cJ2_elementData 2 (some (.object "java/lang/Object"))) 1 0 iR [rv x0, .int x1] D Hs h rr := by
  refine CM.of (lv := [(0, rv x0), (1, .int x1)]) (by decide +kernel) hl9 (by simp [lv_args, rv_cat, cat_i, cat_l, cat_f, cat_d]) (by simp [lg_sl, rv_cat, cat_i, cat_l, cat_f, cat_d]) ?_
  intro p e R s m args below meth c H ls C hH hl hin
  exact b_J2_elementData C x0 x1 _ H [] _ _ ls hH (fun _ q => nomatch q) (lv_sub hl [0, 1] rfl) hrun

/-! java/util/ArrayList.get(I)Ljava/lang/Object; -/
def f_J2_get  (x0 : Nat) (x1 : Int32) (h : Hp) : Rt Nat :=
  gd (kC h x0 = 18) <| bd (f_J8_checkIndex x1 (kI h 1702 x0) h) fun v2 h3 => gd (kC h3 x0 = 18) <| bd (f_J2_elementData x0 x1 h3) fun v4 h5 => some (.inl v4, h5)
theorem b_J2_get {rr : (Nat ⊕ Ex) × Hp}  (C : CX p l R s m args meth c D Hs cJ2_get "java/util/ArrayList" 2 (some (.object "java/lang/Object")) [] 3 43)  : ∀ (x0 : Nat) (x1 : Int32) (h : Hp) (H : Heap) (locs : List Loc) (cells slots : Nat) (ls : Array Slot), HP D Hs h H → LO Hs locs → lv_has ls 2 [(0, rv x0), (1, .int x1)] → f_J2_get x0 x1 h = some rr → W p l e R s m args below meth c H locs cells slots (ZM D Hs iR rr below args s) (F0 m 0 ls []) := by
  obtain ⟨⟨hx, hb, hml, hown, hts⟩, -⟩ := id C
  have hl9 := C.2.1.2.2.1
  intro x0 x1 h H locs cells slots ls hH hL hl hrun
  unfold f_J2_get at hrun
  refine lv_iload_n (pc := 0) hx hb dJ2_get_0 rfl (lv_at hl 1 rfl) ?_
  refine V_aload_n (pc := 1) hx hb dJ2_get_1 rfl (lv_at hl 0 rfl) ?_
  obtain ⟨c1, hrun⟩ := gd_some hrun
  refine V_getI (pc := 2) C hH fr_J2_48 dJ2_get_2 c1 rfl ?_
  refine V_bd (pc := 5) C hL rfl hrun (fun rr1 e1 => Z_runS (rest := []) C hH (m_J8_checkIndex hl9 e1) wS_J2_118 rfl ⟨by decide, by decide⟩ rfl (Nat.le_of_ble_eq_true rfl) hl.1 dJ2_get_5) (fun v2 h3 H locs cells slots hH hL hrun => ?_)
  refine lv_pop (pc := 8) hx hb dJ2_get_8 rfl ?_
  refine V_aload_n (pc := 9) hx hb dJ2_get_9 rfl (lv_at hl 0 rfl) ?_
  refine lv_iload_n (pc := 10) hx hb dJ2_get_10 rfl (lv_at hl 1 rfl) ?_
  obtain ⟨c6, hrun⟩ := gd_some hrun
  refine V_bd (pc := 11) C hL rfl hrun (fun rr1 e1 => Z_runV (rest := []) C hH (m_J2_elementData hl9 e1) wV_J2_123 c6 rfl (by decide) rfl rfl ⟨by decide, by decide⟩ rfl (Nat.le_of_ble_eq_true rfl) hl.1 dJ2_get_11) (fun v4 h5 H locs cells slots hH hL hrun => ?_)
  exact V_aret (pc := 14) C (Or.inl ⟨_, rfl⟩) hH hL hrun dJ2_get_14

theorem m_J2_get {l : Launch} {D : va_G} {Hs : Heap} {h : Hp} {rr : (Nat ⊕ Ex) × Hp} (hl9 : l.stackTraces = false) {x0 : Nat} {x1 : Int32} (hrun : f_J2_get x0 x1 h = some rr) : CM l yJ2_get (ws_ yJ2_get cJ2_get 2 (some (.object "java/lang/Object"))) 3 43 iR [rv x0, .int x1] D Hs h rr := by
  refine CM.of (lv := [(0, rv x0), (1, .int x1)]) (by decide +kernel) hl9 (by simp [lv_args, rv_cat, cat_i, cat_l, cat_f, cat_d]) (by simp [lg_sl, rv_cat, cat_i, cat_l, cat_f, cat_d]) ?_
  intro p e R s m args below meth c H ls C hH hl hin
  exact b_J2_get C x0 x1 _ H [] _ _ ls hH (fun _ q => nomatch q) (lv_sub hl [0, 1] rfl) hrun

/-! Massclaim$Row.at(I)LMassclaim$Numbered; -/
def f_X2_at  (x0 : Nat) (x1 : Int32) (h : Hp) : Rt Nat :=
  gd (kC h x0 = 2) <| gd (kC h (kR h 100 x0) = 18) <| bd (f_J2_size (kR h 100 x0) h) fun v2 h3 => bd (f_X1_isIn (x1.toInt64) (0 : Int64) ((v2 - (1 : Int32)).toInt64) h3) fun v5 h6 => bd (f_X1_requireIndex v5 h6) fun _ h8 => gd (kC h8 x0 = 2) <| gd (kC h8 (kR h8 100 x0) = 18) <| bd (f_J2_get (kR h8 100 x0) x1 h8) fun v10 h11 => gd (isN (kC h11 v10)) <| some (.inl v10, h11)
theorem b_X2_at {rr : (Nat ⊕ Ex) × Hp}  (C : CX p l R s m args meth c D Hs cX2_at "Massclaim$Row" 2 (some (.object "Massclaim$Numbered")) [] 7 110)  : ∀ (x0 : Nat) (x1 : Int32) (h : Hp) (H : Heap) (locs : List Loc) (cells slots : Nat) (ls : Array Slot), HP D Hs h H → LO Hs locs → lv_has ls 2 [(0, rv x0), (1, .int x1)] → f_X2_at x0 x1 h = some rr → W p l e R s m args below meth c H locs cells slots (ZM D Hs iR rr below args s) (F0 m 0 ls []) := by
  obtain ⟨⟨hx, hb, hml, hown, hts⟩, -⟩ := id C
  have hl9 := C.2.1.2.2.1
  intro x0 x1 h H locs cells slots ls hH hL hl hrun
  unfold f_X2_at at hrun
  refine lv_iload_n (pc := 0) hx hb dX2_at_0 rfl (lv_at hl 1 rfl) ?_
  refine lv_i2l (pc := 1) hx hb dX2_at_1 rfl ?_
  refine lv_lconst (v := (0 : Int64)) (pc := 2) hx hb dX2_at_2 (by decide) ?_
  refine V_aload_n (pc := 3) hx hb dX2_at_3 rfl (lv_at hl 0 rfl) ?_
  obtain ⟨c1, hrun⟩ := gd_some hrun
  refine V_getR (pc := 4) C hH fr_X2_10 dX2_at_4 c1 rfl ?_
  obtain ⟨c4, hrun⟩ := gd_some hrun
  refine V_bd5 (pc := 7) C hL rfl hrun (fun rr1 e1 => Z_runF (rest := [.long (0 : Int64), .long (x1.toInt64)]) C hH (m_J2_size hl9 e1) rfl wF_X2_20_J2 c4 (by decide) rfl ⟨by decide, by decide⟩ rfl (Nat.le_of_ble_eq_true rfl) hl.1 dX2_at_7) (fun v2 h3 H locs cells slots hH hL hrun => ?_)
  refine lv_iconst (v := (1 : Int32)) (pc := 12) hx hb dX2_at_12 (by decide) ?_
  refine lv_isub (pc := 13) hx hb dX2_at_13 ?_
  refine lv_i2l (pc := 14) hx hb dX2_at_14 rfl ?_
  refine V_bd (pc := 15) C hL rfl hrun (fun rr1 e1 => Z_runSN (rest := []) C hH (m_X1_isIn hl9 e1) wSN_X2_26 rfl ⟨by decide, by decide⟩ rfl (Nat.le_of_ble_eq_true rfl) hl.1 dX2_at_15) (fun v5 h6 H locs cells slots hH hL hrun => ?_)
  refine V_bd (pc := 18) C hL rfl hrun (fun rr1 e1 => Z_runSN (rest := []) C hH (m_X1_requireIndex hl9 e1) wSN_X2_32 rfl ⟨by decide, by decide⟩ rfl (Nat.le_of_ble_eq_true rfl) hl.1 dX2_at_18) (fun _ h8 H locs cells slots hH hL hrun => ?_)
  refine V_aload_n (pc := 21) hx hb dX2_at_21 rfl (lv_at hl 0 rfl) ?_
  obtain ⟨c9, hrun⟩ := gd_some hrun
  refine V_getR (pc := 22) C hH fr_X2_10 dX2_at_22 c9 rfl ?_
  refine lv_iload_n (pc := 25) hx hb dX2_at_25 rfl (lv_at hl 1 rfl) ?_
  obtain ⟨c12, hrun⟩ := gd_some hrun
  refine V_bd5 (pc := 26) C hL rfl hrun (fun rr1 e1 => Z_runF (rest := []) C hH (m_J2_get hl9 e1) rfl wF_X2_36_J2 c12 (by decide) rfl ⟨by decide, by decide⟩ rfl (Nat.le_of_ble_eq_true rfl) hl.1 dX2_at_26) (fun v10 h11 H locs cells slots hH hL hrun => ?_)
  obtain ⟨c13, hrun⟩ := gd_some hrun
  refine V_castNum (pc := 31) C hH q552 dX2_at_31 c13 ?_
  exact V_aret (pc := 34) C (Or.inl ⟨_, rfl⟩) hH hL hrun dX2_at_34

theorem m_X2_at {l : Launch} {D : va_G} {Hs : Heap} {h : Hp} {rr : (Nat ⊕ Ex) × Hp} (hl9 : l.stackTraces = false) {x0 : Nat} {x1 : Int32} (hrun : f_X2_at x0 x1 h = some rr) : CM l yX2_at (ws_ yX2_at cX2_at 2 (some (.object "Massclaim$Numbered"))) 7 110 iR [rv x0, .int x1] D Hs h rr := by
  refine CM.of (lv := [(0, rv x0), (1, .int x1)]) (plainFor_of_name (by decide)) hl9 (by simp [lv_args, rv_cat, cat_i, cat_l, cat_f, cat_d]) (by simp [lg_sl, rv_cat, cat_i, cat_l, cat_f, cat_d]) ?_
  intro p e R s m args below meth c H ls C hH hl hin
  exact b_X2_at C x0 x1 _ H [] _ _ ls hH (fun _ q => nomatch q) (lv_sub hl [0, 1] rfl) hrun

/-! Massclaim$Person.fits()Z -/
def f_X5_fits_55  (y0 : Int32) (h : Hp) : Rt Int32 :=
  gd (b01 y0) <| some (.inl y0, h)
def f_X5_fits_54  (h : Hp) : Rt Int32 :=
  f_X5_fits_55 (0 : Int32) h
def f_X5_fits  (x0 : Nat) (h : Hp) : Rt Int32 :=
  gd (kC h x0 = 5) <| gd (kC h (kR h 421 x0) = 1) <| if (((kI h 10 (kR h 421 x0)) >>> ((kI h 403 x0) &&& 31)) &&& (1 : Int32)) = (1 : Int32) then
  (if (((kI h 11 (kR h 421 x0)) >>> ((kI h 402 x0) &&& 31)) &&& (1 : Int32)) = (1 : Int32) then
  (if (kI h 404 x0) < (kI h 12 (kR h 421 x0)) then
  (f_X5_fits_54  h)
  else
  (f_X5_fits_55 (1 : Int32) h))
  else
  (f_X5_fits_54  h))
  else
  (f_X5_fits_54  h)
theorem b_X5_fits_55 {rr : (Int32 ⊕ Ex) × Hp}  (C : CX p l R s m args meth c D Hs cX5_fits "Massclaim$Person" 1 (some .boolean) [] 1 0)  : ∀ (y0 : Int32) (h : Hp) (H : Heap) (locs : List Loc) (cells slots : Nat) (ls : Array Slot), HP D Hs h H → LO Hs locs → lv_has ls 1 [] → f_X5_fits_55 y0 h = some rr → W p l e R s m args below meth c H locs cells slots (ZM D Hs iI rr below args s) (F0 m 55 ls [.int y0]) := by
  obtain ⟨⟨hx, hb, hml, hown, hts⟩, -⟩ := id C
  have hl9 := C.2.1.2.2.1
  intro y0 h H locs cells slots ls hH hL hl hrun
  unfold f_X5_fits_55 at hrun
  obtain ⟨c1, hrun⟩ := gd_some hrun
  exact V_zret (pc := 55) C hH hL c1 hrun dX5_fits_55

theorem b_X5_fits_54 {rr : (Int32 ⊕ Ex) × Hp}  (C : CX p l R s m args meth c D Hs cX5_fits "Massclaim$Person" 1 (some .boolean) [] 1 0)  : ∀ (h : Hp) (H : Heap) (locs : List Loc) (cells slots : Nat) (ls : Array Slot), HP D Hs h H → LO Hs locs → lv_has ls 1 [] → f_X5_fits_54 h = some rr → W p l e R s m args below meth c H locs cells slots (ZM D Hs iI rr below args s) (F0 m 54 ls []) := by
  obtain ⟨⟨hx, hb, hml, hown, hts⟩, -⟩ := id C
  have hl9 := C.2.1.2.2.1
  intro h H locs cells slots ls hH hL hl hrun
  unfold f_X5_fits_54 at hrun
  refine lv_iconst (v := (0 : Int32)) (pc := 54) hx hb dX5_fits_54 (by decide) ?_
  exact b_X5_fits_55 C (0 : Int32) h H locs cells slots ls hH hL (lv_sub hl [] rfl) hrun

theorem b_X5_fits {rr : (Int32 ⊕ Ex) × Hp}  (C : CX p l R s m args meth c D Hs cX5_fits "Massclaim$Person" 1 (some .boolean) [] 1 0)  : ∀ (x0 : Nat) (h : Hp) (H : Heap) (locs : List Loc) (cells slots : Nat) (ls : Array Slot), HP D Hs h H → LO Hs locs → lv_has ls 1 [(0, rv x0)] → f_X5_fits x0 h = some rr → W p l e R s m args below meth c H locs cells slots (ZM D Hs iI rr below args s) (F0 m 0 ls []) := by
  obtain ⟨⟨hx, hb, hml, hown, hts⟩, -⟩ := id C
  have hl9 := C.2.1.2.2.1
  intro x0 h H locs cells slots ls hH hL hl hrun
  unfold f_X5_fits at hrun
  refine V_aload_n (pc := 0) hx hb dX5_fits_0 rfl (lv_at hl 0 rfl) ?_
  obtain ⟨c2, hrun⟩ := gd_some hrun
  refine V_getR (pc := 1) C hH fr_X5_3 dX5_fits_1 c2 rfl ?_
  obtain ⟨c3, hrun⟩ := gd_some hrun
  refine V_getNI (pc := 4) C hH fn_X5_55 dX5_fits_4 c3 rfl ?_
  refine V_aload_n (pc := 7) hx hb dX5_fits_7 rfl (lv_at hl 0 rfl) ?_
  refine V_getI (pc := 8) C hH fr_X5_45 dX5_fits_8 c2 rfl ?_
  refine lv_ishr (pc := 11) hx hb dX5_fits_11 ?_
  refine lv_iconst (v := (1 : Int32)) (pc := 12) hx hb dX5_fits_12 (by decide) ?_
  refine lv_iand (pc := 13) hx hb dX5_fits_13 ?_
  refine lv_iconst (v := (1 : Int32)) (pc := 14) hx hb dX5_fits_14 (by decide) ?_
  refine lv_icmp_ne (tgt := 54) (pc := 15) hx hb dX5_fits_15 (by decide) (fun c_ => ?_) (fun c_ => ?_)
  · have hrun := ite_f hrun c_
    exact b_X5_fits_54 C h H locs cells slots ls hH hL (lv_sub hl [] rfl) hrun
  · have hrun := ite_t hrun c_
    refine V_aload_n (pc := 18) hx hb dX5_fits_18 rfl (lv_at hl 0 rfl) ?_
    refine V_getR (pc := 19) C hH fr_X5_3 dX5_fits_19 c2 rfl ?_
    refine V_getNI (pc := 22) C hH fn_X5_58 dX5_fits_22 c3 rfl ?_
    refine V_aload_n (pc := 25) hx hb dX5_fits_25 rfl (lv_at hl 0 rfl) ?_
    refine V_getI (pc := 26) C hH fr_X5_42 dX5_fits_26 c2 rfl ?_
    refine lv_ishr (pc := 29) hx hb dX5_fits_29 ?_
    refine lv_iconst (v := (1 : Int32)) (pc := 30) hx hb dX5_fits_30 (by decide) ?_
    refine lv_iand (pc := 31) hx hb dX5_fits_31 ?_
    refine lv_iconst (v := (1 : Int32)) (pc := 32) hx hb dX5_fits_32 (by decide) ?_
    refine lv_icmp_ne (tgt := 54) (pc := 33) hx hb dX5_fits_33 (by decide) (fun c_ => ?_) (fun c_ => ?_)
    · have hrun := ite_f hrun c_
      exact b_X5_fits_54 C h H locs cells slots ls hH hL (lv_sub hl [] rfl) hrun
    · have hrun := ite_t hrun c_
      refine V_aload_n (pc := 36) hx hb dX5_fits_36 rfl (lv_at hl 0 rfl) ?_
      refine V_getI (pc := 37) C hH fr_X5_48 dX5_fits_37 c2 rfl ?_
      refine V_aload_n (pc := 40) hx hb dX5_fits_40 rfl (lv_at hl 0 rfl) ?_
      refine V_getR (pc := 41) C hH fr_X5_3 dX5_fits_41 c2 rfl ?_
      refine V_getNI (pc := 44) C hH fn_X5_61 dX5_fits_44 c3 rfl ?_
      refine lv_icmp_lt (tgt := 54) (pc := 47) hx hb dX5_fits_47 (by decide) (fun c_ => ?_) (fun c_ => ?_)
      · have hrun := ite_t hrun c_
        exact b_X5_fits_54 C h H locs cells slots ls hH hL (lv_sub hl [] rfl) hrun
      · have hrun := ite_f hrun c_
        refine lv_iconst (v := (1 : Int32)) (pc := 50) hx hb dX5_fits_50 (by decide) ?_
        refine lv_goto (tgt := 55) (pc := 51) hx hb dX5_fits_51 (by decide) ?_
        exact b_X5_fits_55 C (1 : Int32) h H locs cells slots ls hH hL (lv_sub hl [] rfl) hrun

theorem m_X5_fits {l : Launch} {D : va_G} {Hs : Heap} {h : Hp} {rr : (Int32 ⊕ Ex) × Hp} (hl9 : l.stackTraces = false) {x0 : Nat} (hrun : f_X5_fits x0 h = some rr) : CM l yX5_fits (ws_ yX5_fits cX5_fits 1 (some .boolean)) 1 0 iI [rv x0] D Hs h rr := by
  refine CM.of (lv := [(0, rv x0)]) (plainFor_of_name (by decide)) hl9 (by simp [lv_args, rv_cat, cat_i, cat_l, cat_f, cat_d]) (by simp [lg_sl, rv_cat, cat_i, cat_l, cat_f, cat_d]) ?_
  intro p e R s m args below meth c H ls C hH hl hin
  exact b_X5_fits C x0 _ H [] _ _ ls hH (fun _ q => nomatch q) (lv_sub hl [0] rfl) hrun

/-! Massclaim$Person.isMember()Z -/
def f_X5_isMember_29  (y0 : Int32) (h : Hp) : Rt Int32 :=
  gd (b01 y0) <| some (.inl y0, h)
def f_X5_isMember_28  (h : Hp) : Rt Int32 :=
  f_X5_isMember_29 (0 : Int32) h
def f_X5_isMember  (x0 : Nat) (h : Hp) : Rt Int32 :=
  gd (kC h x0 = 5) <| gd (kC h (kR h 421 x0) = 1) <| if (kI h 10 (kR h 421 x0)) ≤ 0 then
  (f_X5_isMember_28  h)
  else
  (bd (f_X5_fits x0 h) fun v4 h5 => if v4 = 0 then
  (f_X5_isMember_28  h5)
  else
  (gd (kC h5 x0 = 5) <| if (kI h5 408 x0) = 0 then
  (f_X5_isMember_29 (1 : Int32) h5)
  else
  (f_X5_isMember_28  h5)))
theorem b_X5_isMember_29 {rr : (Int32 ⊕ Ex) × Hp}  (C : CX p l R s m args meth c D Hs cX5_isMember "Massclaim$Person" 1 (some .boolean) [] 2 20)  : ∀ (y0 : Int32) (h : Hp) (H : Heap) (locs : List Loc) (cells slots : Nat) (ls : Array Slot), HP D Hs h H → LO Hs locs → lv_has ls 1 [] → f_X5_isMember_29 y0 h = some rr → W p l e R s m args below meth c H locs cells slots (ZM D Hs iI rr below args s) (F0 m 29 ls [.int y0]) := by
  obtain ⟨⟨hx, hb, hml, hown, hts⟩, -⟩ := id C
  have hl9 := C.2.1.2.2.1
  intro y0 h H locs cells slots ls hH hL hl hrun
  unfold f_X5_isMember_29 at hrun
  obtain ⟨c1, hrun⟩ := gd_some hrun
  exact V_zret (pc := 29) C hH hL c1 hrun dX5_isMember_29

theorem b_X5_isMember_28 {rr : (Int32 ⊕ Ex) × Hp}  (C : CX p l R s m args meth c D Hs cX5_isMember "Massclaim$Person" 1 (some .boolean) [] 2 20)  : ∀ (h : Hp) (H : Heap) (locs : List Loc) (cells slots : Nat) (ls : Array Slot), HP D Hs h H → LO Hs locs → lv_has ls 1 [] → f_X5_isMember_28 h = some rr → W p l e R s m args below meth c H locs cells slots (ZM D Hs iI rr below args s) (F0 m 28 ls []) := by
  obtain ⟨⟨hx, hb, hml, hown, hts⟩, -⟩ := id C
  have hl9 := C.2.1.2.2.1
  intro h H locs cells slots ls hH hL hl hrun
  unfold f_X5_isMember_28 at hrun
  refine lv_iconst (v := (0 : Int32)) (pc := 28) hx hb dX5_isMember_28 (by decide) ?_
  exact b_X5_isMember_29 C (0 : Int32) h H locs cells slots ls hH hL (lv_sub hl [] rfl) hrun

theorem b_X5_isMember {rr : (Int32 ⊕ Ex) × Hp}  (C : CX p l R s m args meth c D Hs cX5_isMember "Massclaim$Person" 1 (some .boolean) [] 2 20)  : ∀ (x0 : Nat) (h : Hp) (H : Heap) (locs : List Loc) (cells slots : Nat) (ls : Array Slot), HP D Hs h H → LO Hs locs → lv_has ls 1 [(0, rv x0)] → f_X5_isMember x0 h = some rr → W p l e R s m args below meth c H locs cells slots (ZM D Hs iI rr below args s) (F0 m 0 ls []) := by
  obtain ⟨⟨hx, hb, hml, hown, hts⟩, -⟩ := id C
  have hl9 := C.2.1.2.2.1
  intro x0 h H locs cells slots ls hH hL hl hrun
  unfold f_X5_isMember at hrun
  refine V_aload_n (pc := 0) hx hb dX5_isMember_0 rfl (lv_at hl 0 rfl) ?_
  obtain ⟨c2, hrun⟩ := gd_some hrun
  refine V_getR (pc := 1) C hH fr_X5_3 dX5_isMember_1 c2 rfl ?_
  obtain ⟨c3, hrun⟩ := gd_some hrun
  refine V_getNI (pc := 4) C hH fn_X5_55 dX5_isMember_4 c3 rfl ?_
  refine lv_if_le (tgt := 28) (pc := 7) hx hb dX5_isMember_7 (by decide) (fun c_ => ?_) (fun c_ => ?_)
  · have hrun := ite_t hrun c_
    exact b_X5_isMember_28 C h H locs cells slots ls hH hL (lv_sub hl [] rfl) hrun
  · have hrun := ite_f hrun c_
    refine V_aload_n (pc := 10) hx hb dX5_isMember_10 rfl (lv_at hl 0 rfl) ?_
    refine V_bd (pc := 11) C hL rfl hrun (fun rr1 e1 => Z_runV (rest := []) C hH (m_X5_fits hl9 e1) wV_X5_64 c2 rfl (by decide) rfl rfl ⟨by decide, by decide⟩ rfl (Nat.le_of_ble_eq_true rfl) hl.1 dX5_isMember_11) (fun v4 h5 H locs cells slots hH hL hrun => ?_)
    refine lv_if_eq (tgt := 28) (pc := 14) hx hb dX5_isMember_14 (by decide) (fun c_ => ?_) (fun c_ => ?_)
    · have hrun := ite_t hrun c_
      exact b_X5_isMember_28 C h5 H locs cells slots ls hH hL (lv_sub hl [] rfl) hrun
    · have hrun := ite_f hrun c_
      refine V_aload_n (pc := 17) hx hb dX5_isMember_17 rfl (lv_at hl 0 rfl) ?_
      obtain ⟨c6, hrun⟩ := gd_some hrun
      refine V_getI (pc := 18) C hH fr_X5_68 dX5_isMember_18 c6 rfl ?_
      refine lv_if_ne (tgt := 28) (pc := 21) hx hb dX5_isMember_21 (by decide) (fun c_ => ?_) (fun c_ => ?_)
      · have hrun := ite_f hrun c_
        exact b_X5_isMember_28 C h5 H locs cells slots ls hH hL (lv_sub hl [] rfl) hrun
      · have hrun := ite_t hrun c_
        refine lv_iconst (v := (1 : Int32)) (pc := 24) hx hb dX5_isMember_24 (by decide) ?_
        refine lv_goto (tgt := 29) (pc := 25) hx hb dX5_isMember_25 (by decide) ?_
        exact b_X5_isMember_29 C (1 : Int32) h5 H locs cells slots ls hH hL (lv_sub hl [] rfl) hrun

theorem m_X5_isMember {l : Launch} {D : va_G} {Hs : Heap} {h : Hp} {rr : (Int32 ⊕ Ex) × Hp} (hl9 : l.stackTraces = false) {x0 : Nat} (hrun : f_X5_isMember x0 h = some rr) : CM l yX5_isMember (ws_ yX5_isMember cX5_isMember 1 (some .boolean)) 2 20 iI [rv x0] D Hs h rr := by
  refine CM.of (lv := [(0, rv x0)]) (plainFor_of_name (by decide)) hl9 (by simp [lv_args, rv_cat, cat_i, cat_l, cat_f, cat_d]) (by simp [lg_sl, rv_cat, cat_i, cat_l, cat_f, cat_d]) ?_
  intro p e R s m args below meth c H ls C hH hl hin
  exact b_X5_isMember C x0 _ H [] _ _ ls hH (fun _ q => nomatch q) (lv_sub hl [0] rfl) hrun

/-! Massclaim$Person.age(I)I -/
def f_X5_age  (x0 : Nat) (x1 : Int32) (h : Hp) : Rt Int32 :=
  gd (kC h x0 = 5) <| some (.inl ((x1 - (kI h 401 x0)) / (360 : Int32)), h)
theorem b_X5_age {rr : (Int32 ⊕ Ex) × Hp}  (C : CX p l R s m args meth c D Hs cX5_age "Massclaim$Person" 2 (some .int) [] 1 0)  : ∀ (x0 : Nat) (x1 : Int32) (h : Hp) (H : Heap) (locs : List Loc) (cells slots : Nat) (ls : Array Slot), HP D Hs h H → LO Hs locs → lv_has ls 2 [(0, rv x0), (1, .int x1)] → f_X5_age x0 x1 h = some rr → W p l e R s m args below meth c H locs cells slots (ZM D Hs iI rr below args s) (F0 m 0 ls []) := by
  obtain ⟨⟨hx, hb, hml, hown, hts⟩, -⟩ := id C
  have hl9 := C.2.1.2.2.1
  intro x0 x1 h H locs cells slots ls hH hL hl hrun
  unfold f_X5_age at hrun
  refine lv_iload_n (pc := 0) hx hb dX5_age_0 rfl (lv_at hl 1 rfl) ?_
  refine V_aload_n (pc := 1) hx hb dX5_age_1 rfl (lv_at hl 0 rfl) ?_
  obtain ⟨c1, hrun⟩ := gd_some hrun
  refine V_getI (pc := 2) C hH fr_X5_39 dX5_age_2 c1 rfl ?_
  refine lv_isub (pc := 5) hx hb dX5_age_5 ?_
  refine lv_sipush (v := (360 : Int32)) (pc := 6) hx hb dX5_age_6 (by decide) ?_
  refine lv_idiv (pc := 9) hx hb dX5_age_9 (by decide) ?_
  exact V_iret (pc := 10) C hH hL hrun dX5_age_10

theorem m_X5_age {l : Launch} {D : va_G} {Hs : Heap} {h : Hp} {rr : (Int32 ⊕ Ex) × Hp} (hl9 : l.stackTraces = false) {x0 : Nat} {x1 : Int32} (hrun : f_X5_age x0 x1 h = some rr) : CM l yX5_age (ws_ yX5_age cX5_age 2 (some .int)) 1 0 iI [rv x0, .int x1] D Hs h rr := by
  refine CM.of (lv := [(0, rv x0), (1, .int x1)]) (plainFor_of_name (by decide)) hl9 (by simp [lv_args, rv_cat, cat_i, cat_l, cat_f, cat_d]) (by simp [lg_sl, rv_cat, cat_i, cat_l, cat_f, cat_d]) ?_
  intro p e R s m args below meth c H ls C hH hl hin
  exact b_X5_age C x0 x1 _ H [] _ _ ls hH (fun _ q => nomatch q) (lv_sub hl [0, 1] rfl) hrun

/-! Massclaim$Person.isDead()Z -/
def f_X5_isDead_12  (y0 : Int32) (h : Hp) : Rt Int32 :=
  gd (b01 y0) <| some (.inl y0, h)
def f_X5_isDead  (x0 : Nat) (h : Hp) : Rt Int32 :=
  gd (kC h x0 = 5) <| if (kR h 420 x0) = 0 then
  (f_X5_isDead_12 (0 : Int32) h)
  else
  (f_X5_isDead_12 (1 : Int32) h)
theorem b_X5_isDead_12 {rr : (Int32 ⊕ Ex) × Hp}  (C : CX p l R s m args meth c D Hs cX5_isDead "Massclaim$Person" 1 (some .boolean) [] 1 0)  : ∀ (y0 : Int32) (h : Hp) (H : Heap) (locs : List Loc) (cells slots : Nat) (ls : Array Slot), HP D Hs h H → LO Hs locs → lv_has ls 1 [] → f_X5_isDead_12 y0 h = some rr → W p l e R s m args below meth c H locs cells slots (ZM D Hs iI rr below args s) (F0 m 12 ls [.int y0]) := by
  obtain ⟨⟨hx, hb, hml, hown, hts⟩, -⟩ := id C
  have hl9 := C.2.1.2.2.1
  intro y0 h H locs cells slots ls hH hL hl hrun
  unfold f_X5_isDead_12 at hrun
  obtain ⟨c1, hrun⟩ := gd_some hrun
  exact V_zret (pc := 12) C hH hL c1 hrun dX5_isDead_12

theorem b_X5_isDead {rr : (Int32 ⊕ Ex) × Hp}  (C : CX p l R s m args meth c D Hs cX5_isDead "Massclaim$Person" 1 (some .boolean) [] 1 0)  : ∀ (x0 : Nat) (h : Hp) (H : Heap) (locs : List Loc) (cells slots : Nat) (ls : Array Slot), HP D Hs h H → LO Hs locs → lv_has ls 1 [(0, rv x0)] → f_X5_isDead x0 h = some rr → W p l e R s m args below meth c H locs cells slots (ZM D Hs iI rr below args s) (F0 m 0 ls []) := by
  obtain ⟨⟨hx, hb, hml, hown, hts⟩, -⟩ := id C
  have hl9 := C.2.1.2.2.1
  intro x0 h H locs cells slots ls hH hL hl hrun
  unfold f_X5_isDead at hrun
  refine V_aload_n (pc := 0) hx hb dX5_isDead_0 rfl (lv_at hl 0 rfl) ?_
  obtain ⟨c2, hrun⟩ := gd_some hrun
  refine V_getR (pc := 1) C hH fr_X5_51 dX5_isDead_1 c2 rfl ?_
  refine V_ifnull (tgt := 11) (pc := 4) hx hb dX5_isDead_4 (by decide) hrun (fun c_ hrun => ?_) (fun c_ hrun => ?_)
  · refine lv_iconst (v := (0 : Int32)) (pc := 11) hx hb dX5_isDead_11 (by decide) ?_
    exact b_X5_isDead_12 C (0 : Int32) h H locs cells slots ls hH hL (lv_sub hl [] rfl) hrun
  · refine lv_iconst (v := (1 : Int32)) (pc := 7) hx hb dX5_isDead_7 (by decide) ?_
    refine lv_goto (tgt := 12) (pc := 8) hx hb dX5_isDead_8 (by decide) ?_
    exact b_X5_isDead_12 C (1 : Int32) h H locs cells slots ls hH hL (lv_sub hl [] rfl) hrun

theorem m_X5_isDead {l : Launch} {D : va_G} {Hs : Heap} {h : Hp} {rr : (Int32 ⊕ Ex) × Hp} (hl9 : l.stackTraces = false) {x0 : Nat} (hrun : f_X5_isDead x0 h = some rr) : CM l yX5_isDead (ws_ yX5_isDead cX5_isDead 1 (some .boolean)) 1 0 iI [rv x0] D Hs h rr := by
  refine CM.of (lv := [(0, rv x0)]) (plainFor_of_name (by decide)) hl9 (by simp [lv_args, rv_cat, cat_i, cat_l, cat_f, cat_d]) (by simp [lg_sl, rv_cat, cat_i, cat_l, cat_f, cat_d]) ?_
  intro p e R s m args below meth c H ls C hH hl hin
  exact b_X5_isDead C x0 _ H [] _ _ ls hH (fun _ q => nomatch q) (lv_sub hl [0] rfl) hrun

/-! Massclaim$Person.gets(J)V -/
def f_X5_gets_91  (h : Hp) : Rt Unit :=
  some (.inl (), h)
def f_X5_gets_45  : Nat → Nat → Int64 → Int64 → Int32 → Hp → Rt Unit
  | 0, _, _, _, _, _ => none
  | n + 1, x0, x1, x3, x5, h => gd (kC h x0 = 5) <| gd (kC h (kR h 420 x0) = 102) <| if (Int32.ofNat (kN h (kR h 420 x0))) ≤ x5 then
  (gd (kC h (kR h 420 x0) = 102 ∧ ixo (0 : Int32) (kN h (kR h 420 x0))) <| gd (kC h (kR h 420 x0) = 102 ∧ ixo (0 : Int32) (kN h (kR h 420 x0))) <| vl (tL h (kR h 420 x0) ((0 : Int32)).toNatClampNeg ((jL h (kR h 420 x0) ((0 : Int32)).toNatClampNeg) + (x1 - (x3 * ((Int32.ofNat (kN h (kR h 420 x0))).toInt64))))) fun h5 => f_X5_gets_91  h5)
  else
  (gd (kC h (kR h 420 x0) = 102 ∧ ixo x5 (kN h (kR h 420 x0))) <| gd (kC h (kR h 420 x0) = 102 ∧ ixo x5 (kN h (kR h 420 x0))) <| vl (tL h (kR h 420 x0) (x5).toNatClampNeg ((jL h (kR h 420 x0) (x5).toNatClampNeg) + x3)) fun h8 => vl (x5 + (1 : Int32)) fun v9 => f_X5_gets_45 n x0 x1 x3 v9 h8)
def f_X5_gets  (x0 : Nat) (x1 : Int64) (h : Hp) : Rt Unit :=
  gd (kC h x0 = 5) <| vl (sL h 416 x0 ((kL h 416 x0) + x1)) fun h11 => gd (kC h11 x0 = 5) <| gd (kC h11 (kR h11 421 x0) = 1) <| gd (kC h11 (kR h11 8 (kR h11 421 x0)) = 3) <| vl (sL h11 203 (kR h11 8 (kR h11 421 x0)) ((kL h11 203 (kR h11 8 (kR h11 421 x0))) + x1)) fun h15 => gd (kC h15 x0 = 5) <| bd (f_X5_isDead x0 h15) fun v16 h17 => if v16 = 0 then
  (f_X5_gets_91  h17)
  else
  (gd (kC h17 x0 = 5) <| gd (kC h17 (kR h17 420 x0) = 102) <| gd (¬ ((Int32.ofNat (kN h17 (kR h17 420 x0))).toInt64) = 0) <| vl (x1 / ((Int32.ofNat (kN h17 (kR h17 420 x0))).toInt64)) fun v22 => f_X5_gets_45 FU x0 x1 v22 (0 : Int32) h17)
theorem b_X5_gets_91 {rr : (Unit ⊕ Ex) × Hp}  (C : CX p l R s m args meth c D Hs cX5_gets "Massclaim$Person" 6 none [] 2 20)  : ∀ (h : Hp) (H : Heap) (locs : List Loc) (cells slots : Nat) (ls : Array Slot), HP D Hs h H → LO Hs locs → lv_has ls 6 [] → f_X5_gets_91 h = some rr → W p l e R s m args below meth c H locs cells slots (ZM D Hs iV rr below args s) (F0 m 91 ls []) := by
  obtain ⟨⟨hx, hb, hml, hown, hts⟩, -⟩ := id C
  have hl9 := C.2.1.2.2.1
  intro h H locs cells slots ls hH hL hl hrun
  unfold f_X5_gets_91 at hrun
  exact V_vret (pc := 91) C hH hL hrun dX5_gets_91

theorem b_X5_gets_45 {rr : (Unit ⊕ Ex) × Hp}  (C : CX p l R s m args meth c D Hs cX5_gets "Massclaim$Person" 6 none [] 2 20)  : ∀ (n : Nat) (x0 : Nat) (x1 : Int64) (x3 : Int64) (x5 : Int32) (h : Hp) (H : Heap) (locs : List Loc) (cells slots : Nat) (ls : Array Slot), HP D Hs h H → LO Hs locs → lv_has ls 6 [(0, rv x0), (1, .long x1), (3, .long x3), (5, .int x5)] → f_X5_gets_45 n x0 x1 x3 x5 h = some rr → W p l e R s m args below meth c H locs cells slots (ZM D Hs iV rr below args s) (F0 m 45 ls []) := by
  obtain ⟨⟨hx, hb, hml, hown, hts⟩, -⟩ := id C
  have hl9 := C.2.1.2.2.1
  intro n
  induction n with
  | zero =>
    intro x0 x1 x3 x5 h H locs cells slots ls hH hL hl hrun
    cases (show (none : Option _) = some rr from hrun)
  | succ n ih =>
    intro x0 x1 x3 x5 h H locs cells slots ls hH hL hl hrun
    rw [f_X5_gets_45] at hrun
    refine lv_iload (pc := 45) hx hb dX5_gets_45 (lv_at hl 3 rfl) ?_
    refine V_aload_n (pc := 47) hx hb dX5_gets_47 rfl (lv_at hl 0 rfl) ?_
    obtain ⟨c1, hrun⟩ := gd_some hrun
    refine V_getR (pc := 48) C hH fr_X5_51 dX5_gets_48 c1 rfl ?_
    obtain ⟨c2, hrun⟩ := gd_some hrun
    refine V_alen (pc := 51) C hH dX5_gets_51 c2 (by decide) ?_
    refine lv_icmp_ge (tgt := 72) (pc := 52) hx hb dX5_gets_52 (by decide) (fun c_ => ?_) (fun c_ => ?_)
    · have hrun := ite_t hrun c_
      refine V_aload_n (pc := 72) hx hb dX5_gets_72 rfl (lv_at hl 0 rfl) ?_
      refine V_getR (pc := 73) C hH fr_X5_51 dX5_gets_73 c1 rfl ?_
      refine lv_iconst (v := (0 : Int32)) (pc := 76) hx hb dX5_gets_76 (by decide) ?_
      refine lv_dup2_11 (pc := 77) hx hb dX5_gets_77 rfl (rv_cat _) ?_
      obtain ⟨c3, hrun⟩ := gd_some hrun
      refine V_lald (pc := 78) C hH dX5_gets_78 c3 ?_
      refine lv_lload_n (pc := 79) hx hb dX5_gets_79 rfl (lv_at hl 1 rfl) ?_
      refine lv_lload_n (pc := 80) hx hb dX5_gets_80 rfl (lv_at hl 2 rfl) ?_
      refine V_aload_n (pc := 81) hx hb dX5_gets_81 rfl (lv_at hl 0 rfl) ?_
      refine V_getR (pc := 82) C hH fr_X5_51 dX5_gets_82 c1 rfl ?_
      refine V_alen (pc := 85) C hH dX5_gets_85 c2 (by decide) ?_
      refine lv_i2l (pc := 86) hx hb dX5_gets_86 rfl ?_
      refine lv_lmul (pc := 87) hx hb dX5_gets_87 ?_
      refine lv_lsub (pc := 88) hx hb dX5_gets_88 ?_
      refine lv_ladd (pc := 89) hx hb dX5_gets_89 ?_
      obtain ⟨c4, hrun⟩ := gd_some hrun
      refine V_last (pc := 90) C hH hL dX5_gets_90 c4 hrun (fun h5 H locs hH hL hrun => ?_)
      exact b_X5_gets_91 C h5 H locs cells slots ls hH hL (lv_sub hl [] rfl) hrun
    · have hrun := ite_f hrun c_
      refine V_aload_n (pc := 55) hx hb dX5_gets_55 rfl (lv_at hl 0 rfl) ?_
      refine V_getR (pc := 56) C hH fr_X5_51 dX5_gets_56 c1 rfl ?_
      refine lv_iload (pc := 59) hx hb dX5_gets_59 (lv_at hl 3 rfl) ?_
      refine lv_dup2_11 (pc := 61) hx hb dX5_gets_61 rfl (rv_cat _) ?_
      obtain ⟨c6, hrun⟩ := gd_some hrun
      refine V_lald (pc := 62) C hH dX5_gets_62 c6 ?_
      refine lv_lload_n (pc := 63) hx hb dX5_gets_63 rfl (lv_at hl 2 rfl) ?_
      refine lv_ladd (pc := 64) hx hb dX5_gets_64 ?_
      obtain ⟨c7, hrun⟩ := gd_some hrun
      refine V_last (pc := 65) C hH hL dX5_gets_65 c7 hrun (fun h8 H locs hH hL hrun => ?_)
      obtain ⟨v9, ev9⟩ : ∃ y : Int32, y = x5 + (1 : Int32) := ⟨_, rfl⟩
      have hrun := vl_at hrun v9 ev9
      refine lv_iinc (v := v9) (lv' := [(5, .int v9), (0, rv x0), (1, .long x1), (3, .long x3)]) (pc := 66) hx hb dX5_gets_66 hl (k := 3) rfl (by rw [ev9]; rfl) (by decide) (by first | rfl | simp [rv_cat, cat_i, cat_l, cat_f, cat_d]) (fun ls hl => ?_)
      refine lv_goto (tgt := 45) (pc := 69) hx hb dX5_gets_69 (by decide) ?_
      exact ih x0 x1 x3 v9 h8 H locs cells slots ls hH hL (lv_sub hl [1, 2, 3, 0] rfl) hrun

theorem b_X5_gets {rr : (Unit ⊕ Ex) × Hp}  (C : CX p l R s m args meth c D Hs cX5_gets "Massclaim$Person" 6 none [] 2 20)  : ∀ (x0 : Nat) (x1 : Int64) (h : Hp) (H : Heap) (locs : List Loc) (cells slots : Nat) (ls : Array Slot), HP D Hs h H → LO Hs locs → lv_has ls 6 [(0, rv x0), (1, .long x1)] → f_X5_gets x0 x1 h = some rr → W p l e R s m args below meth c H locs cells slots (ZM D Hs iV rr below args s) (F0 m 0 ls []) := by
  obtain ⟨⟨hx, hb, hml, hown, hts⟩, -⟩ := id C
  have hl9 := C.2.1.2.2.1
  intro x0 x1 h H locs cells slots ls hH hL hl hrun
  unfold f_X5_gets at hrun
  refine V_aload_n (pc := 0) hx hb dX5_gets_0 rfl (lv_at hl 0 rfl) ?_
  refine lv_dup (pc := 1) hx hb dX5_gets_1 (rv_cat _) ?_
  obtain ⟨c10, hrun⟩ := gd_some hrun
  refine V_getL (pc := 2) C hH fr_X5_121 dX5_gets_2 c10 rfl ?_
  refine lv_lload_n (pc := 5) hx hb dX5_gets_5 rfl (lv_at hl 1 rfl) ?_
  refine lv_ladd (pc := 6) hx hb dX5_gets_6 ?_
  refine V_putL (pc := 7) C hH hL fl_X5_121 dX5_gets_7 c10 (fok_l _) rfl (fun q => Bool.noConfusion q) hrun (fun h11 H locs hH hL hrun => ?_)
  refine V_aload_n (pc := 10) hx hb dX5_gets_10 rfl (lv_at hl 0 rfl) ?_
  obtain ⟨c12, hrun⟩ := gd_some hrun
  refine V_getR (pc := 11) C hH fr_X5_3 dX5_gets_11 c12 rfl ?_
  obtain ⟨c13, hrun⟩ := gd_some hrun
  refine V_getNR (pc := 14) C hH fn_X5_124 dX5_gets_14 c13 rfl ?_
  refine lv_dup (pc := 17) hx hb dX5_gets_17 (rv_cat _) ?_
  obtain ⟨c14, hrun⟩ := gd_some hrun
  refine V_getNL (pc := 18) C hH fn_X5_128 dX5_gets_18 c14 rfl ?_
  refine lv_lload_n (pc := 21) hx hb dX5_gets_21 rfl (lv_at hl 1 rfl) ?_
  refine lv_ladd (pc := 22) hx hb dX5_gets_22 ?_
  refine V_putNL (pc := 23) C hH hL fn_X5_128 dX5_gets_23 c14 (fok_l _) rfl hrun (fun h15 H locs hH hL hrun => ?_)
  refine V_aload_n (pc := 26) hx hb dX5_gets_26 rfl (lv_at hl 0 rfl) ?_
  obtain ⟨c18, hrun⟩ := gd_some hrun
  refine V_bd (pc := 27) C hL rfl hrun (fun rr1 e1 => Z_runV (rest := []) C hH (m_X5_isDead hl9 e1) wV_X5_133 c18 rfl (by decide) rfl rfl ⟨by decide, by decide⟩ rfl (Nat.le_of_ble_eq_true rfl) hl.1 dX5_gets_27) (fun v16 h17 H locs cells slots hH hL hrun => ?_)
  refine lv_if_eq (tgt := 91) (pc := 30) hx hb dX5_gets_30 (by decide) (fun c_ => ?_) (fun c_ => ?_)
  · have hrun := ite_t hrun c_
    exact b_X5_gets_91 C h17 H locs cells slots ls hH hL (lv_sub hl [] rfl) hrun
  · have hrun := ite_f hrun c_
    refine lv_lload_n (pc := 33) hx hb dX5_gets_33 rfl (lv_at hl 1 rfl) ?_
    refine V_aload_n (pc := 34) hx hb dX5_gets_34 rfl (lv_at hl 0 rfl) ?_
    obtain ⟨c19, hrun⟩ := gd_some hrun
    refine V_getR (pc := 35) C hH fr_X5_51 dX5_gets_35 c19 rfl ?_
    obtain ⟨c20, hrun⟩ := gd_some hrun
    refine V_alen (pc := 38) C hH dX5_gets_38 c20 (by decide) ?_
    refine lv_i2l (pc := 39) hx hb dX5_gets_39 rfl ?_
    obtain ⟨c21, hrun⟩ := gd_some hrun
    refine lv_ldiv (pc := 40) hx hb dX5_gets_40 c21 ?_
    refine lv_topl (fun v22 ev22 => ?_)
    have hrun := vl_at hrun v22 ev22
    refine lv_lstore_n (i := 3) (lv' := [(3, .long v22), (0, rv x0), (1, .long x1)]) (pc := 41) hx hb dX5_gets_41 rfl hl (by decide) rfl (fun ls hl => ?_)
    refine lv_iconst (v := (0 : Int32)) (pc := 42) hx hb dX5_gets_42 (by decide) ?_
    refine lv_istore (i := 5) (lv' := [(5, .int (0 : Int32)), (3, .long v22), (0, rv x0), (1, .long x1)]) (pc := 43) hx hb dX5_gets_43 hl (by decide) rfl (fun ls hl => ?_)
    exact b_X5_gets_45 C FU x0 x1 v22 (0 : Int32) h17 H locs cells slots ls hH hL (lv_sub hl [2, 3, 1, 0] rfl) hrun

theorem m_X5_gets {l : Launch} {D : va_G} {Hs : Heap} {h : Hp} {rr : (Unit ⊕ Ex) × Hp} (hl9 : l.stackTraces = false) {x0 : Nat} {x1 : Int64} (hrun : f_X5_gets x0 x1 h = some rr) : CM l yX5_gets (ws_ yX5_gets cX5_gets 6 none) 2 20 iV [rv x0, .long x1] D Hs h rr := by
  refine CM.of (lv := [(0, rv x0), (1, .long x1)]) (plainFor_of_name (by decide)) hl9 (by simp [lv_args, rv_cat, cat_i, cat_l, cat_f, cat_d]) (by simp [lg_sl, rv_cat, cat_i, cat_l, cat_f, cat_d]) ?_
  intro p e R s m args below meth c H ls C hH hl hin
  exact b_X5_gets C x0 x1 _ H [] _ _ ls hH (fun _ q => nomatch q) (lv_sub hl [0, 1] rfl) hrun

/-! Massclaim$Yearly.isDue()Z -/
def f_X14_isDue_31  (y0 : Int32) (h : Hp) : Rt Int32 :=
  gd (b01 y0) <| some (.inl y0, h)
def f_X14_isDue_30  (h : Hp) : Rt Int32 :=
  f_X14_isDue_31 (0 : Int32) h
def f_X14_isDue  (x0 : Nat) (h : Hp) : Rt Int32 :=
  gd (kC h x0 = 14) <| if (kI h 1301 x0) ≤ 0 then
  (f_X14_isDue_30  h)
  else
  (gd (kC h (kR h 1303 x0) = 1) <| if (((kI h 18 (kR h 1303 x0)) - (kI h 1302 x0)) - ((kI h 18 (kR h 1303 x0)) - (kI h 1302 x0)) / (360 : Int32) * (360 : Int32)) = 0 then
  (f_X14_isDue_31 (1 : Int32) h)
  else
  (f_X14_isDue_30  h))
theorem b_X14_isDue_31 {rr : (Int32 ⊕ Ex) × Hp}  (C : CX p l R s m args meth c D Hs cX14_isDue "Massclaim$Yearly" 1 (some .boolean) [] 1 0)  : ∀ (y0 : Int32) (h : Hp) (H : Heap) (locs : List Loc) (cells slots : Nat) (ls : Array Slot), HP D Hs h H → LO Hs locs → lv_has ls 1 [] → f_X14_isDue_31 y0 h = some rr → W p l e R s m args below meth c H locs cells slots (ZM D Hs iI rr below args s) (F0 m 31 ls [.int y0]) := by
  obtain ⟨⟨hx, hb, hml, hown, hts⟩, -⟩ := id C
  have hl9 := C.2.1.2.2.1
  intro y0 h H locs cells slots ls hH hL hl hrun
  unfold f_X14_isDue_31 at hrun
  obtain ⟨c1, hrun⟩ := gd_some hrun
  exact V_zret (pc := 31) C hH hL c1 hrun dX14_isDue_31

theorem b_X14_isDue_30 {rr : (Int32 ⊕ Ex) × Hp}  (C : CX p l R s m args meth c D Hs cX14_isDue "Massclaim$Yearly" 1 (some .boolean) [] 1 0)  : ∀ (h : Hp) (H : Heap) (locs : List Loc) (cells slots : Nat) (ls : Array Slot), HP D Hs h H → LO Hs locs → lv_has ls 1 [] → f_X14_isDue_30 h = some rr → W p l e R s m args below meth c H locs cells slots (ZM D Hs iI rr below args s) (F0 m 30 ls []) := by
  obtain ⟨⟨hx, hb, hml, hown, hts⟩, -⟩ := id C
  have hl9 := C.2.1.2.2.1
  intro h H locs cells slots ls hH hL hl hrun
  unfold f_X14_isDue_30 at hrun
  refine lv_iconst (v := (0 : Int32)) (pc := 30) hx hb dX14_isDue_30 (by decide) ?_
  exact b_X14_isDue_31 C (0 : Int32) h H locs cells slots ls hH hL (lv_sub hl [] rfl) hrun

theorem b_X14_isDue {rr : (Int32 ⊕ Ex) × Hp}  (C : CX p l R s m args meth c D Hs cX14_isDue "Massclaim$Yearly" 1 (some .boolean) [] 1 0)  : ∀ (x0 : Nat) (h : Hp) (H : Heap) (locs : List Loc) (cells slots : Nat) (ls : Array Slot), HP D Hs h H → LO Hs locs → lv_has ls 1 [(0, rv x0)] → f_X14_isDue x0 h = some rr → W p l e R s m args below meth c H locs cells slots (ZM D Hs iI rr below args s) (F0 m 0 ls []) := by
  obtain ⟨⟨hx, hb, hml, hown, hts⟩, -⟩ := id C
  have hl9 := C.2.1.2.2.1
  intro x0 h H locs cells slots ls hH hL hl hrun
  unfold f_X14_isDue at hrun
  refine V_aload_n (pc := 0) hx hb dX14_isDue_0 rfl (lv_at hl 0 rfl) ?_
  obtain ⟨c2, hrun⟩ := gd_some hrun
  refine V_getI (pc := 1) C hH fr_X14_26 dX14_isDue_1 c2 rfl ?_
  refine lv_if_le (tgt := 30) (pc := 4) hx hb dX14_isDue_4 (by decide) (fun c_ => ?_) (fun c_ => ?_)
  · have hrun := ite_t hrun c_
    exact b_X14_isDue_30 C h H locs cells slots ls hH hL (lv_sub hl [] rfl) hrun
  · have hrun := ite_f hrun c_
    refine V_aload_n (pc := 7) hx hb dX14_isDue_7 rfl (lv_at hl 0 rfl) ?_
    refine V_getR (pc := 8) C hH fr_X14_3 dX14_isDue_8 c2 rfl ?_
    obtain ⟨c3, hrun⟩ := gd_some hrun
    refine V_getNI (pc := 11) C hH fn_X14_15 dX14_isDue_11 c3 rfl ?_
    refine V_aload_n (pc := 14) hx hb dX14_isDue_14 rfl (lv_at hl 0 rfl) ?_
    refine V_getI (pc := 15) C hH fr_X14_19 dX14_isDue_15 c2 rfl ?_
    refine lv_isub (pc := 18) hx hb dX14_isDue_18 ?_
    refine lv_sipush (v := (360 : Int32)) (pc := 19) hx hb dX14_isDue_19 (by decide) ?_
    refine lv_irem (pc := 22) hx hb dX14_isDue_22 (by decide) ?_
    refine lv_if_ne (tgt := 30) (pc := 23) hx hb dX14_isDue_23 (by decide) (fun c_ => ?_) (fun c_ => ?_)
    · have hrun := ite_f hrun c_
      exact b_X14_isDue_30 C h H locs cells slots ls hH hL (lv_sub hl [] rfl) hrun
    · have hrun := ite_t hrun c_
      refine lv_iconst (v := (1 : Int32)) (pc := 26) hx hb dX14_isDue_26 (by decide) ?_
      refine lv_goto (tgt := 31) (pc := 27) hx hb dX14_isDue_27 (by decide) ?_
      exact b_X14_isDue_31 C (1 : Int32) h H locs cells slots ls hH hL (lv_sub hl [] rfl) hrun

theorem m_X14_isDue {l : Launch} {D : va_G} {Hs : Heap} {h : Hp} {rr : (Int32 ⊕ Ex) × Hp} (hl9 : l.stackTraces = false) {x0 : Nat} (hrun : f_X14_isDue x0 h = some rr) : CM l yX14_isDue (ws_ yX14_isDue cX14_isDue 1 (some .boolean)) 1 0 iI [rv x0] D Hs h rr := by
  refine CM.of (lv := [(0, rv x0)]) (plainFor_of_name (by decide)) hl9 (by simp [lv_args, rv_cat, cat_i, cat_l, cat_f, cat_d]) (by simp [lg_sl, rv_cat, cat_i, cat_l, cat_f, cat_d]) ?_
  intro p e R s m args below meth c H ls C hH hl hin
  exact b_X14_isDue C x0 _ H [] _ _ ls hH (fun _ q => nomatch q) (lv_sub hl [0] rfl) hrun

/-! Massclaim$Yearly.comes()J -/
def f_X14_comes  (x0 : Nat) (h : Hp) : Rt Int64 :=
  gd (kC h x0 = 14) <| gd (¬ ((kI h 1301 x0).toInt64) = 0) <| vl ((kL h 1300 x0) / ((kI h 1301 x0).toInt64)) fun v3 => vl (sL h 1300 x0 ((kL h 1300 x0) - v3)) fun h4 => gd (kC h4 x0 = 14) <| vl (sI h4 1301 x0 ((kI h4 1301 x0) - (1 : Int32))) fun h6 => some (.inl v3, h6)
theorem b_X14_comes {rr : (Int64 ⊕ Ex) × Hp}  (C : CX p l R s m args meth c D Hs cX14_comes "Massclaim$Yearly" 3 (some .long) [] 1 0)  : ∀ (x0 : Nat) (h : Hp) (H : Heap) (locs : List Loc) (cells slots : Nat) (ls : Array Slot), HP D Hs h H → LO Hs locs → lv_has ls 3 [(0, rv x0)] → f_X14_comes x0 h = some rr → W p l e R s m args below meth c H locs cells slots (ZM D Hs iL rr below args s) (F0 m 0 ls []) := by
  obtain ⟨⟨hx, hb, hml, hown, hts⟩, -⟩ := id C
  have hl9 := C.2.1.2.2.1
  intro x0 h H locs cells slots ls hH hL hl hrun
  unfold f_X14_comes at hrun
  refine V_aload_n (pc := 0) hx hb dX14_comes_0 rfl (lv_at hl 0 rfl) ?_
  obtain ⟨c1, hrun⟩ := gd_some hrun
  refine V_getL (pc := 1) C hH fr_X14_22 dX14_comes_1 c1 rfl ?_
  refine V_aload_n (pc := 4) hx hb dX14_comes_4 rfl (lv_at hl 0 rfl) ?_
  refine V_getI (pc := 5) C hH fr_X14_26 dX14_comes_5 c1 rfl ?_
  refine lv_i2l (pc := 8) hx hb dX14_comes_8 rfl ?_
  obtain ⟨c2, hrun⟩ := gd_some hrun
  refine lv_ldiv (pc := 9) hx hb dX14_comes_9 c2 ?_
  refine lv_topl (fun v3 ev3 => ?_)
  have hrun := vl_at hrun v3 ev3
  refine lv_lstore_n (i := 1) (lv' := [(1, .long v3), (0, rv x0)]) (pc := 10) hx hb dX14_comes_10 rfl hl (by decide) (by simp [rv_cat, cat_i, cat_l, cat_f, cat_d]) (fun ls hl => ?_)
  refine V_aload_n (pc := 11) hx hb dX14_comes_11 rfl (lv_at hl 1 rfl) ?_
  refine lv_dup (pc := 12) hx hb dX14_comes_12 (rv_cat _) ?_
  refine V_getL (pc := 13) C hH fr_X14_22 dX14_comes_13 c1 rfl ?_
  refine lv_lload_n (pc := 16) hx hb dX14_comes_16 rfl (lv_at hl 0 rfl) ?_
  refine lv_lsub (pc := 17) hx hb dX14_comes_17 ?_
  refine V_putL (pc := 18) C hH hL fl_X14_22 dX14_comes_18 c1 (fok_l _) rfl (fun q => Bool.noConfusion q) hrun (fun h4 H locs hH hL hrun => ?_)
  refine V_aload_n (pc := 21) hx hb dX14_comes_21 rfl (lv_at hl 1 rfl) ?_
  refine lv_dup (pc := 22) hx hb dX14_comes_22 (rv_cat _) ?_
  obtain ⟨c5, hrun⟩ := gd_some hrun
  refine V_getI (pc := 23) C hH fr_X14_26 dX14_comes_23 c5 rfl ?_
  refine lv_iconst (v := (1 : Int32)) (pc := 26) hx hb dX14_comes_26 (by decide) ?_
  refine lv_isub (pc := 27) hx hb dX14_comes_27 ?_
  refine V_putI (pc := 28) C hH hL fl_X14_26 dX14_comes_28 c5 (fok_i _) rfl (fun q => Bool.noConfusion q) hrun (fun h6 H locs hH hL hrun => ?_)
  refine lv_lload_n (pc := 31) hx hb dX14_comes_31 rfl (lv_at hl 0 rfl) ?_
  exact V_lret (pc := 32) C hH hL hrun dX14_comes_32

theorem m_X14_comes {l : Launch} {D : va_G} {Hs : Heap} {h : Hp} {rr : (Int64 ⊕ Ex) × Hp} (hl9 : l.stackTraces = false) {x0 : Nat} (hrun : f_X14_comes x0 h = some rr) : CM l yX14_comes (ws_ yX14_comes cX14_comes 3 (some .long)) 1 0 iL [rv x0] D Hs h rr := by
  refine CM.of (lv := [(0, rv x0)]) (plainFor_of_name (by decide)) hl9 (by simp [lv_args, rv_cat, cat_i, cat_l, cat_f, cat_d]) (by simp [lg_sl, rv_cat, cat_i, cat_l, cat_f, cat_d]) ?_
  intro p e R s m args below meth c H ls C hH hl hin
  exact b_X14_comes C x0 _ H [] _ _ ls hH (fun _ q => nomatch q) (lv_sub hl [0] rfl) hrun

/-! Massclaim$Person.looks()V -/
def f_X5_looks_94 (k42 : Nat → Int32 → Hp → Rt Unit) (x0 : Nat) (x1 : Int32) (h : Hp) : Rt Unit :=
  vl (x1 + (1 : Int32)) fun v1 => k42 x0 v1 h
def f_X5_looks_42  : Nat → Nat → Int32 → Hp → Rt Unit
  | 0, _, _, _ => none
  | n + 1, x0, x1, h => gd (kC h x0 = 5) <| gd (kC h (kR h 419 x0) = 18) <| bd (f_J2_size (kR h 419 x0) h) fun v3 h4 => if v3 ≤ x1 then
  (some (.inl (), h4))
  else
  (gd (kC h4 x0 = 5) <| gd (kC h4 (kR h4 419 x0) = 18) <| bd (f_J2_get (kR h4 419 x0) x1 h4) fun v7 h8 => gd (v7 = 0 ∨ kC h8 v7 = 14) <| gd (kC h8 v7 = 14) <| bd (f_X14_isDue v7 h8) fun v11 h12 => if v11 = 0 then
  (f_X5_looks_94 (f_X5_looks_42 n) x0 x1 h12)
  else
  (gd (kC h12 x0 = 5) <| gd (kC h12 (kR h12 419 x0) = 18) <| bd (f_J2_get (kR h12 419 x0) x1 h12) fun v15 h16 => gd (v15 = 0 ∨ kC h16 v15 = 14) <| gd (kC h16 v15 = 14) <| bd (f_X14_comes v15 h16) fun v19 h20 => gd (kC h20 x0 = 5) <| bd (f_X5_gets x0 v19 h20) fun _ h23 => f_X5_looks_94 (f_X5_looks_42 n) x0 x1 h23))
def f_X5_looks_40  (x0 : Nat) (h : Hp) : Rt Unit :=
  f_X5_looks_42 FU x0 (0 : Int32) h
def f_X5_looks  (x0 : Nat) (h : Hp) : Rt Unit :=
  gd (kC h x0 = 5) <| if (kL h 417 x0) ≤ (0 : Int64) then
  (f_X5_looks_40 x0 h)
  else
  (gd (kC h (kR h 421 x0) = 1) <| bd (f_X5_age x0 (kI h 18 (kR h 421 x0)) h) fun v27 h28 => if v27 < (18 : Int32) then
  (f_X5_looks_40 x0 h28)
  else
  (gd (kC h28 x0 = 5) <| vl (kL h28 417 x0) fun v30 => vl (sL h28 417 x0 (0 : Int64)) fun h31 => gd (kC h31 x0 = 5) <| bd (f_X5_gets x0 v30 h31) fun _ h33 => f_X5_looks_40 x0 h33))
theorem b_X5_looks_94 {rr : (Unit ⊕ Ex) × Hp} {k42 : Nat → Int32 → Hp → Rt Unit} (C : CX p l R s m args meth c D Hs cX5_looks "Massclaim$Person" 3 none [] 4 64) (K42 : ∀ (x0 : Nat) (x1 : Int32) (h : Hp) (H : Heap) (locs : List Loc) (cells slots : Nat) (ls : Array Slot), HP D Hs h H → LO Hs locs → lv_has ls 3 [(0, rv x0), (1, .int x1)] → k42 x0 x1 h = some rr → W p l e R s m args below meth c H locs cells slots (ZM D Hs iV rr below args s) (F0 m 42 ls [])) : ∀ (x0 : Nat) (x1 : Int32) (h : Hp) (H : Heap) (locs : List Loc) (cells slots : Nat) (ls : Array Slot), HP D Hs h H → LO Hs locs → lv_has ls 3 [(0, rv x0), (1, .int x1)] → f_X5_looks_94 k42 x0 x1 h = some rr → W p l e R s m args below meth c H locs cells slots (ZM D Hs iV rr below args s) (F0 m 94 ls []) := by
  obtain ⟨⟨hx, hb, hml, hown, hts⟩, -⟩ := id C
  have hl9 := C.2.1.2.2.1
  intro x0 x1 h H locs cells slots ls hH hL hl hrun
  unfold f_X5_looks_94 at hrun
  obtain ⟨v1, ev1⟩ : ∃ y : Int32, y = x1 + (1 : Int32) := ⟨_, rfl⟩
  have hrun := vl_at hrun v1 ev1
  refine lv_iinc (v := v1) (lv' := [(1, .int v1), (0, rv x0)]) (pc := 94) hx hb dX5_looks_94 hl (k := 1) rfl (by rw [ev1]; rfl) (by decide) (by first | rfl | simp [rv_cat, cat_i, cat_l, cat_f, cat_d]) (fun ls hl => ?_)
  refine lv_goto (tgt := 42) (pc := 97) hx hb dX5_looks_97 (by decide) ?_
  exact K42 x0 v1 h H locs cells slots ls hH hL (lv_sub hl [1, 0] rfl) hrun

theorem b_X5_looks_42 {rr : (Unit ⊕ Ex) × Hp}  (C : CX p l R s m args meth c D Hs cX5_looks "Massclaim$Person" 3 none [] 4 64)  : ∀ (n : Nat) (x0 : Nat) (x1 : Int32) (h : Hp) (H : Heap) (locs : List Loc) (cells slots : Nat) (ls : Array Slot), HP D Hs h H → LO Hs locs → lv_has ls 3 [(0, rv x0), (1, .int x1)] → f_X5_looks_42 n x0 x1 h = some rr → W p l e R s m args below meth c H locs cells slots (ZM D Hs iV rr below args s) (F0 m 42 ls []) := by
  obtain ⟨⟨hx, hb, hml, hown, hts⟩, -⟩ := id C
  have hl9 := C.2.1.2.2.1
  intro n
  induction n with
  | zero =>
    intro x0 x1 h H locs cells slots ls hH hL hl hrun
    cases (show (none : Option _) = some rr from hrun)
  | succ n ih =>
    intro x0 x1 h H locs cells slots ls hH hL hl hrun
    rw [f_X5_looks_42] at hrun
    refine lv_iload_n (pc := 42) hx hb dX5_looks_42 rfl (lv_at hl 1 rfl) ?_
    refine V_aload_n (pc := 43) hx hb dX5_looks_43 rfl (lv_at hl 0 rfl) ?_
    obtain ⟨c2, hrun⟩ := gd_some hrun
    refine V_getR (pc := 44) C hH fr_X5_32 dX5_looks_44 c2 rfl ?_
    obtain ⟨c5, hrun⟩ := gd_some hrun
    refine V_bd5 (pc := 47) C hL rfl hrun (fun rr1 e1 => Z_runF (rest := [.int x1]) C hH (m_J2_size hl9 e1) rfl wF_X5_110_J2 c5 (by decide) rfl ⟨by decide, by decide⟩ rfl (Nat.le_of_ble_eq_true rfl) hl.1 dX5_looks_47) (fun v3 h4 H locs cells slots hH hL hrun => ?_)
    refine lv_icmp_ge (tgt := 100) (pc := 52) hx hb dX5_looks_52 (by decide) (fun c_ => ?_) (fun c_ => ?_)
    · have hrun := ite_t hrun c_
      exact V_vret (pc := 100) C hH hL hrun dX5_looks_100
    · have hrun := ite_f hrun c_
      refine V_aload_n (pc := 55) hx hb dX5_looks_55 rfl (lv_at hl 0 rfl) ?_
      obtain ⟨c6, hrun⟩ := gd_some hrun
      refine V_getR (pc := 56) C hH fr_X5_32 dX5_looks_56 c6 rfl ?_
      refine lv_iload_n (pc := 59) hx hb dX5_looks_59 rfl (lv_at hl 1 rfl) ?_
      obtain ⟨c9, hrun⟩ := gd_some hrun
      refine V_bd5 (pc := 60) C hL rfl hrun (fun rr1 e1 => Z_runF (rest := []) C hH (m_J2_get hl9 e1) rfl wF_X5_111_J2 c9 (by decide) rfl ⟨by decide, by decide⟩ rfl (Nat.le_of_ble_eq_true rfl) hl.1 dX5_looks_60) (fun v7 h8 H locs cells slots hH hL hrun => ?_)
      obtain ⟨c10, hrun⟩ := gd_some hrun
      refine V_castX (pc := 65) (ci := 13) C hH rfl (by decide) q402 dX5_looks_65 c10 ?_
      obtain ⟨c13, hrun⟩ := gd_some hrun
      refine V_bd (pc := 68) C hL rfl hrun (fun rr1 e1 => Z_runV (rest := []) C hH (m_X14_isDue hl9 e1) wV_X5_187 c13 rfl (by decide) rfl rfl ⟨by decide, by decide⟩ rfl (Nat.le_of_ble_eq_true rfl) hl.1 dX5_looks_68) (fun v11 h12 H locs cells slots hH hL hrun => ?_)
      refine lv_if_eq (tgt := 94) (pc := 71) hx hb dX5_looks_71 (by decide) (fun c_ => ?_) (fun c_ => ?_)
      · have hrun := ite_t hrun c_
        exact b_X5_looks_94 C ih x0 x1 h12 H locs cells slots ls hH hL (lv_sub hl [0, 1] rfl) hrun
      · have hrun := ite_f hrun c_
        refine V_aload_n (pc := 74) hx hb dX5_looks_74 rfl (lv_at hl 0 rfl) ?_
        refine V_aload_n (pc := 75) hx hb dX5_looks_75 rfl (lv_at hl 0 rfl) ?_
        obtain ⟨c14, hrun⟩ := gd_some hrun
        refine V_getR (pc := 76) C hH fr_X5_32 dX5_looks_76 c14 rfl ?_
        refine lv_iload_n (pc := 79) hx hb dX5_looks_79 rfl (lv_at hl 1 rfl) ?_
        obtain ⟨c17, hrun⟩ := gd_some hrun
        refine V_bd5 (pc := 80) C hL rfl hrun (fun rr1 e1 => Z_runF (rest := [rv x0]) C hH (m_J2_get hl9 e1) rfl wF_X5_111_J2 c17 (by decide) rfl ⟨by decide, by decide⟩ rfl (by simp [csum, rv_cat, cat_i, cat_l, cat_f, cat_d]) hl.1 dX5_looks_80) (fun v15 h16 H locs cells slots hH hL hrun => ?_)
        obtain ⟨c18, hrun⟩ := gd_some hrun
        refine V_castX (pc := 85) (ci := 13) C hH rfl (by decide) q402 dX5_looks_85 c18 ?_
        obtain ⟨c21, hrun⟩ := gd_some hrun
        refine V_bd (pc := 88) C hL rfl hrun (fun rr1 e1 => Z_runV (rest := [rv x0]) C hH (m_X14_comes hl9 e1) wV_X5_162 c21 rfl (by decide) rfl rfl ⟨by decide, by decide⟩ rfl (by simp [csum, rv_cat, cat_i, cat_l, cat_f, cat_d]) hl.1 dX5_looks_88) (fun v19 h20 H locs cells slots hH hL hrun => ?_)
        obtain ⟨c24, hrun⟩ := gd_some hrun
        refine V_bd (pc := 91) C hL rfl hrun (fun rr1 e1 => Z_runV (rest := []) C hH (m_X5_gets hl9 e1) wV_X5_136 c24 rfl (by decide) rfl rfl ⟨by decide, by decide⟩ rfl (Nat.le_of_ble_eq_true rfl) hl.1 dX5_looks_91) (fun _ h23 H locs cells slots hH hL hrun => ?_)
        exact b_X5_looks_94 C ih x0 x1 h23 H locs cells slots ls hH hL (lv_sub hl [0, 1] rfl) hrun

theorem b_X5_looks_40 {rr : (Unit ⊕ Ex) × Hp}  (C : CX p l R s m args meth c D Hs cX5_looks "Massclaim$Person" 3 none [] 4 64)  : ∀ (x0 : Nat) (h : Hp) (H : Heap) (locs : List Loc) (cells slots : Nat) (ls : Array Slot), HP D Hs h H → LO Hs locs → lv_has ls 3 [(0, rv x0)] → f_X5_looks_40 x0 h = some rr → W p l e R s m args below meth c H locs cells slots (ZM D Hs iV rr below args s) (F0 m 40 ls []) := by
  obtain ⟨⟨hx, hb, hml, hown, hts⟩, -⟩ := id C
  have hl9 := C.2.1.2.2.1
  intro x0 h H locs cells slots ls hH hL hl hrun
  unfold f_X5_looks_40 at hrun
  refine lv_iconst (v := (0 : Int32)) (pc := 40) hx hb dX5_looks_40 (by decide) ?_
  refine lv_istore_n (i := 1) (lv' := [(1, .int (0 : Int32)), (0, rv x0)]) (pc := 41) hx hb dX5_looks_41 rfl hl (by decide) (by simp [rv_cat, cat_i, cat_l, cat_f, cat_d]) (fun ls hl => ?_)
  exact b_X5_looks_42 C FU x0 (0 : Int32) h H locs cells slots ls hH hL (lv_sub hl [1, 0] rfl) hrun

theorem b_X5_looks {rr : (Unit ⊕ Ex) × Hp}  (C : CX p l R s m args meth c D Hs cX5_looks "Massclaim$Person" 3 none [] 4 64)  : ∀ (x0 : Nat) (h : Hp) (H : Heap) (locs : List Loc) (cells slots : Nat) (ls : Array Slot), HP D Hs h H → LO Hs locs → lv_has ls 3 [(0, rv x0)] → f_X5_looks x0 h = some rr → W p l e R s m args below meth c H locs cells slots (ZM D Hs iV rr below args s) (F0 m 0 ls []) := by
  obtain ⟨⟨hx, hb, hml, hown, hts⟩, -⟩ := id C
  have hl9 := C.2.1.2.2.1
  intro x0 h H locs cells slots ls hH hL hl hrun
  unfold f_X5_looks at hrun
  refine V_aload_n (pc := 0) hx hb dX5_looks_0 rfl (lv_at hl 0 rfl) ?_
  obtain ⟨c25, hrun⟩ := gd_some hrun
  refine V_getL (pc := 1) C hH fr_X5_147 dX5_looks_1 c25 rfl ?_
  refine lv_lconst (v := (0 : Int64)) (pc := 4) hx hb dX5_looks_4 (by decide) ?_
  refine V_lcmp_le (tgt := 40) (pc := 5) hx hb dX5_looks_5 dX5_looks_6 (by decide) (fun c_ => ?_) (fun c_ => ?_)
  · have hrun := ite_t hrun c_
    exact b_X5_looks_40 C x0 h H locs cells slots ls hH hL (lv_sub hl [0] rfl) hrun
  · have hrun := ite_f hrun c_
    refine V_aload_n (pc := 9) hx hb dX5_looks_9 rfl (lv_at hl 0 rfl) ?_
    refine V_aload_n (pc := 10) hx hb dX5_looks_10 rfl (lv_at hl 0 rfl) ?_
    refine V_getR (pc := 11) C hH fr_X5_3 dX5_looks_11 c25 rfl ?_
    obtain ⟨c26, hrun⟩ := gd_some hrun
    refine V_getNI (pc := 14) C hH fn_X5_140 dX5_looks_14 c26 rfl ?_
    refine V_bd (pc := 17) C hL rfl hrun (fun rr1 e1 => Z_runV (rest := []) C hH (m_X5_age hl9 e1) wV_X5_143 c25 rfl (by decide) rfl rfl ⟨by decide, by decide⟩ rfl (Nat.le_of_ble_eq_true rfl) hl.1 dX5_looks_17) (fun v27 h28 H locs cells slots hH hL hrun => ?_)
    refine lv_bipush (v := (18 : Int32)) (pc := 20) hx hb dX5_looks_20 (by decide) ?_
    refine lv_icmp_lt (tgt := 40) (pc := 22) hx hb dX5_looks_22 (by decide) (fun c_ => ?_) (fun c_ => ?_)
    · have hrun := ite_t hrun c_
      exact b_X5_looks_40 C x0 h28 H locs cells slots ls hH hL (lv_sub hl [0] rfl) hrun
    · have hrun := ite_f hrun c_
      refine V_aload_n (pc := 25) hx hb dX5_looks_25 rfl (lv_at hl 0 rfl) ?_
      obtain ⟨c29, hrun⟩ := gd_some hrun
      refine V_getL (pc := 26) C hH fr_X5_147 dX5_looks_26 c29 rfl ?_
      refine lv_topl (fun v30 ev30 => ?_)
      have hrun := vl_at hrun v30 ev30
      refine lv_lstore_n (i := 1) (lv' := [(1, .long v30), (0, rv x0)]) (pc := 29) hx hb dX5_looks_29 rfl hl (by decide) (by simp [rv_cat, cat_i, cat_l, cat_f, cat_d]) (fun ls hl => ?_)
      refine V_aload_n (pc := 30) hx hb dX5_looks_30 rfl (lv_at hl 1 rfl) ?_
      refine lv_lconst (v := (0 : Int64)) (pc := 31) hx hb dX5_looks_31 (by decide) ?_
      refine V_putL (pc := 32) C hH hL fl_X5_147 dX5_looks_32 c29 (fok_l _) rfl (fun q => Bool.noConfusion q) hrun (fun h31 H locs hH hL hrun => ?_)
      refine V_aload_n (pc := 35) hx hb dX5_looks_35 rfl (lv_at hl 1 rfl) ?_
      refine lv_lload_n (pc := 36) hx hb dX5_looks_36 rfl (lv_at hl 0 rfl) ?_
      obtain ⟨c34, hrun⟩ := gd_some hrun
      refine V_bd (pc := 37) C hL rfl hrun (fun rr1 e1 => Z_runV (rest := []) C hH (m_X5_gets hl9 e1) wV_X5_136 c34 rfl (by decide) rfl rfl ⟨by decide, by decide⟩ rfl (Nat.le_of_ble_eq_true rfl) hl.1 dX5_looks_37) (fun _ h33 H locs cells slots hH hL hrun => ?_)
      exact b_X5_looks_40 C x0 h33 H locs cells slots ls hH hL (lv_sub hl [1] rfl) hrun

theorem m_X5_looks {l : Launch} {D : va_G} {Hs : Heap} {h : Hp} {rr : (Unit ⊕ Ex) × Hp} (hl9 : l.stackTraces = false) {x0 : Nat} (hrun : f_X5_looks x0 h = some rr) : CM l yX5_looks (ws_ yX5_looks cX5_looks 3 none) 4 64 iV [rv x0] D Hs h rr := by
  refine CM.of (lv := [(0, rv x0)]) (plainFor_of_name (by decide)) hl9 (by simp [lv_args, rv_cat, cat_i, cat_l, cat_f, cat_d]) (by simp [lg_sl, rv_cat, cat_i, cat_l, cat_f, cat_d]) ?_
  intro p e R s m args below meth c H ls C hH hl hin
  exact b_X5_looks C x0 _ H [] _ _ ls hH (fun _ q => nomatch q) (lv_sub hl [0] rfl) hrun
end WK0

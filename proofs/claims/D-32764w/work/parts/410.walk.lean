section WK10
variable {p : Program} {l : Launch} {e : Env} {R : Room} {s : State} {m : MethodId} {args : Array Value} {below : List Frame} {meth : Method} {c : Code} {D : va_G} {Hs : Heap} {F X : Nat}
/-! MassclaimModel.vote(IZ)I -/
def f_X4_vote_121 (k84 : Nat → Int32 → Int32 → Hp → Rt Int32) (x0 : Nat) (x5 : Int32) (y0 : Int32) (y1 : Int32) (h : Hp) : Rt Int32 :=
  vl (y0 + y1) fun v1 => vl (x5 + (1 : Int32)) fun v2 => k84 x0 v1 v2 h
def f_X4_vote_84  : Nat → Nat → Int32 → Int32 → Hp → Rt Int32
  | 0, _, _, _, _ => none
  | n + 1, x0, x4, x5, h => gd (kC h x0 = 4) <| gd (kC h (kR h 302 x0) = 18) <| bd (f_J2_size (kR h 302 x0) h) fun v4 h5 => if v4 ≤ x5 then
  (some (.inl x4, h5))
  else
  (gd (kC h5 x0 = 4) <| gd (kC h5 (kR h5 302 x0) = 18) <| bd (f_J2_get (kR h5 302 x0) x5 h5) fun v8 h9 => gd (v8 = 0 ∨ kC h9 v8 = 6) <| gd (kC h9 v8 = 6) <| if (kI h9 515 v8) = 0 then
  (f_X4_vote_121 (f_X4_vote_84 n) x0 x5 x4 (0 : Int32) h9)
  else
  (f_X4_vote_121 (f_X4_vote_84 n) x0 x5 x4 (1 : Int32) h9))
def f_X4_vote_75  (x0 : Nat) (y0 : Nat) (y1 : Int32) (h : Hp) : Rt Int32 :=
  gd (kC h y0 = 6) <| vl (sI h 515 y0 y1) fun h14 => f_X4_vote_84 FU x0 (0 : Int32) (0 : Int32) h14
def f_X4_vote_56  (x0 : Nat) (x2 : Int32) (x3 : Nat) (y0 : Nat) (y1 : Int32) (h : Hp) : Rt Int32 :=
  gd (kC h y0 = 4) <| bd (f_X4_isGood y0 y1 (2 : Int32) h) fun v15 h16 => if v15 = 0 then
  (some (.inl (0 : Int32), h16))
  else
  (if x2 = 0 then
  (f_X4_vote_75 x0 x3 (2 : Int32) h16)
  else
  (f_X4_vote_75 x0 x3 (1 : Int32) h16))
def f_X4_vote_55  (x0 : Nat) (x2 : Int32) (x3 : Nat) (y0 : Nat) (h : Hp) : Rt Int32 :=
  f_X4_vote_56 x0 x2 x3 y0 (0 : Int32) h
def f_X4_vote  (x0 : Nat) (x1 : Int32) (x2 : Int32) (h : Hp) : Rt Int32 :=
  gd (kC h x0 = 4) <| bd (f_X4_isPerson x0 x1 h) fun v18 h19 => gd (kC h19 x0 = 4) <| bd (f_X4_isGood x0 v18 (1 : Int32) h19) fun v21 h22 => if v21 = 0 then
  (some (.inl (0 : Int32), h22))
  else
  (gd (kC h22 x0 = 4) <| gd (kC h22 (kR h22 302 x0) = 18) <| bd (f_J2_get (kR h22 302 x0) x1 h22) fun v25 h26 => gd (v25 = 0 ∨ kC h26 v25 = 6) <| gd (kC h26 x0 = 4) <| bd (f_X4_isIn x0 v25 h26) fun v29 h30 => if v29 = 0 then
  (f_X4_vote_55 x0 x2 v25 x0 h30)
  else
  (gd (kC h30 v25 = 6) <| if (kI h30 515 v25) = 0 then
  (gd (kC h30 x0 = 4) <| if (kI h30 309 x0) = (2 : Int32) then
  (f_X4_vote_56 x0 x2 v25 x0 (1 : Int32) h30)
  else
  (f_X4_vote_55 x0 x2 v25 x0 h30))
  else
  (f_X4_vote_55 x0 x2 v25 x0 h30)))
theorem b_X4_vote_121 {rr : (Int32 ⊕ Ex) × Hp} {k84 : Nat → Int32 → Int32 → Hp → Rt Int32} (C : CX p l R s m args meth c D Hs cX4_vote "MassclaimModel" 6 (some .int) [] 4 64) (K84 : ∀ (x0 : Nat) (x4 : Int32) (x5 : Int32) (h : Hp) (H : Heap) (locs : List Loc) (cells slots : Nat) (ls : Array Slot), HP D Hs h H → LO Hs locs → lv_has ls 6 [(0, rv x0), (4, .int x4), (5, .int x5)] → k84 x0 x4 x5 h = some rr → W p l e R s m args below meth c H locs cells slots (ZM D Hs iI rr below args s) (F0 m 84 ls [])) : ∀ (x0 : Nat) (x5 : Int32) (y0 : Int32) (y1 : Int32) (h : Hp) (H : Heap) (locs : List Loc) (cells slots : Nat) (ls : Array Slot), HP D Hs h H → LO Hs locs → lv_has ls 6 [(0, rv x0), (5, .int x5)] → f_X4_vote_121 k84 x0 x5 y0 y1 h = some rr → W p l e R s m args below meth c H locs cells slots (ZM D Hs iI rr below args s) (F0 m 121 ls [.int y1, .int y0]) := by
  obtain ⟨⟨hx, hb, hml, hown, hts⟩, -⟩ := id C
  have hl9 := C.2.1.2.2.1
  intro x0 x5 y0 y1 h H locs cells slots ls hH hL hl hrun
  unfold f_X4_vote_121 at hrun
  refine lv_iadd (pc := 121) hx hb dX4_vote_121 ?_
  refine lv_topi (fun v1 ev1 => ?_)
  have hrun := vl_at hrun v1 ev1
  refine lv_istore (i := 4) (lv' := [(4, .int v1), (0, rv x0), (5, .int x5)]) (pc := 122) hx hb dX4_vote_122 hl (by decide) rfl (fun ls hl => ?_)
  obtain ⟨v2, ev2⟩ : ∃ y : Int32, y = x5 + (1 : Int32) := ⟨_, rfl⟩
  have hrun := vl_at hrun v2 ev2
  refine lv_iinc (v := v2) (lv' := [(5, .int v2), (4, .int v1), (0, rv x0)]) (pc := 124) hx hb dX4_vote_124 hl (k := 2) rfl (by rw [ev2]; rfl) (by decide) (by first | rfl | simp [rv_cat, cat_i, cat_l, cat_f, cat_d]) (fun ls hl => ?_)
  refine lv_goto (tgt := 84) (pc := 127) hx hb dX4_vote_127 (by decide) ?_
  exact K84 x0 v1 v2 h H locs cells slots ls hH hL (lv_sub hl [2, 1, 0] rfl) hrun

theorem b_X4_vote_84 {rr : (Int32 ⊕ Ex) × Hp}  (C : CX p l R s m args meth c D Hs cX4_vote "MassclaimModel" 6 (some .int) [] 4 64)  : ∀ (n : Nat) (x0 : Nat) (x4 : Int32) (x5 : Int32) (h : Hp) (H : Heap) (locs : List Loc) (cells slots : Nat) (ls : Array Slot), HP D Hs h H → LO Hs locs → lv_has ls 6 [(0, rv x0), (4, .int x4), (5, .int x5)] → f_X4_vote_84 n x0 x4 x5 h = some rr → W p l e R s m args below meth c H locs cells slots (ZM D Hs iI rr below args s) (F0 m 84 ls []) := by
  obtain ⟨⟨hx, hb, hml, hown, hts⟩, -⟩ := id C
  have hl9 := C.2.1.2.2.1
  intro n
  induction n with
  | zero =>
    intro x0 x4 x5 h H locs cells slots ls hH hL hl hrun
    cases (show (none : Option _) = some rr from hrun)
  | succ n ih =>
    intro x0 x4 x5 h H locs cells slots ls hH hL hl hrun
    rw [f_X4_vote_84] at hrun
    refine lv_iload (pc := 84) hx hb dX4_vote_84 (lv_at hl 2 rfl) ?_
    refine V_aload_n (pc := 86) hx hb dX4_vote_86 rfl (lv_at hl 0 rfl) ?_
    obtain ⟨c3, hrun⟩ := gd_some hrun
    refine V_getR (pc := 87) C hH fr_X4_16 dX4_vote_87 c3 rfl ?_
    obtain ⟨c6, hrun⟩ := gd_some hrun
    refine V_bd (pc := 90) C hL rfl hrun (fun rr1 e1 => Z_runV (rest := [.int x5]) C hH (m_J2_size hl9 e1) wV_X4_94 c6 rfl (by decide) rfl rfl ⟨by decide, by decide⟩ rfl (Nat.le_of_ble_eq_true rfl) hl.1 dX4_vote_90) (fun v4 h5 H locs cells slots hH hL hrun => ?_)
    refine lv_icmp_ge (tgt := 130) (pc := 93) hx hb dX4_vote_93 (by decide) (fun c_ => ?_) (fun c_ => ?_)
    · have hrun := ite_t hrun c_
      refine lv_iload (pc := 130) hx hb dX4_vote_130 (lv_at hl 1 rfl) ?_
      exact V_iret (pc := 132) C hH hL hrun dX4_vote_132
    · have hrun := ite_f hrun c_
      refine lv_iload (pc := 96) hx hb dX4_vote_96 (lv_at hl 1 rfl) ?_
      refine V_aload_n (pc := 98) hx hb dX4_vote_98 rfl (lv_at hl 0 rfl) ?_
      obtain ⟨c7, hrun⟩ := gd_some hrun
      refine V_getR (pc := 99) C hH fr_X4_16 dX4_vote_99 c7 rfl ?_
      refine lv_iload (pc := 102) hx hb dX4_vote_102 (lv_at hl 2 rfl) ?_
      obtain ⟨c10, hrun⟩ := gd_some hrun
      refine V_bd (pc := 104) C hL rfl hrun (fun rr1 e1 => Z_runV (rest := [.int x4]) C hH (m_J2_get hl9 e1) wV_X4_108 c10 rfl (by decide) rfl rfl ⟨by decide, by decide⟩ rfl (Nat.le_of_ble_eq_true rfl) hl.1 dX4_vote_104) (fun v8 h9 H locs cells slots hH hL hrun => ?_)
      obtain ⟨c11, hrun⟩ := gd_some hrun
      refine V_castX (pc := 107) (ci := 5) C hH rfl (by decide) q1946 dX4_vote_107 c11 ?_
      obtain ⟨c12, hrun⟩ := gd_some hrun
      refine V_getI (pc := 110) C hH fr_X4_341 dX4_vote_110 c12 rfl ?_
      refine lv_if_eq (tgt := 120) (pc := 113) hx hb dX4_vote_113 (by decide) (fun c_ => ?_) (fun c_ => ?_)
      · have hrun := ite_t hrun c_
        refine lv_iconst (v := (0 : Int32)) (pc := 120) hx hb dX4_vote_120 (by decide) ?_
        exact b_X4_vote_121 C ih x0 x5 x4 (0 : Int32) h9 H locs cells slots ls hH hL (lv_sub hl [0, 2] rfl) hrun
      · have hrun := ite_f hrun c_
        refine lv_iconst (v := (1 : Int32)) (pc := 116) hx hb dX4_vote_116 (by decide) ?_
        refine lv_goto (tgt := 121) (pc := 117) hx hb dX4_vote_117 (by decide) ?_
        exact b_X4_vote_121 C ih x0 x5 x4 (1 : Int32) h9 H locs cells slots ls hH hL (lv_sub hl [0, 2] rfl) hrun

theorem b_X4_vote_75 {rr : (Int32 ⊕ Ex) × Hp}  (C : CX p l R s m args meth c D Hs cX4_vote "MassclaimModel" 6 (some .int) [] 4 64)  : ∀ (x0 : Nat) (y0 : Nat) (y1 : Int32) (h : Hp) (H : Heap) (locs : List Loc) (cells slots : Nat) (ls : Array Slot), HP D Hs h H → LO Hs locs → lv_has ls 6 [(0, rv x0)] → f_X4_vote_75 x0 y0 y1 h = some rr → W p l e R s m args below meth c H locs cells slots (ZM D Hs iI rr below args s) (F0 m 75 ls [.int y1, rv y0]) := by
  obtain ⟨⟨hx, hb, hml, hown, hts⟩, -⟩ := id C
  have hl9 := C.2.1.2.2.1
  intro x0 y0 y1 h H locs cells slots ls hH hL hl hrun
  unfold f_X4_vote_75 at hrun
  obtain ⟨c13, hrun⟩ := gd_some hrun
  refine V_putI (pc := 75) C hH hL fl_X4_341 dX4_vote_75 c13 (fok_i _) rfl (fun q => Bool.noConfusion q) hrun (fun h14 H locs hH hL hrun => ?_)
  refine lv_iconst (v := (0 : Int32)) (pc := 78) hx hb dX4_vote_78 (by decide) ?_
  refine lv_istore (i := 4) (lv' := [(4, .int (0 : Int32)), (0, rv x0)]) (pc := 79) hx hb dX4_vote_79 hl (by decide) rfl (fun ls hl => ?_)
  refine lv_iconst (v := (0 : Int32)) (pc := 81) hx hb dX4_vote_81 (by decide) ?_
  refine lv_istore (i := 5) (lv' := [(5, .int (0 : Int32)), (4, .int (0 : Int32)), (0, rv x0)]) (pc := 82) hx hb dX4_vote_82 hl (by decide) rfl (fun ls hl => ?_)
  exact b_X4_vote_84 C FU x0 (0 : Int32) (0 : Int32) h14 H locs cells slots ls hH hL (lv_sub hl [2, 1, 0] rfl) hrun

theorem b_X4_vote_56 {rr : (Int32 ⊕ Ex) × Hp}  (C : CX p l R s m args meth c D Hs cX4_vote "MassclaimModel" 6 (some .int) [] 4 64)  : ∀ (x0 : Nat) (x2 : Int32) (x3 : Nat) (y0 : Nat) (y1 : Int32) (h : Hp) (H : Heap) (locs : List Loc) (cells slots : Nat) (ls : Array Slot), HP D Hs h H → LO Hs locs → lv_has ls 6 [(0, rv x0), (2, .int x2), (3, rv x3)] → f_X4_vote_56 x0 x2 x3 y0 y1 h = some rr → W p l e R s m args below meth c H locs cells slots (ZM D Hs iI rr below args s) (F0 m 56 ls [.int y1, rv y0]) := by
  obtain ⟨⟨hx, hb, hml, hown, hts⟩, -⟩ := id C
  have hl9 := C.2.1.2.2.1
  intro x0 x2 x3 y0 y1 h H locs cells slots ls hH hL hl hrun
  unfold f_X4_vote_56 at hrun
  refine lv_iconst (v := (2 : Int32)) (pc := 56) hx hb dX4_vote_56 (by decide) ?_
  obtain ⟨c17, hrun⟩ := gd_some hrun
  refine V_bd (pc := 57) C hL rfl hrun (fun rr1 e1 => Z_runV (rest := []) C hH (m_X4_isGood hl9 e1) wV_X4_104 c17 rfl (by decide) rfl rfl ⟨by decide, by decide⟩ rfl (Nat.le_of_ble_eq_true rfl) hl.1 dX4_vote_57) (fun v15 h16 H locs cells slots hH hL hrun => ?_)
  refine lv_if_ne (tgt := 65) (pc := 60) hx hb dX4_vote_60 (by decide) (fun c_ => ?_) (fun c_ => ?_)
  · have hrun := ite_f hrun c_
    refine V_aload_n (pc := 65) hx hb dX4_vote_65 rfl (lv_at hl 2 rfl) ?_
    refine lv_iload_n (pc := 66) hx hb dX4_vote_66 rfl (lv_at hl 1 rfl) ?_
    refine lv_if_eq (tgt := 74) (pc := 67) hx hb dX4_vote_67 (by decide) (fun c_ => ?_) (fun c_ => ?_)
    · have hrun := ite_t hrun c_
      refine lv_iconst (v := (2 : Int32)) (pc := 74) hx hb dX4_vote_74 (by decide) ?_
      exact b_X4_vote_75 C x0 x3 (2 : Int32) h16 H locs cells slots ls hH hL (lv_sub hl [0] rfl) hrun
    · have hrun := ite_f hrun c_
      refine lv_iconst (v := (1 : Int32)) (pc := 70) hx hb dX4_vote_70 (by decide) ?_
      refine lv_goto (tgt := 75) (pc := 71) hx hb dX4_vote_71 (by decide) ?_
      exact b_X4_vote_75 C x0 x3 (1 : Int32) h16 H locs cells slots ls hH hL (lv_sub hl [0] rfl) hrun
  · have hrun := ite_t hrun c_
    refine lv_iconst (v := (0 : Int32)) (pc := 63) hx hb dX4_vote_63 (by decide) ?_
    exact V_iret (pc := 64) C hH hL hrun dX4_vote_64

theorem b_X4_vote_55 {rr : (Int32 ⊕ Ex) × Hp}  (C : CX p l R s m args meth c D Hs cX4_vote "MassclaimModel" 6 (some .int) [] 4 64)  : ∀ (x0 : Nat) (x2 : Int32) (x3 : Nat) (y0 : Nat) (h : Hp) (H : Heap) (locs : List Loc) (cells slots : Nat) (ls : Array Slot), HP D Hs h H → LO Hs locs → lv_has ls 6 [(0, rv x0), (2, .int x2), (3, rv x3)] → f_X4_vote_55 x0 x2 x3 y0 h = some rr → W p l e R s m args below meth c H locs cells slots (ZM D Hs iI rr below args s) (F0 m 55 ls [rv y0]) := by
  obtain ⟨⟨hx, hb, hml, hown, hts⟩, -⟩ := id C
  have hl9 := C.2.1.2.2.1
  intro x0 x2 x3 y0 h H locs cells slots ls hH hL hl hrun
  unfold f_X4_vote_55 at hrun
  refine lv_iconst (v := (0 : Int32)) (pc := 55) hx hb dX4_vote_55 (by decide) ?_
  exact b_X4_vote_56 C x0 x2 x3 y0 (0 : Int32) h H locs cells slots ls hH hL (lv_sub hl [0, 1, 2] rfl) hrun

theorem b_X4_vote {rr : (Int32 ⊕ Ex) × Hp}  (C : CX p l R s m args meth c D Hs cX4_vote "MassclaimModel" 6 (some .int) [] 4 64)  : ∀ (x0 : Nat) (x1 : Int32) (x2 : Int32) (h : Hp) (H : Heap) (locs : List Loc) (cells slots : Nat) (ls : Array Slot), HP D Hs h H → LO Hs locs → lv_has ls 6 [(0, rv x0), (1, .int x1), (2, .int x2)] → f_X4_vote x0 x1 x2 h = some rr → W p l e R s m args below meth c H locs cells slots (ZM D Hs iI rr below args s) (F0 m 0 ls []) := by
  obtain ⟨⟨hx, hb, hml, hown, hts⟩, -⟩ := id C
  have hl9 := C.2.1.2.2.1
  intro x0 x1 x2 h H locs cells slots ls hH hL hl hrun
  unfold f_X4_vote at hrun
  refine V_aload_n (pc := 0) hx hb dX4_vote_0 rfl (lv_at hl 0 rfl) ?_
  refine V_aload_n (pc := 1) hx hb dX4_vote_1 rfl (lv_at hl 0 rfl) ?_
  refine lv_iload_n (pc := 2) hx hb dX4_vote_2 rfl (lv_at hl 1 rfl) ?_
  obtain ⟨c20, hrun⟩ := gd_some hrun
  refine V_bd (pc := 3) C hL rfl hrun (fun rr1 e1 => Z_runV (rest := [rv x0]) C hH (m_X4_isPerson hl9 e1) wV_X4_190 c20 rfl (by decide) rfl rfl ⟨by decide, by decide⟩ rfl (by simp [csum, rv_cat, cat_i, cat_l, cat_f, cat_d]) hl.1 dX4_vote_3) (fun v18 h19 H locs cells slots hH hL hrun => ?_)
  refine lv_iconst (v := (1 : Int32)) (pc := 6) hx hb dX4_vote_6 (by decide) ?_
  obtain ⟨c23, hrun⟩ := gd_some hrun
  refine V_bd (pc := 7) C hL rfl hrun (fun rr1 e1 => Z_runV (rest := []) C hH (m_X4_isGood hl9 e1) wV_X4_104 c23 rfl (by decide) rfl rfl ⟨by decide, by decide⟩ rfl (Nat.le_of_ble_eq_true rfl) hl.1 dX4_vote_7) (fun v21 h22 H locs cells slots hH hL hrun => ?_)
  refine lv_if_ne (tgt := 15) (pc := 10) hx hb dX4_vote_10 (by decide) (fun c_ => ?_) (fun c_ => ?_)
  · have hrun := ite_f hrun c_
    refine V_aload_n (pc := 15) hx hb dX4_vote_15 rfl (lv_at hl 0 rfl) ?_
    obtain ⟨c24, hrun⟩ := gd_some hrun
    refine V_getR (pc := 16) C hH fr_X4_16 dX4_vote_16 c24 rfl ?_
    refine lv_iload_n (pc := 19) hx hb dX4_vote_19 rfl (lv_at hl 1 rfl) ?_
    obtain ⟨c27, hrun⟩ := gd_some hrun
    refine V_bd (pc := 20) C hL rfl hrun (fun rr1 e1 => Z_runV (rest := []) C hH (m_J2_get hl9 e1) wV_X4_108 c27 rfl (by decide) rfl rfl ⟨by decide, by decide⟩ rfl (Nat.le_of_ble_eq_true rfl) hl.1 dX4_vote_20) (fun v25 h26 H locs cells slots hH hL hrun => ?_)
    obtain ⟨c28, hrun⟩ := gd_some hrun
    refine V_castX (pc := 23) (ci := 5) C hH rfl (by decide) q1946 dX4_vote_23 c28 ?_
    refine V_astore_n (i := 3) (lv' := [(3, rv v25), (0, rv x0), (1, .int x1), (2, .int x2)]) (pc := 26) hx hb dX4_vote_26 rfl hl (by decide) rfl (fun ls hl => ?_)
    refine V_aload_n (pc := 27) hx hb dX4_vote_27 rfl (lv_at hl 1 rfl) ?_
    refine V_aload_n (pc := 28) hx hb dX4_vote_28 rfl (lv_at hl 1 rfl) ?_
    refine V_aload_n (pc := 29) hx hb dX4_vote_29 rfl (lv_at hl 0 rfl) ?_
    obtain ⟨c31, hrun⟩ := gd_some hrun
    refine V_bd (pc := 30) C hL rfl hrun (fun rr1 e1 => Z_runV (rest := [rv x0]) C hH (m_X4_isIn hl9 e1) wV_X4_120 c31 rfl (by decide) rfl rfl ⟨by decide, by decide⟩ rfl (by simp [csum, rv_cat, cat_i, cat_l, cat_f, cat_d]) hl.1 dX4_vote_30) (fun v29 h30 H locs cells slots hH hL hrun => ?_)
    refine lv_if_eq (tgt := 55) (pc := 33) hx hb dX4_vote_33 (by decide) (fun c_ => ?_) (fun c_ => ?_)
    · have hrun := ite_t hrun c_
      exact b_X4_vote_55 C x0 x2 v25 x0 h30 H locs cells slots ls hH hL (lv_sub hl [1, 3, 0] rfl) hrun
    · have hrun := ite_f hrun c_
      refine V_aload_n (pc := 36) hx hb dX4_vote_36 rfl (lv_at hl 0 rfl) ?_
      obtain ⟨c32, hrun⟩ := gd_some hrun
      refine V_getI (pc := 37) C hH fr_X4_341 dX4_vote_37 c32 rfl ?_
      refine lv_if_ne (tgt := 55) (pc := 40) hx hb dX4_vote_40 (by decide) (fun c_ => ?_) (fun c_ => ?_)
      · have hrun := ite_f hrun c_
        exact b_X4_vote_55 C x0 x2 v25 x0 h30 H locs cells slots ls hH hL (lv_sub hl [1, 3, 0] rfl) hrun
      · have hrun := ite_t hrun c_
        refine V_aload_n (pc := 43) hx hb dX4_vote_43 rfl (lv_at hl 1 rfl) ?_
        obtain ⟨c33, hrun⟩ := gd_some hrun
        refine V_getI (pc := 44) C hH fr_X4_53 dX4_vote_44 c33 rfl ?_
        refine lv_iconst (v := (2 : Int32)) (pc := 47) hx hb dX4_vote_47 (by decide) ?_
        refine lv_icmp_ne (tgt := 55) (pc := 48) hx hb dX4_vote_48 (by decide) (fun c_ => ?_) (fun c_ => ?_)
        · have hrun := ite_f hrun c_
          exact b_X4_vote_55 C x0 x2 v25 x0 h30 H locs cells slots ls hH hL (lv_sub hl [1, 3, 0] rfl) hrun
        · have hrun := ite_t hrun c_
          refine lv_iconst (v := (1 : Int32)) (pc := 51) hx hb dX4_vote_51 (by decide) ?_
          refine lv_goto (tgt := 56) (pc := 52) hx hb dX4_vote_52 (by decide) ?_
          exact b_X4_vote_56 C x0 x2 v25 x0 (1 : Int32) h30 H locs cells slots ls hH hL (lv_sub hl [1, 3, 0] rfl) hrun
  · have hrun := ite_t hrun c_
    refine lv_iconst (v := (0 : Int32)) (pc := 13) hx hb dX4_vote_13 (by decide) ?_
    exact V_iret (pc := 14) C hH hL hrun dX4_vote_14

theorem m_X4_vote {l : Launch} {D : va_G} {Hs : Heap} {h : Hp} {rr : (Int32 ⊕ Ex) × Hp} (hl9 : l.stackTraces = false) {x0 : Nat} {x1 : Int32} {x2 : Int32} (hrun : f_X4_vote x0 x1 x2 h = some rr) : CM l yX4_vote (ws_ yX4_vote cX4_vote 6 (some .int)) 4 64 iI [rv x0, .int x1, .int x2] D Hs h rr := by
  refine CM.of (lv := [(0, rv x0), (1, .int x1), (2, .int x2)]) (plainFor_of_name (by decide)) hl9 (by simp [lv_args, rv_cat, cat_i, cat_l, cat_f, cat_d]) (by simp [lg_sl, rv_cat, cat_i, cat_l, cat_f, cat_d]) ?_
  intro p e R s m args below meth c H ls C hH hl hin
  exact b_X4_vote C x0 x1 x2 _ H [] _ _ ls hH (fun _ q => nomatch q) (lv_sub hl [0, 1, 2] rfl) hrun

/-! Massclaim.object(II)I -/
def f_X1_object_152 (k115 : Int32 → Nat → Hp → Rt Int32) (x5 : Nat) (y0 : Int32) (y1 : Int32) (h : Hp) : Rt Int32 :=
  vl (y0 + y1) fun v1 => k115 v1 x5 h
def f_X1_object_115  : Nat → Int32 → Nat → Hp → Rt Int32
  | 0, _, _, _ => none
  | n + 1, x4, x5, h => gd (kC h x5 = 19) <| bd (f_J16_hasNext x5 h) fun v2 h3 => if v2 = 0 then
  (some (.inl x4, h3))
  else
  (gd (kC h3 x5 = 19) <| bd (f_J16_next x5 h3) fun v5 h6 => gd (v5 = 0 ∨ kC h6 v5 = 5) <| gd (kC h6 v5 = 5) <| if (kI h6 414 v5) = 0 then
  (f_X1_object_152 (f_X1_object_115 n) x5 x4 (0 : Int32) h6)
  else
  (f_X1_object_152 (f_X1_object_115 n) x5 x4 (1 : Int32) h6))
def f_X1_object_100  (x0 : Nat) (y0 : Nat) (y1 : Int32) (h : Hp) : Rt Int32 :=
  gd (kC h y0 = 10) <| gd (b01 y1) <| vl (sI h 905 y0 y1) fun h12 => gd (kC h12 x0 = 1) <| gd (kC h12 (kR h12 0 x0) = 2) <| bd (f_X2_iterator (kR h12 0 x0) h12) fun v14 h15 => f_X1_object_115 FU (0 : Int32) v14 h15
def f_X1_object_95  (x0 : Nat) (y0 : Nat) (h : Hp) : Rt Int32 :=
  f_X1_object_100 x0 y0 (1 : Int32) h
def f_X1_object_73  (x0 : Nat) (x2 : Int32) (y0 : Nat) (y1 : Int32) (h : Hp) : Rt Int32 :=
  gd (kC h y0 = 5) <| gd (b01 y1) <| vl (sI h 414 y0 y1) fun h19 => gd (kC h19 x0 = 1) <| gd (kC h19 (kR h19 9 x0) = 10) <| if (kI h19 905 (kR h19 9 x0)) = 0 then
  (if x2 = (2 : Int32) then
  (f_X1_object_95 x0 (kR h19 9 x0) h19)
  else
  (f_X1_object_100 x0 (kR h19 9 x0) (0 : Int32) h19))
  else
  (f_X1_object_95 x0 (kR h19 9 x0) h19)
def f_X1_object_60  (x0 : Nat) (x2 : Int32) (x3 : Nat) (y0 : Int32) (h : Hp) : Rt Int32 :=
  bd (f_X1_requireState y0 h) fun _ h23 => if x2 = 0 then
  (f_X1_object_73 x0 x2 x3 (1 : Int32) h23)
  else
  (f_X1_object_73 x0 x2 x3 (0 : Int32) h23)
def f_X1_object_59  (x0 : Nat) (x2 : Int32) (x3 : Nat) (h : Hp) : Rt Int32 :=
  f_X1_object_60 x0 x2 x3 (0 : Int32) h
def f_X1_object_52  (x0 : Nat) (x2 : Int32) (x3 : Nat) (y0 : Int32) (y1 : Int32) (h : Hp) : Rt Int32 :=
  if y0 = y1 then
  (f_X1_object_60 x0 x2 x3 (1 : Int32) h)
  else
  (f_X1_object_59 x0 x2 x3 h)
def f_X1_object  (x0 : Nat) (x1 : Int32) (x2 : Int32) (h : Hp) : Rt Int32 :=
  gd (kC h x0 = 1) <| gd (kC h (kR h 0 x0) = 2) <| bd (f_X2_at (kR h 0 x0) x1 h) fun v25 h26 => gd (v25 = 0 ∨ kC h26 v25 = 5) <| bd (f_X1_isIn (x2.toInt64) (0 : Int64) (2 : Int64) h26) fun v29 h30 => bd (f_X1_requireArgument v29 h30) fun _ h32 => gd (kC h32 v25 = 5) <| bd (f_X5_isMember v25 h32) fun v33 h34 => if v33 = 0 then
  (f_X1_object_59 x0 x2 v25 h34)
  else
  (gd (kC h34 x0 = 1) <| bd (f_X1_stage x0 h34) fun v36 h37 => if v36 = (2 : Int32) then
  (gd (kC h37 v25 = 5) <| if x2 ≤ 0 then
  (f_X1_object_52 x0 x2 v25 (kI h37 414 v25) (0 : Int32) h37)
  else
  (f_X1_object_52 x0 x2 v25 (kI h37 414 v25) (1 : Int32) h37))
  else
  (f_X1_object_59 x0 x2 v25 h37))
theorem b_X1_object_152 {rr : (Int32 ⊕ Ex) × Hp} {k115 : Int32 → Nat → Hp → Rt Int32} (C : CX p l R s m args meth c D Hs cX1_object "Massclaim" 7 (some .int) [] 8 131) (K115 : ∀ (x4 : Int32) (x5 : Nat) (h : Hp) (H : Heap) (locs : List Loc) (cells slots : Nat) (ls : Array Slot), HP D Hs h H → LO Hs locs → lv_has ls 7 [(4, .int x4), (5, rv x5)] → k115 x4 x5 h = some rr → W p l e R s m args below meth c H locs cells slots (ZM D Hs iI rr below args s) (F0 m 115 ls [])) : ∀ (x5 : Nat) (y0 : Int32) (y1 : Int32) (h : Hp) (H : Heap) (locs : List Loc) (cells slots : Nat) (ls : Array Slot), HP D Hs h H → LO Hs locs → lv_has ls 7 [(5, rv x5)] → f_X1_object_152 k115 x5 y0 y1 h = some rr → W p l e R s m args below meth c H locs cells slots (ZM D Hs iI rr below args s) (F0 m 152 ls [.int y1, .int y0]) := by
  obtain ⟨⟨hx, hb, hml, hown, hts⟩, -⟩ := id C
  have hl9 := C.2.1.2.2.1
  intro x5 y0 y1 h H locs cells slots ls hH hL hl hrun
  unfold f_X1_object_152 at hrun
  refine lv_iadd (pc := 152) hx hb dX1_object_152 ?_
  refine lv_topi (fun v1 ev1 => ?_)
  have hrun := vl_at hrun v1 ev1
  refine lv_istore (i := 4) (lv' := [(4, .int v1), (5, rv x5)]) (pc := 153) hx hb dX1_object_153 hl (by decide) rfl (fun ls hl => ?_)
  refine lv_goto (tgt := 115) (pc := 155) hx hb dX1_object_155 (by decide) ?_
  exact K115 v1 x5 h H locs cells slots ls hH hL (lv_sub hl [0, 1] rfl) hrun

theorem b_X1_object_115 {rr : (Int32 ⊕ Ex) × Hp}  (C : CX p l R s m args meth c D Hs cX1_object "Massclaim" 7 (some .int) [] 8 131)  : ∀ (n : Nat) (x4 : Int32) (x5 : Nat) (h : Hp) (H : Heap) (locs : List Loc) (cells slots : Nat) (ls : Array Slot), HP D Hs h H → LO Hs locs → lv_has ls 7 [(4, .int x4), (5, rv x5)] → f_X1_object_115 n x4 x5 h = some rr → W p l e R s m args below meth c H locs cells slots (ZM D Hs iI rr below args s) (F0 m 115 ls []) := by
  obtain ⟨⟨hx, hb, hml, hown, hts⟩, -⟩ := id C
  have hl9 := C.2.1.2.2.1
  intro n
  induction n with
  | zero =>
    intro x4 x5 h H locs cells slots ls hH hL hl hrun
    cases (show (none : Option _) = some rr from hrun)
  | succ n ih =>
    intro x4 x5 h H locs cells slots ls hH hL hl hrun
    rw [f_X1_object_115] at hrun
    refine V_aload (pc := 115) hx hb dX1_object_115 (lv_at hl 1 rfl) ?_
    obtain ⟨c4, hrun⟩ := gd_some hrun
    refine V_bd5 (pc := 117) C hL rfl hrun (fun rr1 e1 => Z_runF (rest := []) C hH (m_J16_hasNext hl9 e1) rfl wF_X1_212_J16 c4 (by decide) rfl ⟨by decide, by decide⟩ rfl (Nat.le_of_ble_eq_true rfl) hl.1 dX1_object_117) (fun v2 h3 H locs cells slots hH hL hrun => ?_)
    refine lv_if_eq (tgt := 158) (pc := 122) hx hb dX1_object_122 (by decide) (fun c_ => ?_) (fun c_ => ?_)
    · have hrun := ite_t hrun c_
      refine lv_iload (pc := 158) hx hb dX1_object_158 (lv_at hl 0 rfl) ?_
      exact V_iret (pc := 160) C hH hL hrun dX1_object_160
    · have hrun := ite_f hrun c_
      refine V_aload (pc := 125) hx hb dX1_object_125 (lv_at hl 1 rfl) ?_
      obtain ⟨c7, hrun⟩ := gd_some hrun
      refine V_bd5 (pc := 127) C hL rfl hrun (fun rr1 e1 => Z_runF (rest := []) C hH (m_J16_next hl9 e1) rfl wF_X1_217_J16 c7 (by decide) rfl ⟨by decide, by decide⟩ rfl (Nat.le_of_ble_eq_true rfl) hl.1 dX1_object_127) (fun v5 h6 H locs cells slots hH hL hrun => ?_)
      obtain ⟨c8, hrun⟩ := gd_some hrun
      refine V_castX (pc := 132) (ci := 4) C hH rfl (by decide) q376 dX1_object_132 c8 ?_
      refine V_astore (i := 6) (lv' := [(6, rv v5), (4, .int x4), (5, rv x5)]) (pc := 135) hx hb dX1_object_135 hl (by decide) (by simp [rv_cat, cat_i, cat_l, cat_f, cat_d]) (fun ls hl => ?_)
      refine lv_iload (pc := 137) hx hb dX1_object_137 (lv_at hl 1 rfl) ?_
      refine V_aload (pc := 139) hx hb dX1_object_139 (lv_at hl 0 rfl) ?_
      obtain ⟨c9, hrun⟩ := gd_some hrun
      refine V_getNI (pc := 141) C hH fn_X1_365 dX1_object_141 c9 rfl ?_
      refine lv_if_eq (tgt := 151) (pc := 144) hx hb dX1_object_144 (by decide) (fun c_ => ?_) (fun c_ => ?_)
      · have hrun := ite_t hrun c_
        refine lv_iconst (v := (0 : Int32)) (pc := 151) hx hb dX1_object_151 (by decide) ?_
        exact b_X1_object_152 C ih x5 x4 (0 : Int32) h6 H locs cells slots ls hH hL (lv_sub hl [2] rfl) hrun
      · have hrun := ite_f hrun c_
        refine lv_iconst (v := (1 : Int32)) (pc := 147) hx hb dX1_object_147 (by decide) ?_
        refine lv_goto (tgt := 152) (pc := 148) hx hb dX1_object_148 (by decide) ?_
        exact b_X1_object_152 C ih x5 x4 (1 : Int32) h6 H locs cells slots ls hH hL (lv_sub hl [2] rfl) hrun

theorem b_X1_object_100 {rr : (Int32 ⊕ Ex) × Hp}  (C : CX p l R s m args meth c D Hs cX1_object "Massclaim" 7 (some .int) [] 8 131)  : ∀ (x0 : Nat) (y0 : Nat) (y1 : Int32) (h : Hp) (H : Heap) (locs : List Loc) (cells slots : Nat) (ls : Array Slot), HP D Hs h H → LO Hs locs → lv_has ls 7 [(0, rv x0)] → f_X1_object_100 x0 y0 y1 h = some rr → W p l e R s m args below meth c H locs cells slots (ZM D Hs iI rr below args s) (F0 m 100 ls [.int y1, rv y0]) := by
  obtain ⟨⟨hx, hb, hml, hown, hts⟩, -⟩ := id C
  have hl9 := C.2.1.2.2.1
  intro x0 y0 y1 h H locs cells slots ls hH hL hl hrun
  unfold f_X1_object_100 at hrun
  obtain ⟨c10, hrun⟩ := gd_some hrun
  obtain ⟨c11, hrun⟩ := gd_some hrun
  refine V_putNI (pc := 100) C hH hL fn_X1_394 dX1_object_100 c10 (fok_z c11) rfl hrun (fun h12 H locs hH hL hrun => ?_)
  refine lv_iconst (v := (0 : Int32)) (pc := 103) hx hb dX1_object_103 (by decide) ?_
  refine lv_istore (i := 4) (lv' := [(4, .int (0 : Int32)), (0, rv x0)]) (pc := 104) hx hb dX1_object_104 hl (by decide) rfl (fun ls hl => ?_)
  refine V_aload_n (pc := 106) hx hb dX1_object_106 rfl (lv_at hl 1 rfl) ?_
  obtain ⟨c13, hrun⟩ := gd_some hrun
  refine V_getR (pc := 107) C hH fr_X1_42 dX1_object_107 c13 rfl ?_
  obtain ⟨c16, hrun⟩ := gd_some hrun
  refine V_bd (pc := 110) C hL rfl hrun (fun rr1 e1 => Z_runV (rest := []) C hH (m_X2_iterator hl9 e1) wV_X1_208 c16 rfl (by decide) rfl rfl ⟨by decide, by decide⟩ rfl (Nat.le_of_ble_eq_true rfl) hl.1 dX1_object_110) (fun v14 h15 H locs cells slots hH hL hrun => ?_)
  refine V_astore (i := 5) (lv' := [(5, rv v14), (4, .int (0 : Int32)), (0, rv x0)]) (pc := 113) hx hb dX1_object_113 hl (by decide) rfl (fun ls hl => ?_)
  exact b_X1_object_115 C FU (0 : Int32) v14 h15 H locs cells slots ls hH hL (lv_sub hl [1, 0] rfl) hrun

theorem b_X1_object_95 {rr : (Int32 ⊕ Ex) × Hp}  (C : CX p l R s m args meth c D Hs cX1_object "Massclaim" 7 (some .int) [] 8 131)  : ∀ (x0 : Nat) (y0 : Nat) (h : Hp) (H : Heap) (locs : List Loc) (cells slots : Nat) (ls : Array Slot), HP D Hs h H → LO Hs locs → lv_has ls 7 [(0, rv x0)] → f_X1_object_95 x0 y0 h = some rr → W p l e R s m args below meth c H locs cells slots (ZM D Hs iI rr below args s) (F0 m 95 ls [rv y0]) := by
  obtain ⟨⟨hx, hb, hml, hown, hts⟩, -⟩ := id C
  have hl9 := C.2.1.2.2.1
  intro x0 y0 h H locs cells slots ls hH hL hl hrun
  unfold f_X1_object_95 at hrun
  refine lv_iconst (v := (1 : Int32)) (pc := 95) hx hb dX1_object_95 (by decide) ?_
  refine lv_goto (tgt := 100) (pc := 96) hx hb dX1_object_96 (by decide) ?_
  exact b_X1_object_100 C x0 y0 (1 : Int32) h H locs cells slots ls hH hL (lv_sub hl [0] rfl) hrun

theorem b_X1_object_73 {rr : (Int32 ⊕ Ex) × Hp}  (C : CX p l R s m args meth c D Hs cX1_object "Massclaim" 7 (some .int) [] 8 131)  : ∀ (x0 : Nat) (x2 : Int32) (y0 : Nat) (y1 : Int32) (h : Hp) (H : Heap) (locs : List Loc) (cells slots : Nat) (ls : Array Slot), HP D Hs h H → LO Hs locs → lv_has ls 7 [(0, rv x0), (2, .int x2)] → f_X1_object_73 x0 x2 y0 y1 h = some rr → W p l e R s m args below meth c H locs cells slots (ZM D Hs iI rr below args s) (F0 m 73 ls [.int y1, rv y0]) := by
  obtain ⟨⟨hx, hb, hml, hown, hts⟩, -⟩ := id C
  have hl9 := C.2.1.2.2.1
  intro x0 x2 y0 y1 h H locs cells slots ls hH hL hl hrun
  unfold f_X1_object_73 at hrun
  obtain ⟨c17, hrun⟩ := gd_some hrun
  obtain ⟨c18, hrun⟩ := gd_some hrun
  refine V_putNI (pc := 73) C hH hL fn_X1_365 dX1_object_73 c17 (fok_z c18) rfl hrun (fun h19 H locs hH hL hrun => ?_)
  refine V_aload_n (pc := 76) hx hb dX1_object_76 rfl (lv_at hl 0 rfl) ?_
  obtain ⟨c20, hrun⟩ := gd_some hrun
  refine V_getR (pc := 77) C hH fr_X1_84 dX1_object_77 c20 rfl ?_
  refine V_aload_n (pc := 80) hx hb dX1_object_80 rfl (lv_at hl 0 rfl) ?_
  refine V_getR (pc := 81) C hH fr_X1_84 dX1_object_81 c20 rfl ?_
  obtain ⟨c21, hrun⟩ := gd_some hrun
  refine V_getNI (pc := 84) C hH fn_X1_394 dX1_object_84 c21 rfl ?_
  refine lv_if_ne (tgt := 95) (pc := 87) hx hb dX1_object_87 (by decide) (fun c_ => ?_) (fun c_ => ?_)
  · have hrun := ite_f hrun c_
    exact b_X1_object_95 C x0 (kR h19 9 x0) h19 H locs cells slots ls hH hL (lv_sub hl [0] rfl) hrun
  · have hrun := ite_t hrun c_
    refine lv_iload_n (pc := 90) hx hb dX1_object_90 rfl (lv_at hl 1 rfl) ?_
    refine lv_iconst (v := (2 : Int32)) (pc := 91) hx hb dX1_object_91 (by decide) ?_
    refine lv_icmp_ne (tgt := 99) (pc := 92) hx hb dX1_object_92 (by decide) (fun c_ => ?_) (fun c_ => ?_)
    · have hrun := ite_f hrun c_
      refine lv_iconst (v := (0 : Int32)) (pc := 99) hx hb dX1_object_99 (by decide) ?_
      exact b_X1_object_100 C x0 (kR h19 9 x0) (0 : Int32) h19 H locs cells slots ls hH hL (lv_sub hl [0] rfl) hrun
    · have hrun := ite_t hrun c_
      exact b_X1_object_95 C x0 (kR h19 9 x0) h19 H locs cells slots ls hH hL (lv_sub hl [0] rfl) hrun

theorem b_X1_object_60 {rr : (Int32 ⊕ Ex) × Hp}  (C : CX p l R s m args meth c D Hs cX1_object "Massclaim" 7 (some .int) [] 8 131)  : ∀ (x0 : Nat) (x2 : Int32) (x3 : Nat) (y0 : Int32) (h : Hp) (H : Heap) (locs : List Loc) (cells slots : Nat) (ls : Array Slot), HP D Hs h H → LO Hs locs → lv_has ls 7 [(0, rv x0), (2, .int x2), (3, rv x3)] → f_X1_object_60 x0 x2 x3 y0 h = some rr → W p l e R s m args below meth c H locs cells slots (ZM D Hs iI rr below args s) (F0 m 60 ls [.int y0]) := by
  obtain ⟨⟨hx, hb, hml, hown, hts⟩, -⟩ := id C
  have hl9 := C.2.1.2.2.1
  intro x0 x2 x3 y0 h H locs cells slots ls hH hL hl hrun
  unfold f_X1_object_60 at hrun
  refine V_bd (pc := 60) C hL rfl hrun (fun rr1 e1 => Z_runS (rest := []) C hH (m_X1_requireState hl9 e1) wS_X1_182 rfl ⟨by decide, by decide⟩ rfl (Nat.le_of_ble_eq_true rfl) hl.1 dX1_object_60) (fun _ h23 H locs cells slots hH hL hrun => ?_)
  refine V_aload_n (pc := 63) hx hb dX1_object_63 rfl (lv_at hl 2 rfl) ?_
  refine lv_iload_n (pc := 64) hx hb dX1_object_64 rfl (lv_at hl 1 rfl) ?_
  refine lv_if_ne (tgt := 72) (pc := 65) hx hb dX1_object_65 (by decide) (fun c_ => ?_) (fun c_ => ?_)
  · have hrun := ite_f hrun c_
    refine lv_iconst (v := (0 : Int32)) (pc := 72) hx hb dX1_object_72 (by decide) ?_
    exact b_X1_object_73 C x0 x2 x3 (0 : Int32) h23 H locs cells slots ls hH hL (lv_sub hl [0, 1] rfl) hrun
  · have hrun := ite_t hrun c_
    refine lv_iconst (v := (1 : Int32)) (pc := 68) hx hb dX1_object_68 (by decide) ?_
    refine lv_goto (tgt := 73) (pc := 69) hx hb dX1_object_69 (by decide) ?_
    exact b_X1_object_73 C x0 x2 x3 (1 : Int32) h23 H locs cells slots ls hH hL (lv_sub hl [0, 1] rfl) hrun

theorem b_X1_object_59 {rr : (Int32 ⊕ Ex) × Hp}  (C : CX p l R s m args meth c D Hs cX1_object "Massclaim" 7 (some .int) [] 8 131)  : ∀ (x0 : Nat) (x2 : Int32) (x3 : Nat) (h : Hp) (H : Heap) (locs : List Loc) (cells slots : Nat) (ls : Array Slot), HP D Hs h H → LO Hs locs → lv_has ls 7 [(0, rv x0), (2, .int x2), (3, rv x3)] → f_X1_object_59 x0 x2 x3 h = some rr → W p l e R s m args below meth c H locs cells slots (ZM D Hs iI rr below args s) (F0 m 59 ls []) := by
  obtain ⟨⟨hx, hb, hml, hown, hts⟩, -⟩ := id C
  have hl9 := C.2.1.2.2.1
  intro x0 x2 x3 h H locs cells slots ls hH hL hl hrun
  unfold f_X1_object_59 at hrun
  refine lv_iconst (v := (0 : Int32)) (pc := 59) hx hb dX1_object_59 (by decide) ?_
  exact b_X1_object_60 C x0 x2 x3 (0 : Int32) h H locs cells slots ls hH hL (lv_sub hl [0, 1, 2] rfl) hrun

theorem b_X1_object_52 {rr : (Int32 ⊕ Ex) × Hp}  (C : CX p l R s m args meth c D Hs cX1_object "Massclaim" 7 (some .int) [] 8 131)  : ∀ (x0 : Nat) (x2 : Int32) (x3 : Nat) (y0 : Int32) (y1 : Int32) (h : Hp) (H : Heap) (locs : List Loc) (cells slots : Nat) (ls : Array Slot), HP D Hs h H → LO Hs locs → lv_has ls 7 [(0, rv x0), (2, .int x2), (3, rv x3)] → f_X1_object_52 x0 x2 x3 y0 y1 h = some rr → W p l e R s m args below meth c H locs cells slots (ZM D Hs iI rr below args s) (F0 m 52 ls [.int y1, .int y0]) := by
  obtain ⟨⟨hx, hb, hml, hown, hts⟩, -⟩ := id C
  have hl9 := C.2.1.2.2.1
  intro x0 x2 x3 y0 y1 h H locs cells slots ls hH hL hl hrun
  unfold f_X1_object_52 at hrun
  refine lv_icmp_ne (tgt := 59) (pc := 52) hx hb dX1_object_52 (by decide) (fun c_ => ?_) (fun c_ => ?_)
  · have hrun := ite_f hrun c_
    exact b_X1_object_59 C x0 x2 x3 h H locs cells slots ls hH hL (lv_sub hl [0, 1, 2] rfl) hrun
  · have hrun := ite_t hrun c_
    refine lv_iconst (v := (1 : Int32)) (pc := 55) hx hb dX1_object_55 (by decide) ?_
    refine lv_goto (tgt := 60) (pc := 56) hx hb dX1_object_56 (by decide) ?_
    exact b_X1_object_60 C x0 x2 x3 (1 : Int32) h H locs cells slots ls hH hL (lv_sub hl [0, 1, 2] rfl) hrun

theorem b_X1_object {rr : (Int32 ⊕ Ex) × Hp}  (C : CX p l R s m args meth c D Hs cX1_object "Massclaim" 7 (some .int) [] 8 131)  : ∀ (x0 : Nat) (x1 : Int32) (x2 : Int32) (h : Hp) (H : Heap) (locs : List Loc) (cells slots : Nat) (ls : Array Slot), HP D Hs h H → LO Hs locs → lv_has ls 7 [(0, rv x0), (1, .int x1), (2, .int x2)] → f_X1_object x0 x1 x2 h = some rr → W p l e R s m args below meth c H locs cells slots (ZM D Hs iI rr below args s) (F0 m 0 ls []) := by
  obtain ⟨⟨hx, hb, hml, hown, hts⟩, -⟩ := id C
  have hl9 := C.2.1.2.2.1
  intro x0 x1 x2 h H locs cells slots ls hH hL hl hrun
  unfold f_X1_object at hrun
  refine V_aload_n (pc := 0) hx hb dX1_object_0 rfl (lv_at hl 0 rfl) ?_
  obtain ⟨c24, hrun⟩ := gd_some hrun
  refine V_getR (pc := 1) C hH fr_X1_42 dX1_object_1 c24 rfl ?_
  refine lv_iload_n (pc := 4) hx hb dX1_object_4 rfl (lv_at hl 1 rfl) ?_
  obtain ⟨c27, hrun⟩ := gd_some hrun
  refine V_bd (pc := 5) C hL rfl hrun (fun rr1 e1 => Z_runV (rest := []) C hH (m_X2_at hl9 e1) wV_X1_136 c27 rfl (by decide) rfl rfl ⟨by decide, by decide⟩ rfl (Nat.le_of_ble_eq_true rfl) hl.1 dX1_object_5) (fun v25 h26 H locs cells slots hH hL hrun => ?_)
  obtain ⟨c28, hrun⟩ := gd_some hrun
  refine V_castX (pc := 8) (ci := 4) C hH rfl (by decide) q376 dX1_object_8 c28 ?_
  refine V_astore_n (i := 3) (lv' := [(3, rv v25), (0, rv x0), (1, .int x1), (2, .int x2)]) (pc := 11) hx hb dX1_object_11 rfl hl (by decide) rfl (fun ls hl => ?_)
  refine lv_iload_n (pc := 12) hx hb dX1_object_12 rfl (lv_at hl 3 rfl) ?_
  refine lv_i2l (pc := 13) hx hb dX1_object_13 rfl ?_
  refine lv_lconst (v := (0 : Int64)) (pc := 14) hx hb dX1_object_14 (by decide) ?_
  refine lv_ldc2 (pc := 15) hx hb hown (hts _ q1006) dX1_object_15 ?_
  refine V_bd (pc := 18) C hL rfl hrun (fun rr1 e1 => Z_runS (rest := []) C hH (m_X1_isIn hl9 e1) wS_X1_127 rfl ⟨by decide, by decide⟩ rfl (Nat.le_of_ble_eq_true rfl) hl.1 dX1_object_18) (fun v29 h30 H locs cells slots hH hL hrun => ?_)
  refine V_bd (pc := 21) C hL rfl hrun (fun rr1 e1 => Z_runS (rest := []) C hH (m_X1_requireArgument hl9 e1) wS_X1_131 rfl ⟨by decide, by decide⟩ rfl (Nat.le_of_ble_eq_true rfl) hl.1 dX1_object_21) (fun _ h32 H locs cells slots hH hL hrun => ?_)
  refine V_aload_n (pc := 24) hx hb dX1_object_24 rfl (lv_at hl 0 rfl) ?_
  obtain ⟨c35, hrun⟩ := gd_some hrun
  refine V_bd (pc := 25) C hL rfl hrun (fun rr1 e1 => Z_runV (rest := []) C hH (m_X5_isMember hl9 e1) wV_X1_148 c35 rfl (by decide) rfl rfl ⟨by decide, by decide⟩ rfl (Nat.le_of_ble_eq_true rfl) hl.1 dX1_object_25) (fun v33 h34 H locs cells slots hH hL hrun => ?_)
  refine lv_if_eq (tgt := 59) (pc := 28) hx hb dX1_object_28 (by decide) (fun c_ => ?_) (fun c_ => ?_)
  · have hrun := ite_t hrun c_
    exact b_X1_object_59 C x0 x2 v25 h34 H locs cells slots ls hH hL (lv_sub hl [1, 3, 0] rfl) hrun
  · have hrun := ite_f hrun c_
    refine V_aload_n (pc := 31) hx hb dX1_object_31 rfl (lv_at hl 1 rfl) ?_
    obtain ⟨c38, hrun⟩ := gd_some hrun
    refine V_bd (pc := 32) C hL rfl hrun (fun rr1 e1 => Z_runV (rest := []) C hH (m_X1_stage hl9 e1) wV_X1_123 c38 rfl (by decide) rfl rfl ⟨by decide, by decide⟩ rfl (Nat.le_of_ble_eq_true rfl) hl.1 dX1_object_32) (fun v36 h37 H locs cells slots hH hL hrun => ?_)
    refine lv_iconst (v := (2 : Int32)) (pc := 35) hx hb dX1_object_35 (by decide) ?_
    refine lv_icmp_ne (tgt := 59) (pc := 36) hx hb dX1_object_36 (by decide) (fun c_ => ?_) (fun c_ => ?_)
    · have hrun := ite_f hrun c_
      exact b_X1_object_59 C x0 x2 v25 h37 H locs cells slots ls hH hL (lv_sub hl [1, 3, 0] rfl) hrun
    · have hrun := ite_t hrun c_
      refine V_aload_n (pc := 39) hx hb dX1_object_39 rfl (lv_at hl 0 rfl) ?_
      obtain ⟨c39, hrun⟩ := gd_some hrun
      refine V_getNI (pc := 40) C hH fn_X1_365 dX1_object_40 c39 rfl ?_
      refine lv_iload_n (pc := 43) hx hb dX1_object_43 rfl (lv_at hl 3 rfl) ?_
      refine lv_if_le (tgt := 51) (pc := 44) hx hb dX1_object_44 (by decide) (fun c_ => ?_) (fun c_ => ?_)
      · have hrun := ite_t hrun c_
        refine lv_iconst (v := (0 : Int32)) (pc := 51) hx hb dX1_object_51 (by decide) ?_
        exact b_X1_object_52 C x0 x2 v25 (kI h37 414 v25) (0 : Int32) h37 H locs cells slots ls hH hL (lv_sub hl [1, 3, 0] rfl) hrun
      · have hrun := ite_f hrun c_
        refine lv_iconst (v := (1 : Int32)) (pc := 47) hx hb dX1_object_47 (by decide) ?_
        refine lv_goto (tgt := 52) (pc := 48) hx hb dX1_object_48 (by decide) ?_
        exact b_X1_object_52 C x0 x2 v25 (kI h37 414 v25) (1 : Int32) h37 H locs cells slots ls hH hL (lv_sub hl [1, 3, 0] rfl) hrun

theorem m_X1_object {l : Launch} {D : va_G} {Hs : Heap} {h : Hp} {rr : (Int32 ⊕ Ex) × Hp} (hl9 : l.stackTraces = false) {x0 : Nat} {x1 : Int32} {x2 : Int32} (hrun : f_X1_object x0 x1 x2 h = some rr) : CM l yX1_object (ws_ yX1_object cX1_object 7 (some .int)) 8 131 iI [rv x0, .int x1, .int x2] D Hs h rr := by
  refine CM.of (lv := [(0, rv x0), (1, .int x1), (2, .int x2)]) (plainFor_of_name (by decide)) hl9 (by simp [lv_args, rv_cat, cat_i, cat_l, cat_f, cat_d]) (by simp [lg_sl, rv_cat, cat_i, cat_l, cat_f, cat_d]) ?_
  intro p e R s m args below meth c H ls C hH hl hin
  exact b_X1_object C x0 x1 x2 _ H [] _ _ ls hH (fun _ q => nomatch q) (lv_sub hl [0, 1, 2] rfl) hrun

/-! MassclaimLaw.object(LMassclaim;II[J)I -/
def f_X0_object_13  (y0 : Nat) (h : Hp) : Rt Int32 :=
  some (.inl (1 : Int32), h)
def f_X0_object_17  (y0 : Nat) (h : Hp) : Rt Int32 :=
  some (.inl (2 : Int32), h)
def f_X0_object_21  (y0 : Nat) (h : Hp) : Rt Int32 :=
  some (.inl (3 : Int32), h)
def f_X0_object  (x0 : Nat) (x1 : Int32) (x2 : Int32) (x3 : Nat) (h : Hp) : Rt Int32 :=
  gd (kC h x0 = 1) <| bdH (f_X1_object x0 x1 x2 h)
  (fun v1 h2 => gd (kC h2 x3 = 102 ∧ ixo (0 : Int32) (kN h2 x3)) <| vl (tL h2 x3 ((0 : Int32)).toNatClampNeg (v1.toInt64)) fun h5 => some (.inl (0 : Int32), h5))
  (fun ex6 h7 => if ex6.1 = 901 then
  (f_X0_object_13 ex6.2 h7)
  else
  if ex6.1 = 902 then
  (f_X0_object_17 ex6.2 h7)
  else
  if ex6.1 = 903 then
  (f_X0_object_21 ex6.2 h7)
  else
  none)
theorem b_X0_object_13 {rr : (Int32 ⊕ Ex) × Hp}  (C : CX p l R s m args meth c D Hs cX0_object "MassclaimLaw" 5 (some .int) [(0, 10, 13, 25), (0, 10, 17, 13), (0, 10, 21, 19)] 9 157)  : ∀ (y0 : Nat) (h : Hp) (H : Heap) (locs : List Loc) (cells slots : Nat) (ls : Array Slot), HP D Hs h H → LO Hs locs → lv_has ls 5 [] → f_X0_object_13 y0 h = some rr → W p l e R s m args below meth c H locs cells slots (ZM D Hs iI rr below args s) (F0 m 13 ls [rv y0]) := by
  obtain ⟨⟨hx, hb, hml, hown, hts⟩, -⟩ := id C
  have hl9 := C.2.1.2.2.1
  intro y0 h H locs cells slots ls hH hL hl hrun
  unfold f_X0_object_13 at hrun
  refine V_astore (i := 4) (lv' := [(4, rv y0)]) (pc := 13) hx hb dX0_object_13 hl (by decide) rfl (fun ls hl => ?_)
  refine lv_iconst (v := (1 : Int32)) (pc := 15) hx hb dX0_object_15 (by decide) ?_
  exact V_iret (pc := 16) C hH hL hrun dX0_object_16

theorem b_X0_object_17 {rr : (Int32 ⊕ Ex) × Hp}  (C : CX p l R s m args meth c D Hs cX0_object "MassclaimLaw" 5 (some .int) [(0, 10, 13, 25), (0, 10, 17, 13), (0, 10, 21, 19)] 9 157)  : ∀ (y0 : Nat) (h : Hp) (H : Heap) (locs : List Loc) (cells slots : Nat) (ls : Array Slot), HP D Hs h H → LO Hs locs → lv_has ls 5 [] → f_X0_object_17 y0 h = some rr → W p l e R s m args below meth c H locs cells slots (ZM D Hs iI rr below args s) (F0 m 17 ls [rv y0]) := by
  obtain ⟨⟨hx, hb, hml, hown, hts⟩, -⟩ := id C
  have hl9 := C.2.1.2.2.1
  intro y0 h H locs cells slots ls hH hL hl hrun
  unfold f_X0_object_17 at hrun
  refine V_astore (i := 4) (lv' := [(4, rv y0)]) (pc := 17) hx hb dX0_object_17 hl (by decide) rfl (fun ls hl => ?_)
  refine lv_iconst (v := (2 : Int32)) (pc := 19) hx hb dX0_object_19 (by decide) ?_
  exact V_iret (pc := 20) C hH hL hrun dX0_object_20

theorem b_X0_object_21 {rr : (Int32 ⊕ Ex) × Hp}  (C : CX p l R s m args meth c D Hs cX0_object "MassclaimLaw" 5 (some .int) [(0, 10, 13, 25), (0, 10, 17, 13), (0, 10, 21, 19)] 9 157)  : ∀ (y0 : Nat) (h : Hp) (H : Heap) (locs : List Loc) (cells slots : Nat) (ls : Array Slot), HP D Hs h H → LO Hs locs → lv_has ls 5 [] → f_X0_object_21 y0 h = some rr → W p l e R s m args below meth c H locs cells slots (ZM D Hs iI rr below args s) (F0 m 21 ls [rv y0]) := by
  obtain ⟨⟨hx, hb, hml, hown, hts⟩, -⟩ := id C
  have hl9 := C.2.1.2.2.1
  intro y0 h H locs cells slots ls hH hL hl hrun
  unfold f_X0_object_21 at hrun
  refine V_astore (i := 4) (lv' := [(4, rv y0)]) (pc := 21) hx hb dX0_object_21 hl (by decide) rfl (fun ls hl => ?_)
  refine lv_iconst (v := (3 : Int32)) (pc := 23) hx hb dX0_object_23 (by decide) ?_
  exact V_iret (pc := 24) C hH hL hrun dX0_object_24

theorem b_X0_object {rr : (Int32 ⊕ Ex) × Hp}  (C : CX p l R s m args meth c D Hs cX0_object "MassclaimLaw" 5 (some .int) [(0, 10, 13, 25), (0, 10, 17, 13), (0, 10, 21, 19)] 9 157)  : ∀ (x0 : Nat) (x1 : Int32) (x2 : Int32) (x3 : Nat) (h : Hp) (H : Heap) (locs : List Loc) (cells slots : Nat) (ls : Array Slot), HP D Hs h H → LO Hs locs → lv_has ls 5 [(0, rv x0), (1, .int x1), (2, .int x2), (3, rv x3)] → f_X0_object x0 x1 x2 x3 h = some rr → W p l e R s m args below meth c H locs cells slots (ZM D Hs iI rr below args s) (F0 m 0 ls []) := by
  obtain ⟨⟨hx, hb, hml, hown, hts⟩, -⟩ := id C
  have hl9 := C.2.1.2.2.1
  intro x0 x1 x2 x3 h H locs cells slots ls hH hL hl hrun
  unfold f_X0_object at hrun
  refine V_aload_n (pc := 0) hx hb dX0_object_0 rfl (lv_at hl 3 rfl) ?_
  refine lv_iconst (v := (0 : Int32)) (pc := 1) hx hb dX0_object_1 (by decide) ?_
  refine V_aload_n (pc := 2) hx hb dX0_object_2 rfl (lv_at hl 0 rfl) ?_
  refine lv_iload_n (pc := 3) hx hb dX0_object_3 rfl (lv_at hl 1 rfl) ?_
  refine lv_iload_n (pc := 4) hx hb dX0_object_4 rfl (lv_at hl 2 rfl) ?_
  obtain ⟨c3, hrun⟩ := gd_some hrun
  refine V_bdH (pc := 5) hL hrun (fun rr1 e1 => Z_runV (rest := [.int (0 : Int32), rv x3]) C hH (m_X1_object hl9 e1) wV_X0_95 c3 rfl (by decide) rfl rfl ⟨by decide, by decide⟩ rfl (by simp [csum, rv_cat, cat_i, cat_l, cat_f, cat_d]) hl.1 dX0_object_5) (fun v1 h2 H locs cells slots hH hL hrun => ?_) (fun x_ q_ ce_ h7 H locs cells slots hH hL hrun hc_ hv_ hcl_ => ?_)
  · refine lv_i2l (pc := 8) hx hb dX0_object_8 rfl ?_
    obtain ⟨c4, hrun⟩ := gd_some hrun
    refine V_last (pc := 9) C hH hL dX0_object_9 c4 hrun (fun h5 H locs hH hL hrun => ?_)
    refine lv_goto (tgt := 25) (pc := 10) hx hb dX0_object_10 (by decide) ?_
    refine lv_iconst (v := (0 : Int32)) (pc := 25) hx hb dX0_object_25 (by decide) ?_
    exact V_iret (pc := 26) C hH hL hrun dX0_object_26
  · by_cases n901 : x_ = 901
    · subst n901
      have hrun := ite_t hrun rfl
      refine vx_catch (E := "java/lang/IndexOutOfBoundsException") (name := "java/lang/IndexOutOfBoundsException") hown (tableOf []) ⟨0, 10, 13, 25⟩ (tableOf [(0, 10, 17, 13), (0, 10, 21, 19)]) (by rw [C.2.1.2.2.2.2]; rfl) (fun z hz => nomatch hz) (by decide) (by decide) (hts _ q829) (va_Nw.use rfl (C.2.1.2.2.2.1.2.1 _ q537 rfl)) hc_ hv_ hcl_ ?_
      exact b_X0_object_13 C (q_ + 1) h7 H locs cells slots ls hH hL (lv_sub hl [] rfl) hrun
    have hrun := ite_f hrun n901
    by_cases n902 : x_ = 902
    · subst n902
      have hrun := ite_t hrun rfl
      refine vx_catch (E := "java/lang/IllegalArgumentException") (name := "java/lang/IllegalArgumentException") hown (tableOf [(0, 10, 13, 25)]) ⟨0, 10, 17, 13⟩ (tableOf [(0, 10, 21, 19)]) (by rw [C.2.1.2.2.2.2]; rfl) (fun z hz => by simp only [tableOf, List.map, List.mem_cons, List.not_mem_nil, or_false] at hz; rcases hz with rfl <;> first | exact Or.inr ⟨by decide, "java/lang/IndexOutOfBoundsException", hts _ q829, nc_at C (by decide)⟩) (by decide) (by decide) (hts _ q449) (va_Nw.use rfl (C.2.1.2.2.2.1.2.1 _ q463 rfl)) hc_ hv_ hcl_ ?_
      exact b_X0_object_17 C (q_ + 1) h7 H locs cells slots ls hH hL (lv_sub hl [] rfl) hrun
    have hrun := ite_f hrun n902
    by_cases n903 : x_ = 903
    · subst n903
      have hrun := ite_t hrun rfl
      refine vx_catch (E := "java/lang/IllegalStateException") (name := "java/lang/IllegalStateException") hown (tableOf [(0, 10, 13, 25), (0, 10, 17, 13)]) ⟨0, 10, 21, 19⟩ (tableOf []) (by rw [C.2.1.2.2.2.2]; rfl) (fun z hz => by simp only [tableOf, List.map, List.mem_cons, List.not_mem_nil, or_false] at hz; rcases hz with rfl | rfl <;> first | exact Or.inr ⟨by decide, "java/lang/IndexOutOfBoundsException", hts _ q829, nc_at C (by decide)⟩ | exact Or.inr ⟨by decide, "java/lang/IllegalArgumentException", hts _ q449, nc_at C (by decide)⟩) (by decide) (by decide) (hts _ q585) (va_Nw.use rfl (C.2.1.2.2.2.1.2.1 _ q702 rfl)) hc_ hv_ hcl_ ?_
      exact b_X0_object_21 C (q_ + 1) h7 H locs cells slots ls hH hL (lv_sub hl [] rfl) hrun
    have hrun := ite_f hrun n903
    cases hrun

theorem m_X0_object {l : Launch} {D : va_G} {Hs : Heap} {h : Hp} {rr : (Int32 ⊕ Ex) × Hp} (hl9 : l.stackTraces = false) {x0 : Nat} {x1 : Int32} {x2 : Int32} {x3 : Nat} (hrun : f_X0_object x0 x1 x2 x3 h = some rr) : CM l yX0_object (wsW_ yX0_object cX0_object 5 (some .int) [(0, 10, 13, 25), (0, 10, 17, 13), (0, 10, 21, 19)]) 9 157 iI [rv x0, .int x1, .int x2, rv x3] D Hs h rr := by
  refine CM.ofH (lv := [(0, rv x0), (1, .int x1), (2, .int x2), (3, rv x3)]) (plainFor_of_name (by decide)) hl9 (by simp [lv_args, rv_cat, cat_i, cat_l, cat_f, cat_d]) (by simp [lg_sl, rv_cat, cat_i, cat_l, cat_f, cat_d]) ?_
  intro p e R s m args below meth c H ls C hH hl hin
  exact b_X0_object C x0 x1 x2 x3 _ H [] _ _ ls hH (fun _ q => nomatch q) (lv_sub hl [0, 1, 2, 3] rfl) hrun

/-! MassclaimModel.object(II)I -/
def f_X4_object_30  (h : Hp) : Rt Int32 :=
  some (.inl (0 : Int32), h)
def f_X4_object_166 (k129 : Nat → Int32 → Int32 → Hp → Rt Int32) (x0 : Nat) (x5 : Int32) (y0 : Int32) (y1 : Int32) (h : Hp) : Rt Int32 :=
  vl (y0 + y1) fun v1 => vl (x5 + (1 : Int32)) fun v2 => k129 x0 v1 v2 h
def f_X4_object_129  : Nat → Nat → Int32 → Int32 → Hp → Rt Int32
  | 0, _, _, _, _ => none
  | n + 1, x0, x4, x5, h => gd (kC h x0 = 4) <| gd (kC h (kR h 302 x0) = 18) <| bd (f_J2_size (kR h 302 x0) h) fun v4 h5 => if v4 ≤ x5 then
  (some (.inl x4, h5))
  else
  (gd (kC h5 x0 = 4) <| gd (kC h5 (kR h5 302 x0) = 18) <| bd (f_J2_get (kR h5 302 x0) x5 h5) fun v8 h9 => gd (v8 = 0 ∨ kC h9 v8 = 6) <| gd (kC h9 v8 = 6) <| if (kI h9 516 v8) = 0 then
  (f_X4_object_166 (f_X4_object_129 n) x0 x5 x4 (0 : Int32) h9)
  else
  (f_X4_object_166 (f_X4_object_129 n) x0 x5 x4 (1 : Int32) h9))
def f_X4_object_119  (x0 : Nat) (y0 : Nat) (y1 : Int32) (y2 : Int32) (h : Hp) : Rt Int32 :=
  gd (kC h y0 = 4) <| gd (b01 (y1 ||| y2)) <| vl (sI h 314 y0 (y1 ||| y2)) fun h15 => f_X4_object_129 FU x0 (0 : Int32) (0 : Int32) h15
def f_X4_object_101  (x0 : Nat) (x2 : Int32) (y0 : Nat) (y1 : Int32) (h : Hp) : Rt Int32 :=
  gd (kC h y0 = 6) <| gd (b01 y1) <| vl (sI h 516 y0 y1) fun h18 => gd (kC h18 x0 = 4) <| if x2 = (2 : Int32) then
  (f_X4_object_119 x0 x0 (kI h18 314 x0) (1 : Int32) h18)
  else
  (f_X4_object_119 x0 x0 (kI h18 314 x0) (0 : Int32) h18)
def f_X4_object_82  (x0 : Nat) (x2 : Int32) (x3 : Nat) (y0 : Nat) (y1 : Int32) (h : Hp) : Rt Int32 :=
  gd (kC h y0 = 4) <| bd (f_X4_isGood y0 y1 (3 : Int32) h) fun v20 h21 => if v20 = 0 then
  (some (.inl (0 : Int32), h21))
  else
  (if x2 = 0 then
  (f_X4_object_101 x0 x2 x3 (1 : Int32) h21)
  else
  (f_X4_object_101 x0 x2 x3 (0 : Int32) h21))
def f_X4_object_81  (x0 : Nat) (x2 : Int32) (x3 : Nat) (y0 : Nat) (h : Hp) : Rt Int32 :=
  f_X4_object_82 x0 x2 x3 y0 (0 : Int32) h
def f_X4_object_74  (x0 : Nat) (x2 : Int32) (x3 : Nat) (y0 : Nat) (y1 : Int32) (y2 : Int32) (h : Hp) : Rt Int32 :=
  if y1 = y2 then
  (f_X4_object_82 x0 x2 x3 y0 (1 : Int32) h)
  else
  (f_X4_object_81 x0 x2 x3 y0 h)
def f_X4_object  (x0 : Nat) (x1 : Int32) (x2 : Int32) (h : Hp) : Rt Int32 :=
  gd (kC h x0 = 4) <| bd (f_X4_isPerson x0 x1 h) fun v23 h24 => gd (kC h24 x0 = 4) <| bd (f_X4_isGood x0 v23 (1 : Int32) h24) fun v26 h27 => if v26 = 0 then
  (f_X4_object_30  h27)
  else
  (bd (f_X4_isWithin (x2.toInt64) (0 : Int64) (2 : Int64) h27) fun v29 h30 => gd (kC h30 x0 = 4) <| bd (f_X4_isGood x0 v29 (2 : Int32) h30) fun v31 h32 => if v31 = 0 then
  (f_X4_object_30  h32)
  else
  (gd (kC h32 x0 = 4) <| gd (kC h32 (kR h32 302 x0) = 18) <| bd (f_J2_get (kR h32 302 x0) x1 h32) fun v35 h36 => gd (v35 = 0 ∨ kC h36 v35 = 6) <| gd (kC h36 x0 = 4) <| bd (f_X4_isIn x0 v35 h36) fun v39 h40 => if v39 = 0 then
  (f_X4_object_81 x0 x2 v35 x0 h40)
  else
  (gd (kC h40 x0 = 4) <| if (kI h40 309 x0) = (2 : Int32) then
  (gd (kC h40 v35 = 6) <| if x2 = 0 then
  (f_X4_object_74 x0 x2 v35 x0 (kI h40 516 v35) (0 : Int32) h40)
  else
  (f_X4_object_74 x0 x2 v35 x0 (kI h40 516 v35) (1 : Int32) h40))
  else
  (f_X4_object_81 x0 x2 v35 x0 h40))))
theorem b_X4_object_30 {rr : (Int32 ⊕ Ex) × Hp}  (C : CX p l R s m args meth c D Hs cX4_object "MassclaimModel" 6 (some .int) [] 4 64)  : ∀ (h : Hp) (H : Heap) (locs : List Loc) (cells slots : Nat) (ls : Array Slot), HP D Hs h H → LO Hs locs → lv_has ls 6 [] → f_X4_object_30 h = some rr → W p l e R s m args below meth c H locs cells slots (ZM D Hs iI rr below args s) (F0 m 30 ls []) := by
  obtain ⟨⟨hx, hb, hml, hown, hts⟩, -⟩ := id C
  have hl9 := C.2.1.2.2.1
  intro h H locs cells slots ls hH hL hl hrun
  unfold f_X4_object_30 at hrun
  refine lv_iconst (v := (0 : Int32)) (pc := 30) hx hb dX4_object_30 (by decide) ?_
  exact V_iret (pc := 31) C hH hL hrun dX4_object_31

theorem b_X4_object_166 {rr : (Int32 ⊕ Ex) × Hp} {k129 : Nat → Int32 → Int32 → Hp → Rt Int32} (C : CX p l R s m args meth c D Hs cX4_object "MassclaimModel" 6 (some .int) [] 4 64) (K129 : ∀ (x0 : Nat) (x4 : Int32) (x5 : Int32) (h : Hp) (H : Heap) (locs : List Loc) (cells slots : Nat) (ls : Array Slot), HP D Hs h H → LO Hs locs → lv_has ls 6 [(0, rv x0), (4, .int x4), (5, .int x5)] → k129 x0 x4 x5 h = some rr → W p l e R s m args below meth c H locs cells slots (ZM D Hs iI rr below args s) (F0 m 129 ls [])) : ∀ (x0 : Nat) (x5 : Int32) (y0 : Int32) (y1 : Int32) (h : Hp) (H : Heap) (locs : List Loc) (cells slots : Nat) (ls : Array Slot), HP D Hs h H → LO Hs locs → lv_has ls 6 [(0, rv x0), (5, .int x5)] → f_X4_object_166 k129 x0 x5 y0 y1 h = some rr → W p l e R s m args below meth c H locs cells slots (ZM D Hs iI rr below args s) (F0 m 166 ls [.int y1, .int y0]) := by
  obtain ⟨⟨hx, hb, hml, hown, hts⟩, -⟩ := id C
  have hl9 := C.2.1.2.2.1
  intro x0 x5 y0 y1 h H locs cells slots ls hH hL hl hrun
  unfold f_X4_object_166 at hrun
  refine lv_iadd (pc := 166) hx hb dX4_object_166 ?_
  refine lv_topi (fun v1 ev1 => ?_)
  have hrun := vl_at hrun v1 ev1
  refine lv_istore (i := 4) (lv' := [(4, .int v1), (0, rv x0), (5, .int x5)]) (pc := 167) hx hb dX4_object_167 hl (by decide) rfl (fun ls hl => ?_)
  obtain ⟨v2, ev2⟩ : ∃ y : Int32, y = x5 + (1 : Int32) := ⟨_, rfl⟩
  have hrun := vl_at hrun v2 ev2
  refine lv_iinc (v := v2) (lv' := [(5, .int v2), (4, .int v1), (0, rv x0)]) (pc := 169) hx hb dX4_object_169 hl (k := 2) rfl (by rw [ev2]; rfl) (by decide) (by first | rfl | simp [rv_cat, cat_i, cat_l, cat_f, cat_d]) (fun ls hl => ?_)
  refine lv_goto (tgt := 129) (pc := 172) hx hb dX4_object_172 (by decide) ?_
  exact K129 x0 v1 v2 h H locs cells slots ls hH hL (lv_sub hl [2, 1, 0] rfl) hrun

theorem b_X4_object_129 {rr : (Int32 ⊕ Ex) × Hp}  (C : CX p l R s m args meth c D Hs cX4_object "MassclaimModel" 6 (some .int) [] 4 64)  : ∀ (n : Nat) (x0 : Nat) (x4 : Int32) (x5 : Int32) (h : Hp) (H : Heap) (locs : List Loc) (cells slots : Nat) (ls : Array Slot), HP D Hs h H → LO Hs locs → lv_has ls 6 [(0, rv x0), (4, .int x4), (5, .int x5)] → f_X4_object_129 n x0 x4 x5 h = some rr → W p l e R s m args below meth c H locs cells slots (ZM D Hs iI rr below args s) (F0 m 129 ls []) := by
  obtain ⟨⟨hx, hb, hml, hown, hts⟩, -⟩ := id C
  have hl9 := C.2.1.2.2.1
  intro n
  induction n with
  | zero =>
    intro x0 x4 x5 h H locs cells slots ls hH hL hl hrun
    cases (show (none : Option _) = some rr from hrun)
  | succ n ih =>
    intro x0 x4 x5 h H locs cells slots ls hH hL hl hrun
    rw [f_X4_object_129] at hrun
    refine lv_iload (pc := 129) hx hb dX4_object_129 (lv_at hl 2 rfl) ?_
    refine V_aload_n (pc := 131) hx hb dX4_object_131 rfl (lv_at hl 0 rfl) ?_
    obtain ⟨c3, hrun⟩ := gd_some hrun
    refine V_getR (pc := 132) C hH fr_X4_16 dX4_object_132 c3 rfl ?_
    obtain ⟨c6, hrun⟩ := gd_some hrun
    refine V_bd (pc := 135) C hL rfl hrun (fun rr1 e1 => Z_runV (rest := [.int x5]) C hH (m_J2_size hl9 e1) wV_X4_94 c6 rfl (by decide) rfl rfl ⟨by decide, by decide⟩ rfl (Nat.le_of_ble_eq_true rfl) hl.1 dX4_object_135) (fun v4 h5 H locs cells slots hH hL hrun => ?_)
    refine lv_icmp_ge (tgt := 175) (pc := 138) hx hb dX4_object_138 (by decide) (fun c_ => ?_) (fun c_ => ?_)
    · have hrun := ite_t hrun c_
      refine lv_iload (pc := 175) hx hb dX4_object_175 (lv_at hl 1 rfl) ?_
      exact V_iret (pc := 177) C hH hL hrun dX4_object_177
    · have hrun := ite_f hrun c_
      refine lv_iload (pc := 141) hx hb dX4_object_141 (lv_at hl 1 rfl) ?_
      refine V_aload_n (pc := 143) hx hb dX4_object_143 rfl (lv_at hl 0 rfl) ?_
      obtain ⟨c7, hrun⟩ := gd_some hrun
      refine V_getR (pc := 144) C hH fr_X4_16 dX4_object_144 c7 rfl ?_
      refine lv_iload (pc := 147) hx hb dX4_object_147 (lv_at hl 2 rfl) ?_
      obtain ⟨c10, hrun⟩ := gd_some hrun
      refine V_bd (pc := 149) C hL rfl hrun (fun rr1 e1 => Z_runV (rest := [.int x4]) C hH (m_J2_get hl9 e1) wV_X4_108 c10 rfl (by decide) rfl rfl ⟨by decide, by decide⟩ rfl (Nat.le_of_ble_eq_true rfl) hl.1 dX4_object_149) (fun v8 h9 H locs cells slots hH hL hrun => ?_)
      obtain ⟨c11, hrun⟩ := gd_some hrun
      refine V_castX (pc := 152) (ci := 5) C hH rfl (by decide) q1946 dX4_object_152 c11 ?_
      obtain ⟨c12, hrun⟩ := gd_some hrun
      refine V_getI (pc := 155) C hH fr_X4_344 dX4_object_155 c12 rfl ?_
      refine lv_if_eq (tgt := 165) (pc := 158) hx hb dX4_object_158 (by decide) (fun c_ => ?_) (fun c_ => ?_)
      · have hrun := ite_t hrun c_
        refine lv_iconst (v := (0 : Int32)) (pc := 165) hx hb dX4_object_165 (by decide) ?_
        exact b_X4_object_166 C ih x0 x5 x4 (0 : Int32) h9 H locs cells slots ls hH hL (lv_sub hl [0, 2] rfl) hrun
      · have hrun := ite_f hrun c_
        refine lv_iconst (v := (1 : Int32)) (pc := 161) hx hb dX4_object_161 (by decide) ?_
        refine lv_goto (tgt := 166) (pc := 162) hx hb dX4_object_162 (by decide) ?_
        exact b_X4_object_166 C ih x0 x5 x4 (1 : Int32) h9 H locs cells slots ls hH hL (lv_sub hl [0, 2] rfl) hrun

theorem b_X4_object_119 {rr : (Int32 ⊕ Ex) × Hp}  (C : CX p l R s m args meth c D Hs cX4_object "MassclaimModel" 6 (some .int) [] 4 64)  : ∀ (x0 : Nat) (y0 : Nat) (y1 : Int32) (y2 : Int32) (h : Hp) (H : Heap) (locs : List Loc) (cells slots : Nat) (ls : Array Slot), HP D Hs h H → LO Hs locs → lv_has ls 6 [(0, rv x0)] → f_X4_object_119 x0 y0 y1 y2 h = some rr → W p l e R s m args below meth c H locs cells slots (ZM D Hs iI rr below args s) (F0 m 119 ls [.int y2, .int y1, rv y0]) := by
  obtain ⟨⟨hx, hb, hml, hown, hts⟩, -⟩ := id C
  have hl9 := C.2.1.2.2.1
  intro x0 y0 y1 y2 h H locs cells slots ls hH hL hl hrun
  unfold f_X4_object_119 at hrun
  refine lv_ior (pc := 119) hx hb dX4_object_119 ?_
  obtain ⟨c13, hrun⟩ := gd_some hrun
  obtain ⟨c14, hrun⟩ := gd_some hrun
  refine V_putI (pc := 120) C hH hL fl_X4_60 dX4_object_120 c13 (fok_z c14) rfl (fun q => Bool.noConfusion q) hrun (fun h15 H locs hH hL hrun => ?_)
  refine lv_iconst (v := (0 : Int32)) (pc := 123) hx hb dX4_object_123 (by decide) ?_
  refine lv_istore (i := 4) (lv' := [(4, .int (0 : Int32)), (0, rv x0)]) (pc := 124) hx hb dX4_object_124 hl (by decide) rfl (fun ls hl => ?_)
  refine lv_iconst (v := (0 : Int32)) (pc := 126) hx hb dX4_object_126 (by decide) ?_
  refine lv_istore (i := 5) (lv' := [(5, .int (0 : Int32)), (4, .int (0 : Int32)), (0, rv x0)]) (pc := 127) hx hb dX4_object_127 hl (by decide) rfl (fun ls hl => ?_)
  exact b_X4_object_129 C FU x0 (0 : Int32) (0 : Int32) h15 H locs cells slots ls hH hL (lv_sub hl [2, 1, 0] rfl) hrun

theorem b_X4_object_101 {rr : (Int32 ⊕ Ex) × Hp}  (C : CX p l R s m args meth c D Hs cX4_object "MassclaimModel" 6 (some .int) [] 4 64)  : ∀ (x0 : Nat) (x2 : Int32) (y0 : Nat) (y1 : Int32) (h : Hp) (H : Heap) (locs : List Loc) (cells slots : Nat) (ls : Array Slot), HP D Hs h H → LO Hs locs → lv_has ls 6 [(0, rv x0), (2, .int x2)] → f_X4_object_101 x0 x2 y0 y1 h = some rr → W p l e R s m args below meth c H locs cells slots (ZM D Hs iI rr below args s) (F0 m 101 ls [.int y1, rv y0]) := by
  obtain ⟨⟨hx, hb, hml, hown, hts⟩, -⟩ := id C
  have hl9 := C.2.1.2.2.1
  intro x0 x2 y0 y1 h H locs cells slots ls hH hL hl hrun
  unfold f_X4_object_101 at hrun
  obtain ⟨c16, hrun⟩ := gd_some hrun
  obtain ⟨c17, hrun⟩ := gd_some hrun
  refine V_putI (pc := 101) C hH hL fl_X4_344 dX4_object_101 c16 (fok_z c17) rfl (fun q => Bool.noConfusion q) hrun (fun h18 H locs hH hL hrun => ?_)
  refine V_aload_n (pc := 104) hx hb dX4_object_104 rfl (lv_at hl 0 rfl) ?_
  refine lv_dup (pc := 105) hx hb dX4_object_105 (rv_cat _) ?_
  obtain ⟨c19, hrun⟩ := gd_some hrun
  refine V_getI (pc := 106) C hH fr_X4_60 dX4_object_106 c19 rfl ?_
  refine lv_iload_n (pc := 109) hx hb dX4_object_109 rfl (lv_at hl 1 rfl) ?_
  refine lv_iconst (v := (2 : Int32)) (pc := 110) hx hb dX4_object_110 (by decide) ?_
  refine lv_icmp_ne (tgt := 118) (pc := 111) hx hb dX4_object_111 (by decide) (fun c_ => ?_) (fun c_ => ?_)
  · have hrun := ite_f hrun c_
    refine lv_iconst (v := (0 : Int32)) (pc := 118) hx hb dX4_object_118 (by decide) ?_
    exact b_X4_object_119 C x0 x0 (kI h18 314 x0) (0 : Int32) h18 H locs cells slots ls hH hL (lv_sub hl [0] rfl) hrun
  · have hrun := ite_t hrun c_
    refine lv_iconst (v := (1 : Int32)) (pc := 114) hx hb dX4_object_114 (by decide) ?_
    refine lv_goto (tgt := 119) (pc := 115) hx hb dX4_object_115 (by decide) ?_
    exact b_X4_object_119 C x0 x0 (kI h18 314 x0) (1 : Int32) h18 H locs cells slots ls hH hL (lv_sub hl [0] rfl) hrun

theorem b_X4_object_82 {rr : (Int32 ⊕ Ex) × Hp}  (C : CX p l R s m args meth c D Hs cX4_object "MassclaimModel" 6 (some .int) [] 4 64)  : ∀ (x0 : Nat) (x2 : Int32) (x3 : Nat) (y0 : Nat) (y1 : Int32) (h : Hp) (H : Heap) (locs : List Loc) (cells slots : Nat) (ls : Array Slot), HP D Hs h H → LO Hs locs → lv_has ls 6 [(0, rv x0), (2, .int x2), (3, rv x3)] → f_X4_object_82 x0 x2 x3 y0 y1 h = some rr → W p l e R s m args below meth c H locs cells slots (ZM D Hs iI rr below args s) (F0 m 82 ls [.int y1, rv y0]) := by
  obtain ⟨⟨hx, hb, hml, hown, hts⟩, -⟩ := id C
  have hl9 := C.2.1.2.2.1
  intro x0 x2 x3 y0 y1 h H locs cells slots ls hH hL hl hrun
  unfold f_X4_object_82 at hrun
  refine lv_iconst (v := (3 : Int32)) (pc := 82) hx hb dX4_object_82 (by decide) ?_
  obtain ⟨c22, hrun⟩ := gd_some hrun
  refine V_bd (pc := 83) C hL rfl hrun (fun rr1 e1 => Z_runV (rest := []) C hH (m_X4_isGood hl9 e1) wV_X4_104 c22 rfl (by decide) rfl rfl ⟨by decide, by decide⟩ rfl (Nat.le_of_ble_eq_true rfl) hl.1 dX4_object_83) (fun v20 h21 H locs cells slots hH hL hrun => ?_)
  refine lv_if_ne (tgt := 91) (pc := 86) hx hb dX4_object_86 (by decide) (fun c_ => ?_) (fun c_ => ?_)
  · have hrun := ite_f hrun c_
    refine V_aload_n (pc := 91) hx hb dX4_object_91 rfl (lv_at hl 2 rfl) ?_
    refine lv_iload_n (pc := 92) hx hb dX4_object_92 rfl (lv_at hl 1 rfl) ?_
    refine lv_if_ne (tgt := 100) (pc := 93) hx hb dX4_object_93 (by decide) (fun c_ => ?_) (fun c_ => ?_)
    · have hrun := ite_f hrun c_
      refine lv_iconst (v := (0 : Int32)) (pc := 100) hx hb dX4_object_100 (by decide) ?_
      exact b_X4_object_101 C x0 x2 x3 (0 : Int32) h21 H locs cells slots ls hH hL (lv_sub hl [0, 1] rfl) hrun
    · have hrun := ite_t hrun c_
      refine lv_iconst (v := (1 : Int32)) (pc := 96) hx hb dX4_object_96 (by decide) ?_
      refine lv_goto (tgt := 101) (pc := 97) hx hb dX4_object_97 (by decide) ?_
      exact b_X4_object_101 C x0 x2 x3 (1 : Int32) h21 H locs cells slots ls hH hL (lv_sub hl [0, 1] rfl) hrun
  · have hrun := ite_t hrun c_
    refine lv_iconst (v := (0 : Int32)) (pc := 89) hx hb dX4_object_89 (by decide) ?_
    exact V_iret (pc := 90) C hH hL hrun dX4_object_90

theorem b_X4_object_81 {rr : (Int32 ⊕ Ex) × Hp}  (C : CX p l R s m args meth c D Hs cX4_object "MassclaimModel" 6 (some .int) [] 4 64)  : ∀ (x0 : Nat) (x2 : Int32) (x3 : Nat) (y0 : Nat) (h : Hp) (H : Heap) (locs : List Loc) (cells slots : Nat) (ls : Array Slot), HP D Hs h H → LO Hs locs → lv_has ls 6 [(0, rv x0), (2, .int x2), (3, rv x3)] → f_X4_object_81 x0 x2 x3 y0 h = some rr → W p l e R s m args below meth c H locs cells slots (ZM D Hs iI rr below args s) (F0 m 81 ls [rv y0]) := by
  obtain ⟨⟨hx, hb, hml, hown, hts⟩, -⟩ := id C
  have hl9 := C.2.1.2.2.1
  intro x0 x2 x3 y0 h H locs cells slots ls hH hL hl hrun
  unfold f_X4_object_81 at hrun
  refine lv_iconst (v := (0 : Int32)) (pc := 81) hx hb dX4_object_81 (by decide) ?_
  exact b_X4_object_82 C x0 x2 x3 y0 (0 : Int32) h H locs cells slots ls hH hL (lv_sub hl [0, 1, 2] rfl) hrun

theorem b_X4_object_74 {rr : (Int32 ⊕ Ex) × Hp}  (C : CX p l R s m args meth c D Hs cX4_object "MassclaimModel" 6 (some .int) [] 4 64)  : ∀ (x0 : Nat) (x2 : Int32) (x3 : Nat) (y0 : Nat) (y1 : Int32) (y2 : Int32) (h : Hp) (H : Heap) (locs : List Loc) (cells slots : Nat) (ls : Array Slot), HP D Hs h H → LO Hs locs → lv_has ls 6 [(0, rv x0), (2, .int x2), (3, rv x3)] → f_X4_object_74 x0 x2 x3 y0 y1 y2 h = some rr → W p l e R s m args below meth c H locs cells slots (ZM D Hs iI rr below args s) (F0 m 74 ls [.int y2, .int y1, rv y0]) := by
  obtain ⟨⟨hx, hb, hml, hown, hts⟩, -⟩ := id C
  have hl9 := C.2.1.2.2.1
  intro x0 x2 x3 y0 y1 y2 h H locs cells slots ls hH hL hl hrun
  unfold f_X4_object_74 at hrun
  refine lv_icmp_ne (tgt := 81) (pc := 74) hx hb dX4_object_74 (by decide) (fun c_ => ?_) (fun c_ => ?_)
  · have hrun := ite_f hrun c_
    exact b_X4_object_81 C x0 x2 x3 y0 h H locs cells slots ls hH hL (lv_sub hl [0, 1, 2] rfl) hrun
  · have hrun := ite_t hrun c_
    refine lv_iconst (v := (1 : Int32)) (pc := 77) hx hb dX4_object_77 (by decide) ?_
    refine lv_goto (tgt := 82) (pc := 78) hx hb dX4_object_78 (by decide) ?_
    exact b_X4_object_82 C x0 x2 x3 y0 (1 : Int32) h H locs cells slots ls hH hL (lv_sub hl [0, 1, 2] rfl) hrun

theorem b_X4_object {rr : (Int32 ⊕ Ex) × Hp}  (C : CX p l R s m args meth c D Hs cX4_object "MassclaimModel" 6 (some .int) [] 4 64)  : ∀ (x0 : Nat) (x1 : Int32) (x2 : Int32) (h : Hp) (H : Heap) (locs : List Loc) (cells slots : Nat) (ls : Array Slot), HP D Hs h H → LO Hs locs → lv_has ls 6 [(0, rv x0), (1, .int x1), (2, .int x2)] → f_X4_object x0 x1 x2 h = some rr → W p l e R s m args below meth c H locs cells slots (ZM D Hs iI rr below args s) (F0 m 0 ls []) := by
  obtain ⟨⟨hx, hb, hml, hown, hts⟩, -⟩ := id C
  have hl9 := C.2.1.2.2.1
  intro x0 x1 x2 h H locs cells slots ls hH hL hl hrun
  unfold f_X4_object at hrun
  refine V_aload_n (pc := 0) hx hb dX4_object_0 rfl (lv_at hl 0 rfl) ?_
  refine V_aload_n (pc := 1) hx hb dX4_object_1 rfl (lv_at hl 0 rfl) ?_
  refine lv_iload_n (pc := 2) hx hb dX4_object_2 rfl (lv_at hl 1 rfl) ?_
  obtain ⟨c25, hrun⟩ := gd_some hrun
  refine V_bd (pc := 3) C hL rfl hrun (fun rr1 e1 => Z_runV (rest := [rv x0]) C hH (m_X4_isPerson hl9 e1) wV_X4_190 c25 rfl (by decide) rfl rfl ⟨by decide, by decide⟩ rfl (by simp [csum, rv_cat, cat_i, cat_l, cat_f, cat_d]) hl.1 dX4_object_3) (fun v23 h24 H locs cells slots hH hL hrun => ?_)
  refine lv_iconst (v := (1 : Int32)) (pc := 6) hx hb dX4_object_6 (by decide) ?_
  obtain ⟨c28, hrun⟩ := gd_some hrun
  refine V_bd (pc := 7) C hL rfl hrun (fun rr1 e1 => Z_runV (rest := []) C hH (m_X4_isGood hl9 e1) wV_X4_104 c28 rfl (by decide) rfl rfl ⟨by decide, by decide⟩ rfl (Nat.le_of_ble_eq_true rfl) hl.1 dX4_object_7) (fun v26 h27 H locs cells slots hH hL hrun => ?_)
  refine lv_if_eq (tgt := 30) (pc := 10) hx hb dX4_object_10 (by decide) (fun c_ => ?_) (fun c_ => ?_)
  · have hrun := ite_t hrun c_
    exact b_X4_object_30 C h27 H locs cells slots ls hH hL (lv_sub hl [] rfl) hrun
  · have hrun := ite_f hrun c_
    refine V_aload_n (pc := 13) hx hb dX4_object_13 rfl (lv_at hl 0 rfl) ?_
    refine lv_iload_n (pc := 14) hx hb dX4_object_14 rfl (lv_at hl 2 rfl) ?_
    refine lv_i2l (pc := 15) hx hb dX4_object_15 rfl ?_
    refine lv_lconst (v := (0 : Int64)) (pc := 16) hx hb dX4_object_16 (by decide) ?_
    refine lv_ldc2 (pc := 17) hx hb hown (hts _ q2170) dX4_object_17 ?_
    refine V_bd (pc := 20) C hL rfl hrun (fun rr1 e1 => Z_runS (rest := [rv x0]) C hH (m_X4_isWithin hl9 e1) wS_X4_100 rfl ⟨by decide, by decide⟩ rfl (by simp [csum, rv_cat, cat_i, cat_l, cat_f, cat_d]) hl.1 dX4_object_20) (fun v29 h30 H locs cells slots hH hL hrun => ?_)
    refine lv_iconst (v := (2 : Int32)) (pc := 23) hx hb dX4_object_23 (by decide) ?_
    obtain ⟨c33, hrun⟩ := gd_some hrun
    refine V_bd (pc := 24) C hL rfl hrun (fun rr1 e1 => Z_runV (rest := []) C hH (m_X4_isGood hl9 e1) wV_X4_104 c33 rfl (by decide) rfl rfl ⟨by decide, by decide⟩ rfl (Nat.le_of_ble_eq_true rfl) hl.1 dX4_object_24) (fun v31 h32 H locs cells slots hH hL hrun => ?_)
    refine lv_if_ne (tgt := 32) (pc := 27) hx hb dX4_object_27 (by decide) (fun c_ => ?_) (fun c_ => ?_)
    · have hrun := ite_f hrun c_
      refine V_aload_n (pc := 32) hx hb dX4_object_32 rfl (lv_at hl 0 rfl) ?_
      obtain ⟨c34, hrun⟩ := gd_some hrun
      refine V_getR (pc := 33) C hH fr_X4_16 dX4_object_33 c34 rfl ?_
      refine lv_iload_n (pc := 36) hx hb dX4_object_36 rfl (lv_at hl 1 rfl) ?_
      obtain ⟨c37, hrun⟩ := gd_some hrun
      refine V_bd (pc := 37) C hL rfl hrun (fun rr1 e1 => Z_runV (rest := []) C hH (m_J2_get hl9 e1) wV_X4_108 c37 rfl (by decide) rfl rfl ⟨by decide, by decide⟩ rfl (Nat.le_of_ble_eq_true rfl) hl.1 dX4_object_37) (fun v35 h36 H locs cells slots hH hL hrun => ?_)
      obtain ⟨c38, hrun⟩ := gd_some hrun
      refine V_castX (pc := 40) (ci := 5) C hH rfl (by decide) q1946 dX4_object_40 c38 ?_
      refine V_astore_n (i := 3) (lv' := [(3, rv v35), (0, rv x0), (1, .int x1), (2, .int x2)]) (pc := 43) hx hb dX4_object_43 rfl hl (by decide) rfl (fun ls hl => ?_)
      refine V_aload_n (pc := 44) hx hb dX4_object_44 rfl (lv_at hl 1 rfl) ?_
      refine V_aload_n (pc := 45) hx hb dX4_object_45 rfl (lv_at hl 1 rfl) ?_
      refine V_aload_n (pc := 46) hx hb dX4_object_46 rfl (lv_at hl 0 rfl) ?_
      obtain ⟨c41, hrun⟩ := gd_some hrun
      refine V_bd (pc := 47) C hL rfl hrun (fun rr1 e1 => Z_runV (rest := [rv x0]) C hH (m_X4_isIn hl9 e1) wV_X4_120 c41 rfl (by decide) rfl rfl ⟨by decide, by decide⟩ rfl (by simp [csum, rv_cat, cat_i, cat_l, cat_f, cat_d]) hl.1 dX4_object_47) (fun v39 h40 H locs cells slots hH hL hrun => ?_)
      refine lv_if_eq (tgt := 81) (pc := 50) hx hb dX4_object_50 (by decide) (fun c_ => ?_) (fun c_ => ?_)
      · have hrun := ite_t hrun c_
        exact b_X4_object_81 C x0 x2 v35 x0 h40 H locs cells slots ls hH hL (lv_sub hl [1, 3, 0] rfl) hrun
      · have hrun := ite_f hrun c_
        refine V_aload_n (pc := 53) hx hb dX4_object_53 rfl (lv_at hl 1 rfl) ?_
        obtain ⟨c42, hrun⟩ := gd_some hrun
        refine V_getI (pc := 54) C hH fr_X4_53 dX4_object_54 c42 rfl ?_
        refine lv_iconst (v := (2 : Int32)) (pc := 57) hx hb dX4_object_57 (by decide) ?_
        refine lv_icmp_ne (tgt := 81) (pc := 58) hx hb dX4_object_58 (by decide) (fun c_ => ?_) (fun c_ => ?_)
        · have hrun := ite_f hrun c_
          exact b_X4_object_81 C x0 x2 v35 x0 h40 H locs cells slots ls hH hL (lv_sub hl [1, 3, 0] rfl) hrun
        · have hrun := ite_t hrun c_
          refine V_aload_n (pc := 61) hx hb dX4_object_61 rfl (lv_at hl 0 rfl) ?_
          obtain ⟨c43, hrun⟩ := gd_some hrun
          refine V_getI (pc := 62) C hH fr_X4_344 dX4_object_62 c43 rfl ?_
          refine lv_iload_n (pc := 65) hx hb dX4_object_65 rfl (lv_at hl 3 rfl) ?_
          refine lv_if_eq (tgt := 73) (pc := 66) hx hb dX4_object_66 (by decide) (fun c_ => ?_) (fun c_ => ?_)
          · have hrun := ite_t hrun c_
            refine lv_iconst (v := (0 : Int32)) (pc := 73) hx hb dX4_object_73 (by decide) ?_
            exact b_X4_object_74 C x0 x2 v35 x0 (kI h40 516 v35) (0 : Int32) h40 H locs cells slots ls hH hL (lv_sub hl [1, 3, 0] rfl) hrun
          · have hrun := ite_f hrun c_
            refine lv_iconst (v := (1 : Int32)) (pc := 69) hx hb dX4_object_69 (by decide) ?_
            refine lv_goto (tgt := 74) (pc := 70) hx hb dX4_object_70 (by decide) ?_
            exact b_X4_object_74 C x0 x2 v35 x0 (kI h40 516 v35) (1 : Int32) h40 H locs cells slots ls hH hL (lv_sub hl [1, 3, 0] rfl) hrun
    · have hrun := ite_t hrun c_
      exact b_X4_object_30 C h32 H locs cells slots ls hH hL (lv_sub hl [] rfl) hrun

theorem m_X4_object {l : Launch} {D : va_G} {Hs : Heap} {h : Hp} {rr : (Int32 ⊕ Ex) × Hp} (hl9 : l.stackTraces = false) {x0 : Nat} {x1 : Int32} {x2 : Int32} (hrun : f_X4_object x0 x1 x2 h = some rr) : CM l yX4_object (ws_ yX4_object cX4_object 6 (some .int)) 4 64 iI [rv x0, .int x1, .int x2] D Hs h rr := by
  refine CM.of (lv := [(0, rv x0), (1, .int x1), (2, .int x2)]) (plainFor_of_name (by decide)) hl9 (by simp [lv_args, rv_cat, cat_i, cat_l, cat_f, cat_d]) (by simp [lg_sl, rv_cat, cat_i, cat_l, cat_f, cat_d]) ?_
  intro p e R s m args below meth c H ls C hH hl hin
  exact b_X4_object C x0 x1 x2 _ H [] _ _ ls hH (fun _ q => nomatch q) (lv_sub hl [0, 1, 2] rfl) hrun

/-! Massclaim.owed()J -/
def f_X1_owed_10  : Nat → Int64 → Nat → Hp → Rt Int64
  | 0, _, _, _ => none
  | n + 1, x1, x3, h => gd (kC h x3 = 19) <| bd (f_J16_hasNext x3 h) fun v1 h2 => if v1 = 0 then
  (some (.inl x1, h2))
  else
  (gd (kC h2 x3 = 19) <| bd (f_J16_next x3 h2) fun v4 h5 => gd (v4 = 0 ∨ kC h5 v4 = 8) <| gd (kC h5 v4 = 8) <| vl (x1 + (kL h5 703 v4)) fun v9 => f_X1_owed_10 n v9 x3 h5)
def f_X1_owed  (x0 : Nat) (h : Hp) : Rt Int64 :=
  gd (kC h x0 = 1) <| gd (kC h (kR h 2 x0) = 2) <| bd (f_X2_iterator (kR h 2 x0) h) fun v11 h12 => f_X1_owed_10 FU (0 : Int64) v11 h12
theorem b_X1_owed_10 {rr : (Int64 ⊕ Ex) × Hp}  (C : CX p l R s m args meth c D Hs cX1_owed "Massclaim" 5 (some .long) [] 4 81)  : ∀ (n : Nat) (x1 : Int64) (x3 : Nat) (h : Hp) (H : Heap) (locs : List Loc) (cells slots : Nat) (ls : Array Slot), HP D Hs h H → LO Hs locs → lv_has ls 5 [(1, .long x1), (3, rv x3)] → f_X1_owed_10 n x1 x3 h = some rr → W p l e R s m args below meth c H locs cells slots (ZM D Hs iL rr below args s) (F0 m 10 ls []) := by
  obtain ⟨⟨hx, hb, hml, hown, hts⟩, -⟩ := id C
  have hl9 := C.2.1.2.2.1
  intro n
  induction n with
  | zero =>
    intro x1 x3 h H locs cells slots ls hH hL hl hrun
    cases (show (none : Option _) = some rr from hrun)
  | succ n ih =>
    intro x1 x3 h H locs cells slots ls hH hL hl hrun
    rw [f_X1_owed_10] at hrun
    refine V_aload_n (pc := 10) hx hb dX1_owed_10 rfl (lv_at hl 1 rfl) ?_
    obtain ⟨c3, hrun⟩ := gd_some hrun
    refine V_bd5 (pc := 11) C hL rfl hrun (fun rr1 e1 => Z_runF (rest := []) C hH (m_J16_hasNext hl9 e1) rfl wF_X1_212_J16 c3 (by decide) rfl ⟨by decide, by decide⟩ rfl (Nat.le_of_ble_eq_true rfl) hl.1 dX1_owed_11) (fun v1 h2 H locs cells slots hH hL hrun => ?_)
    refine lv_if_eq (tgt := 41) (pc := 16) hx hb dX1_owed_16 (by decide) (fun c_ => ?_) (fun c_ => ?_)
    · have hrun := ite_t hrun c_
      refine lv_lload_n (pc := 41) hx hb dX1_owed_41 rfl (lv_at hl 0 rfl) ?_
      exact V_lret (pc := 42) C hH hL hrun dX1_owed_42
    · have hrun := ite_f hrun c_
      refine V_aload_n (pc := 19) hx hb dX1_owed_19 rfl (lv_at hl 1 rfl) ?_
      obtain ⟨c6, hrun⟩ := gd_some hrun
      refine V_bd5 (pc := 20) C hL rfl hrun (fun rr1 e1 => Z_runF (rest := []) C hH (m_J16_next hl9 e1) rfl wF_X1_217_J16 c6 (by decide) rfl ⟨by decide, by decide⟩ rfl (Nat.le_of_ble_eq_true rfl) hl.1 dX1_owed_20) (fun v4 h5 H locs cells slots hH hL hrun => ?_)
      obtain ⟨c7, hrun⟩ := gd_some hrun
      refine V_castX (pc := 25) (ci := 7) C hH rfl (by decide) q363 dX1_owed_25 c7 ?_
      refine V_astore (i := 4) (lv' := [(4, rv v4), (1, .long x1), (3, rv x3)]) (pc := 28) hx hb dX1_owed_28 hl (by decide) (by simp [rv_cat, cat_i, cat_l, cat_f, cat_d]) (fun ls hl => ?_)
      refine lv_lload_n (pc := 30) hx hb dX1_owed_30 rfl (lv_at hl 1 rfl) ?_
      refine V_aload (pc := 31) hx hb dX1_owed_31 (lv_at hl 0 rfl) ?_
      obtain ⟨c8, hrun⟩ := gd_some hrun
      refine V_getNL (pc := 33) C hH fn_X1_329 dX1_owed_33 c8 rfl ?_
      refine lv_ladd (pc := 36) hx hb dX1_owed_36 ?_
      refine lv_topl (fun v9 ev9 => ?_)
      have hrun := vl_at hrun v9 ev9
      refine lv_lstore_n (i := 1) (lv' := [(1, .long v9), (4, rv v4), (3, rv x3)]) (pc := 37) hx hb dX1_owed_37 rfl hl (by decide) rfl (fun ls hl => ?_)
      refine lv_goto (tgt := 10) (pc := 38) hx hb dX1_owed_38 (by decide) ?_
      exact ih v9 x3 h5 H locs cells slots ls hH hL (lv_sub hl [0, 2] rfl) hrun

theorem b_X1_owed {rr : (Int64 ⊕ Ex) × Hp}  (C : CX p l R s m args meth c D Hs cX1_owed "Massclaim" 5 (some .long) [] 4 81)  : ∀ (x0 : Nat) (h : Hp) (H : Heap) (locs : List Loc) (cells slots : Nat) (ls : Array Slot), HP D Hs h H → LO Hs locs → lv_has ls 5 [(0, rv x0)] → f_X1_owed x0 h = some rr → W p l e R s m args below meth c H locs cells slots (ZM D Hs iL rr below args s) (F0 m 0 ls []) := by
  obtain ⟨⟨hx, hb, hml, hown, hts⟩, -⟩ := id C
  have hl9 := C.2.1.2.2.1
  intro x0 h H locs cells slots ls hH hL hl hrun
  unfold f_X1_owed at hrun
  refine lv_lconst (v := (0 : Int64)) (pc := 0) hx hb dX1_owed_0 (by decide) ?_
  refine lv_lstore_n (i := 1) (lv' := [(1, .long (0 : Int64)), (0, rv x0)]) (pc := 1) hx hb dX1_owed_1 rfl hl (by decide) (by simp [rv_cat, cat_i, cat_l, cat_f, cat_d]) (fun ls hl => ?_)
  refine V_aload_n (pc := 2) hx hb dX1_owed_2 rfl (lv_at hl 1 rfl) ?_
  obtain ⟨c10, hrun⟩ := gd_some hrun
  refine V_getR (pc := 3) C hH fr_X1_49 dX1_owed_3 c10 rfl ?_
  obtain ⟨c13, hrun⟩ := gd_some hrun
  refine V_bd (pc := 6) C hL rfl hrun (fun rr1 e1 => Z_runV (rest := []) C hH (m_X2_iterator hl9 e1) wV_X1_208 c13 rfl (by decide) rfl rfl ⟨by decide, by decide⟩ rfl (Nat.le_of_ble_eq_true rfl) hl.1 dX1_owed_6) (fun v11 h12 H locs cells slots hH hL hrun => ?_)
  refine V_astore_n (i := 3) (lv' := [(3, rv v11), (1, .long (0 : Int64)), (0, rv x0)]) (pc := 9) hx hb dX1_owed_9 rfl hl (by decide) rfl (fun ls hl => ?_)
  exact b_X1_owed_10 C FU (0 : Int64) v11 h12 H locs cells slots ls hH hL (lv_sub hl [1, 0] rfl) hrun

theorem m_X1_owed {l : Launch} {D : va_G} {Hs : Heap} {h : Hp} {rr : (Int64 ⊕ Ex) × Hp} (hl9 : l.stackTraces = false) {x0 : Nat} (hrun : f_X1_owed x0 h = some rr) : CM l yX1_owed (ws_ yX1_owed cX1_owed 5 (some .long)) 4 81 iL [rv x0] D Hs h rr := by
  refine CM.of (lv := [(0, rv x0)]) (plainFor_of_name (by decide)) hl9 (by simp [lv_args, rv_cat, cat_i, cat_l, cat_f, cat_d]) (by simp [lg_sl, rv_cat, cat_i, cat_l, cat_f, cat_d]) ?_
  intro p e R s m args below meth c H ls C hH hl hin
  exact b_X1_owed C x0 _ H [] _ _ ls hH (fun _ q => nomatch q) (lv_sub hl [0] rfl) hrun

/-! Massclaim.raise(I)J -/
def f_X1_raise_68  (x0 : Nat) (x1 : Int32) (y0 : Int32) (h : Hp) : Rt Int64 :=
  bd (f_X1_requireState y0 h) fun _ h2 => gd (kC h2 x0 = 1) <| gd (kC h2 (kR h2 9 x0) = 10) <| vl (sI h2 900 (kR h2 9 x0) x1) fun h5 => gd (kC h5 x0 = 1) <| bd (f_X1_owed x0 h5) fun v6 h7 => some (.inl v6, h7)
def f_X1_raise_67  (x0 : Nat) (x1 : Int32) (h : Hp) : Rt Int64 :=
  f_X1_raise_68 x0 x1 (0 : Int32) h
def f_X1_raise_35  (x0 : Nat) (x1 : Int32) (y0 : Int32) (h : Hp) : Rt Int64 :=
  bd (f_X1_requireArgument y0 h) fun _ h10 => gd (kC h10 x0 = 1) <| bd (f_X1_stage x0 h10) fun v11 h12 => if v11 = (3 : Int32) then
  (gd (kC h12 x0 = 1) <| gd (kC h12 (kR h12 9 x0) = 10) <| bd (f_X1_bears x0 ((x1 - (kI h12 900 (kR h12 9 x0))).toInt64) h12) fun v16 h17 => if v16 = 0 then
  (f_X1_raise_67 x0 x1 h17)
  else
  (f_X1_raise_68 x0 x1 (1 : Int32) h17))
  else
  (f_X1_raise_67 x0 x1 h12)
def f_X1_raise_34  (x0 : Nat) (x1 : Int32) (h : Hp) : Rt Int64 :=
  f_X1_raise_35 x0 x1 (0 : Int32) h
def f_X1_raise_30  (x0 : Nat) (x1 : Int32) (h : Hp) : Rt Int64 :=
  f_X1_raise_35 x0 x1 (1 : Int32) h
def f_X1_raise  (x0 : Nat) (x1 : Int32) (h : Hp) : Rt Int64 :=
  bd (f_X1_isIn (x1.toInt64) (1 : Int64) (1000000000 : Int64) h) fun v18 h19 => if v18 = 0 then
  (f_X1_raise_34 x0 x1 h19)
  else
  (gd (kC h19 x0 = 1) <| if (kR h19 9 x0) = 0 then
  (f_X1_raise_30 x0 x1 h19)
  else
  (gd (kC h19 (kR h19 9 x0) = 10) <| if x1 ≤ (kI h19 900 (kR h19 9 x0)) then
  (f_X1_raise_34 x0 x1 h19)
  else
  (f_X1_raise_30 x0 x1 h19)))
theorem b_X1_raise_68 {rr : (Int64 ⊕ Ex) × Hp}  (C : CX p l R s m args meth c D Hs cX1_raise "Massclaim" 2 (some .long) [] 9 360)  : ∀ (x0 : Nat) (x1 : Int32) (y0 : Int32) (h : Hp) (H : Heap) (locs : List Loc) (cells slots : Nat) (ls : Array Slot), HP D Hs h H → LO Hs locs → lv_has ls 2 [(0, rv x0), (1, .int x1)] → f_X1_raise_68 x0 x1 y0 h = some rr → W p l e R s m args below meth c H locs cells slots (ZM D Hs iL rr below args s) (F0 m 68 ls [.int y0]) := by
  obtain ⟨⟨hx, hb, hml, hown, hts⟩, -⟩ := id C
  have hl9 := C.2.1.2.2.1
  intro x0 x1 y0 h H locs cells slots ls hH hL hl hrun
  unfold f_X1_raise_68 at hrun
  refine V_bd (pc := 68) C hL rfl hrun (fun rr1 e1 => Z_runS (rest := []) C hH (m_X1_requireState hl9 e1) wS_X1_182 rfl ⟨by decide, by decide⟩ rfl (Nat.le_of_ble_eq_true rfl) hl.1 dX1_raise_68) (fun _ h2 H locs cells slots hH hL hrun => ?_)
  refine V_aload_n (pc := 71) hx hb dX1_raise_71 rfl (lv_at hl 0 rfl) ?_
  obtain ⟨c3, hrun⟩ := gd_some hrun
  refine V_getR (pc := 72) C hH fr_X1_84 dX1_raise_72 c3 rfl ?_
  refine lv_iload_n (pc := 75) hx hb dX1_raise_75 rfl (lv_at hl 1 rfl) ?_
  obtain ⟨c4, hrun⟩ := gd_some hrun
  refine V_putNI (pc := 76) C hH hL fn_X1_397 dX1_raise_76 c4 (fok_i _) rfl hrun (fun h5 H locs hH hL hrun => ?_)
  refine V_aload_n (pc := 79) hx hb dX1_raise_79 rfl (lv_at hl 0 rfl) ?_
  obtain ⟨c8, hrun⟩ := gd_some hrun
  refine V_bd (pc := 80) C hL rfl hrun (fun rr1 e1 => Z_runV (rest := []) C hH (m_X1_owed hl9 e1) wV_X1_409 c8 rfl (by decide) rfl rfl ⟨by decide, by decide⟩ rfl (Nat.le_of_ble_eq_true rfl) hl.1 dX1_raise_80) (fun v6 h7 H locs cells slots hH hL hrun => ?_)
  exact V_lret (pc := 83) C hH hL hrun dX1_raise_83

theorem b_X1_raise_67 {rr : (Int64 ⊕ Ex) × Hp}  (C : CX p l R s m args meth c D Hs cX1_raise "Massclaim" 2 (some .long) [] 9 360)  : ∀ (x0 : Nat) (x1 : Int32) (h : Hp) (H : Heap) (locs : List Loc) (cells slots : Nat) (ls : Array Slot), HP D Hs h H → LO Hs locs → lv_has ls 2 [(0, rv x0), (1, .int x1)] → f_X1_raise_67 x0 x1 h = some rr → W p l e R s m args below meth c H locs cells slots (ZM D Hs iL rr below args s) (F0 m 67 ls []) := by
  obtain ⟨⟨hx, hb, hml, hown, hts⟩, -⟩ := id C
  have hl9 := C.2.1.2.2.1
  intro x0 x1 h H locs cells slots ls hH hL hl hrun
  unfold f_X1_raise_67 at hrun
  refine lv_iconst (v := (0 : Int32)) (pc := 67) hx hb dX1_raise_67 (by decide) ?_
  exact b_X1_raise_68 C x0 x1 (0 : Int32) h H locs cells slots ls hH hL (lv_sub hl [0, 1] rfl) hrun

theorem b_X1_raise_35 {rr : (Int64 ⊕ Ex) × Hp}  (C : CX p l R s m args meth c D Hs cX1_raise "Massclaim" 2 (some .long) [] 9 360)  : ∀ (x0 : Nat) (x1 : Int32) (y0 : Int32) (h : Hp) (H : Heap) (locs : List Loc) (cells slots : Nat) (ls : Array Slot), HP D Hs h H → LO Hs locs → lv_has ls 2 [(0, rv x0), (1, .int x1)] → f_X1_raise_35 x0 x1 y0 h = some rr → W p l e R s m args below meth c H locs cells slots (ZM D Hs iL rr below args s) (F0 m 35 ls [.int y0]) := by
  obtain ⟨⟨hx, hb, hml, hown, hts⟩, -⟩ := id C
  have hl9 := C.2.1.2.2.1
  intro x0 x1 y0 h H locs cells slots ls hH hL hl hrun
  unfold f_X1_raise_35 at hrun
  refine V_bd (pc := 35) C hL rfl hrun (fun rr1 e1 => Z_runS (rest := []) C hH (m_X1_requireArgument hl9 e1) wS_X1_131 rfl ⟨by decide, by decide⟩ rfl (Nat.le_of_ble_eq_true rfl) hl.1 dX1_raise_35) (fun _ h10 H locs cells slots hH hL hrun => ?_)
  refine V_aload_n (pc := 38) hx hb dX1_raise_38 rfl (lv_at hl 0 rfl) ?_
  obtain ⟨c13, hrun⟩ := gd_some hrun
  refine V_bd (pc := 39) C hL rfl hrun (fun rr1 e1 => Z_runV (rest := []) C hH (m_X1_stage hl9 e1) wV_X1_123 c13 rfl (by decide) rfl rfl ⟨by decide, by decide⟩ rfl (Nat.le_of_ble_eq_true rfl) hl.1 dX1_raise_39) (fun v11 h12 H locs cells slots hH hL hrun => ?_)
  refine lv_iconst (v := (3 : Int32)) (pc := 42) hx hb dX1_raise_42 (by decide) ?_
  refine lv_icmp_ne (tgt := 67) (pc := 43) hx hb dX1_raise_43 (by decide) (fun c_ => ?_) (fun c_ => ?_)
  · have hrun := ite_f hrun c_
    exact b_X1_raise_67 C x0 x1 h12 H locs cells slots ls hH hL (lv_sub hl [0, 1] rfl) hrun
  · have hrun := ite_t hrun c_
    refine V_aload_n (pc := 46) hx hb dX1_raise_46 rfl (lv_at hl 0 rfl) ?_
    refine lv_iload_n (pc := 47) hx hb dX1_raise_47 rfl (lv_at hl 1 rfl) ?_
    refine V_aload_n (pc := 48) hx hb dX1_raise_48 rfl (lv_at hl 0 rfl) ?_
    obtain ⟨c14, hrun⟩ := gd_some hrun
    refine V_getR (pc := 49) C hH fr_X1_84 dX1_raise_49 c14 rfl ?_
    obtain ⟨c15, hrun⟩ := gd_some hrun
    refine V_getNI (pc := 52) C hH fn_X1_397 dX1_raise_52 c15 rfl ?_
    refine lv_isub (pc := 55) hx hb dX1_raise_55 ?_
    refine lv_i2l (pc := 56) hx hb dX1_raise_56 rfl ?_
    refine V_bd (pc := 57) C hL rfl hrun (fun rr1 e1 => Z_runV (rest := []) C hH (m_X1_bears hl9 e1) wV_X1_355 c14 rfl (by decide) rfl rfl ⟨by decide, by decide⟩ rfl (Nat.le_of_ble_eq_true rfl) hl.1 dX1_raise_57) (fun v16 h17 H locs cells slots hH hL hrun => ?_)
    refine lv_if_eq (tgt := 67) (pc := 60) hx hb dX1_raise_60 (by decide) (fun c_ => ?_) (fun c_ => ?_)
    · have hrun := ite_t hrun c_
      exact b_X1_raise_67 C x0 x1 h17 H locs cells slots ls hH hL (lv_sub hl [0, 1] rfl) hrun
    · have hrun := ite_f hrun c_
      refine lv_iconst (v := (1 : Int32)) (pc := 63) hx hb dX1_raise_63 (by decide) ?_
      refine lv_goto (tgt := 68) (pc := 64) hx hb dX1_raise_64 (by decide) ?_
      exact b_X1_raise_68 C x0 x1 (1 : Int32) h17 H locs cells slots ls hH hL (lv_sub hl [0, 1] rfl) hrun

theorem b_X1_raise_34 {rr : (Int64 ⊕ Ex) × Hp}  (C : CX p l R s m args meth c D Hs cX1_raise "Massclaim" 2 (some .long) [] 9 360)  : ∀ (x0 : Nat) (x1 : Int32) (h : Hp) (H : Heap) (locs : List Loc) (cells slots : Nat) (ls : Array Slot), HP D Hs h H → LO Hs locs → lv_has ls 2 [(0, rv x0), (1, .int x1)] → f_X1_raise_34 x0 x1 h = some rr → W p l e R s m args below meth c H locs cells slots (ZM D Hs iL rr below args s) (F0 m 34 ls []) := by
  obtain ⟨⟨hx, hb, hml, hown, hts⟩, -⟩ := id C
  have hl9 := C.2.1.2.2.1
  intro x0 x1 h H locs cells slots ls hH hL hl hrun
  unfold f_X1_raise_34 at hrun
  refine lv_iconst (v := (0 : Int32)) (pc := 34) hx hb dX1_raise_34 (by decide) ?_
  exact b_X1_raise_35 C x0 x1 (0 : Int32) h H locs cells slots ls hH hL (lv_sub hl [0, 1] rfl) hrun

theorem b_X1_raise_30 {rr : (Int64 ⊕ Ex) × Hp}  (C : CX p l R s m args meth c D Hs cX1_raise "Massclaim" 2 (some .long) [] 9 360)  : ∀ (x0 : Nat) (x1 : Int32) (h : Hp) (H : Heap) (locs : List Loc) (cells slots : Nat) (ls : Array Slot), HP D Hs h H → LO Hs locs → lv_has ls 2 [(0, rv x0), (1, .int x1)] → f_X1_raise_30 x0 x1 h = some rr → W p l e R s m args below meth c H locs cells slots (ZM D Hs iL rr below args s) (F0 m 30 ls []) := by
  obtain ⟨⟨hx, hb, hml, hown, hts⟩, -⟩ := id C
  have hl9 := C.2.1.2.2.1
  intro x0 x1 h H locs cells slots ls hH hL hl hrun
  unfold f_X1_raise_30 at hrun
  refine lv_iconst (v := (1 : Int32)) (pc := 30) hx hb dX1_raise_30 (by decide) ?_
  refine lv_goto (tgt := 35) (pc := 31) hx hb dX1_raise_31 (by decide) ?_
  exact b_X1_raise_35 C x0 x1 (1 : Int32) h H locs cells slots ls hH hL (lv_sub hl [0, 1] rfl) hrun

theorem b_X1_raise {rr : (Int64 ⊕ Ex) × Hp}  (C : CX p l R s m args meth c D Hs cX1_raise "Massclaim" 2 (some .long) [] 9 360)  : ∀ (x0 : Nat) (x1 : Int32) (h : Hp) (H : Heap) (locs : List Loc) (cells slots : Nat) (ls : Array Slot), HP D Hs h H → LO Hs locs → lv_has ls 2 [(0, rv x0), (1, .int x1)] → f_X1_raise x0 x1 h = some rr → W p l e R s m args below meth c H locs cells slots (ZM D Hs iL rr below args s) (F0 m 0 ls []) := by
  obtain ⟨⟨hx, hb, hml, hown, hts⟩, -⟩ := id C
  have hl9 := C.2.1.2.2.1
  intro x0 x1 h H locs cells slots ls hH hL hl hrun
  unfold f_X1_raise at hrun
  refine lv_iload_n (pc := 0) hx hb dX1_raise_0 rfl (lv_at hl 1 rfl) ?_
  refine lv_i2l (pc := 1) hx hb dX1_raise_1 rfl ?_
  refine lv_lconst (v := (1 : Int64)) (pc := 2) hx hb dX1_raise_2 (by decide) ?_
  refine lv_ldc2 (pc := 3) hx hb hown (hts _ q1328) dX1_raise_3 ?_
  refine V_bd (pc := 6) C hL rfl hrun (fun rr1 e1 => Z_runS (rest := []) C hH (m_X1_isIn hl9 e1) wS_X1_127 rfl ⟨by decide, by decide⟩ rfl (Nat.le_of_ble_eq_true rfl) hl.1 dX1_raise_6) (fun v18 h19 H locs cells slots hH hL hrun => ?_)
  refine lv_if_eq (tgt := 34) (pc := 9) hx hb dX1_raise_9 (by decide) (fun c_ => ?_) (fun c_ => ?_)
  · have hrun := ite_t hrun c_
    exact b_X1_raise_34 C x0 x1 h19 H locs cells slots ls hH hL (lv_sub hl [0, 1] rfl) hrun
  · have hrun := ite_f hrun c_
    refine V_aload_n (pc := 12) hx hb dX1_raise_12 rfl (lv_at hl 0 rfl) ?_
    obtain ⟨c20, hrun⟩ := gd_some hrun
    refine V_getR (pc := 13) C hH fr_X1_84 dX1_raise_13 c20 rfl ?_
    refine V_ifnull (tgt := 30) (pc := 16) hx hb dX1_raise_16 (by decide) hrun (fun c_ hrun => ?_) (fun c_ hrun => ?_)
    · exact b_X1_raise_30 C x0 x1 h19 H locs cells slots ls hH hL (lv_sub hl [0, 1] rfl) hrun
    · refine lv_iload_n (pc := 19) hx hb dX1_raise_19 rfl (lv_at hl 1 rfl) ?_
      refine V_aload_n (pc := 20) hx hb dX1_raise_20 rfl (lv_at hl 0 rfl) ?_
      refine V_getR (pc := 21) C hH fr_X1_84 dX1_raise_21 c20 rfl ?_
      obtain ⟨c21, hrun⟩ := gd_some hrun
      refine V_getNI (pc := 24) C hH fn_X1_397 dX1_raise_24 c21 rfl ?_
      refine lv_icmp_le (tgt := 34) (pc := 27) hx hb dX1_raise_27 (by decide) (fun c_ => ?_) (fun c_ => ?_)
      · have hrun := ite_t hrun c_
        exact b_X1_raise_34 C x0 x1 h19 H locs cells slots ls hH hL (lv_sub hl [0, 1] rfl) hrun
      · have hrun := ite_f hrun c_
        exact b_X1_raise_30 C x0 x1 h19 H locs cells slots ls hH hL (lv_sub hl [0, 1] rfl) hrun

theorem m_X1_raise {l : Launch} {D : va_G} {Hs : Heap} {h : Hp} {rr : (Int64 ⊕ Ex) × Hp} (hl9 : l.stackTraces = false) {x0 : Nat} {x1 : Int32} (hrun : f_X1_raise x0 x1 h = some rr) : CM l yX1_raise (ws_ yX1_raise cX1_raise 2 (some .long)) 9 360 iL [rv x0, .int x1] D Hs h rr := by
  refine CM.of (lv := [(0, rv x0), (1, .int x1)]) (plainFor_of_name (by decide)) hl9 (by simp [lv_args, rv_cat, cat_i, cat_l, cat_f, cat_d]) (by simp [lg_sl, rv_cat, cat_i, cat_l, cat_f, cat_d]) ?_
  intro p e R s m args below meth c H ls C hH hl hin
  exact b_X1_raise C x0 x1 _ H [] _ _ ls hH (fun _ q => nomatch q) (lv_sub hl [0, 1] rfl) hrun

/-! MassclaimLaw.raise(LMassclaim;I[J)I -/
def f_X0_raise_11  (y0 : Nat) (h : Hp) : Rt Int32 :=
  some (.inl (1 : Int32), h)
def f_X0_raise_14  (y0 : Nat) (h : Hp) : Rt Int32 :=
  some (.inl (2 : Int32), h)
def f_X0_raise  (x0 : Nat) (x1 : Int32) (x2 : Nat) (h : Hp) : Rt Int32 :=
  gd (kC h x0 = 1) <| bdH (f_X1_raise x0 x1 h)
  (fun v1 h2 => gd (kC h2 x2 = 102 ∧ ixo (0 : Int32) (kN h2 x2)) <| vl (tL h2 x2 ((0 : Int32)).toNatClampNeg v1) fun h5 => some (.inl (0 : Int32), h5))
  (fun ex6 h7 => if ex6.1 = 902 then
  (f_X0_raise_11 ex6.2 h7)
  else
  if ex6.1 = 903 then
  (f_X0_raise_14 ex6.2 h7)
  else
  none)
theorem b_X0_raise_11 {rr : (Int32 ⊕ Ex) × Hp}  (C : CX p l R s m args meth c D Hs cX0_raise "MassclaimLaw" 4 (some .int) [(0, 8, 11, 13), (0, 8, 14, 19)] 10 381)  : ∀ (y0 : Nat) (h : Hp) (H : Heap) (locs : List Loc) (cells slots : Nat) (ls : Array Slot), HP D Hs h H → LO Hs locs → lv_has ls 4 [] → f_X0_raise_11 y0 h = some rr → W p l e R s m args below meth c H locs cells slots (ZM D Hs iI rr below args s) (F0 m 11 ls [rv y0]) := by
  obtain ⟨⟨hx, hb, hml, hown, hts⟩, -⟩ := id C
  have hl9 := C.2.1.2.2.1
  intro y0 h H locs cells slots ls hH hL hl hrun
  unfold f_X0_raise_11 at hrun
  refine V_astore_n (i := 3) (lv' := [(3, rv y0)]) (pc := 11) hx hb dX0_raise_11 rfl hl (by decide) rfl (fun ls hl => ?_)
  refine lv_iconst (v := (1 : Int32)) (pc := 12) hx hb dX0_raise_12 (by decide) ?_
  exact V_iret (pc := 13) C hH hL hrun dX0_raise_13

theorem b_X0_raise_14 {rr : (Int32 ⊕ Ex) × Hp}  (C : CX p l R s m args meth c D Hs cX0_raise "MassclaimLaw" 4 (some .int) [(0, 8, 11, 13), (0, 8, 14, 19)] 10 381)  : ∀ (y0 : Nat) (h : Hp) (H : Heap) (locs : List Loc) (cells slots : Nat) (ls : Array Slot), HP D Hs h H → LO Hs locs → lv_has ls 4 [] → f_X0_raise_14 y0 h = some rr → W p l e R s m args below meth c H locs cells slots (ZM D Hs iI rr below args s) (F0 m 14 ls [rv y0]) := by
  obtain ⟨⟨hx, hb, hml, hown, hts⟩, -⟩ := id C
  have hl9 := C.2.1.2.2.1
  intro y0 h H locs cells slots ls hH hL hl hrun
  unfold f_X0_raise_14 at hrun
  refine V_astore_n (i := 3) (lv' := [(3, rv y0)]) (pc := 14) hx hb dX0_raise_14 rfl hl (by decide) rfl (fun ls hl => ?_)
  refine lv_iconst (v := (2 : Int32)) (pc := 15) hx hb dX0_raise_15 (by decide) ?_
  exact V_iret (pc := 16) C hH hL hrun dX0_raise_16

theorem b_X0_raise {rr : (Int32 ⊕ Ex) × Hp}  (C : CX p l R s m args meth c D Hs cX0_raise "MassclaimLaw" 4 (some .int) [(0, 8, 11, 13), (0, 8, 14, 19)] 10 381)  : ∀ (x0 : Nat) (x1 : Int32) (x2 : Nat) (h : Hp) (H : Heap) (locs : List Loc) (cells slots : Nat) (ls : Array Slot), HP D Hs h H → LO Hs locs → lv_has ls 4 [(0, rv x0), (1, .int x1), (2, rv x2)] → f_X0_raise x0 x1 x2 h = some rr → W p l e R s m args below meth c H locs cells slots (ZM D Hs iI rr below args s) (F0 m 0 ls []) := by
  obtain ⟨⟨hx, hb, hml, hown, hts⟩, -⟩ := id C
  have hl9 := C.2.1.2.2.1
  intro x0 x1 x2 h H locs cells slots ls hH hL hl hrun
  unfold f_X0_raise at hrun
  refine V_aload_n (pc := 0) hx hb dX0_raise_0 rfl (lv_at hl 2 rfl) ?_
  refine lv_iconst (v := (0 : Int32)) (pc := 1) hx hb dX0_raise_1 (by decide) ?_
  refine V_aload_n (pc := 2) hx hb dX0_raise_2 rfl (lv_at hl 0 rfl) ?_
  refine lv_iload_n (pc := 3) hx hb dX0_raise_3 rfl (lv_at hl 1 rfl) ?_
  obtain ⟨c3, hrun⟩ := gd_some hrun
  refine V_bdH (pc := 4) hL hrun (fun rr1 e1 => Z_runV (rest := [.int (0 : Int32), rv x2]) C hH (m_X1_raise hl9 e1) wV_X0_98 c3 rfl (by decide) rfl rfl ⟨by decide, by decide⟩ rfl (by simp [csum, rv_cat, cat_i, cat_l, cat_f, cat_d]) hl.1 dX0_raise_4) (fun v1 h2 H locs cells slots hH hL hrun => ?_) (fun x_ q_ ce_ h7 H locs cells slots hH hL hrun hc_ hv_ hcl_ => ?_)
  · obtain ⟨c4, hrun⟩ := gd_some hrun
    refine V_last (pc := 7) C hH hL dX0_raise_7 c4 hrun (fun h5 H locs hH hL hrun => ?_)
    refine lv_goto (tgt := 17) (pc := 8) hx hb dX0_raise_8 (by decide) ?_
    refine lv_iconst (v := (0 : Int32)) (pc := 17) hx hb dX0_raise_17 (by decide) ?_
    exact V_iret (pc := 18) C hH hL hrun dX0_raise_18
  · by_cases n902 : x_ = 902
    · subst n902
      have hrun := ite_t hrun rfl
      refine vx_catch (E := "java/lang/IllegalArgumentException") (name := "java/lang/IllegalArgumentException") hown (tableOf []) ⟨0, 8, 11, 13⟩ (tableOf [(0, 8, 14, 19)]) (by rw [C.2.1.2.2.2.2]; rfl) (fun z hz => nomatch hz) (by decide) (by decide) (hts _ q449) (va_Nw.use rfl (C.2.1.2.2.2.1.2.1 _ q463 rfl)) hc_ hv_ hcl_ ?_
      exact b_X0_raise_11 C (q_ + 1) h7 H locs cells slots ls hH hL (lv_sub hl [] rfl) hrun
    have hrun := ite_f hrun n902
    by_cases n903 : x_ = 903
    · subst n903
      have hrun := ite_t hrun rfl
      refine vx_catch (E := "java/lang/IllegalStateException") (name := "java/lang/IllegalStateException") hown (tableOf [(0, 8, 11, 13)]) ⟨0, 8, 14, 19⟩ (tableOf []) (by rw [C.2.1.2.2.2.2]; rfl) (fun z hz => by simp only [tableOf, List.map, List.mem_cons, List.not_mem_nil, or_false] at hz; rcases hz with rfl <;> first | exact Or.inr ⟨by decide, "java/lang/IllegalArgumentException", hts _ q449, nc_at C (by decide)⟩) (by decide) (by decide) (hts _ q585) (va_Nw.use rfl (C.2.1.2.2.2.1.2.1 _ q702 rfl)) hc_ hv_ hcl_ ?_
      exact b_X0_raise_14 C (q_ + 1) h7 H locs cells slots ls hH hL (lv_sub hl [] rfl) hrun
    have hrun := ite_f hrun n903
    cases hrun

theorem m_X0_raise {l : Launch} {D : va_G} {Hs : Heap} {h : Hp} {rr : (Int32 ⊕ Ex) × Hp} (hl9 : l.stackTraces = false) {x0 : Nat} {x1 : Int32} {x2 : Nat} (hrun : f_X0_raise x0 x1 x2 h = some rr) : CM l yX0_raise (wsW_ yX0_raise cX0_raise 4 (some .int) [(0, 8, 11, 13), (0, 8, 14, 19)]) 10 381 iI [rv x0, .int x1, rv x2] D Hs h rr := by
  refine CM.ofH (lv := [(0, rv x0), (1, .int x1), (2, rv x2)]) (plainFor_of_name (by decide)) hl9 (by simp [lv_args, rv_cat, cat_i, cat_l, cat_f, cat_d]) (by simp [lg_sl, rv_cat, cat_i, cat_l, cat_f, cat_d]) ?_
  intro p e R s m args below meth c H ls C hH hl hin
  exact b_X0_raise C x0 x1 x2 _ H [] _ _ ls hH (fun _ q => nomatch q) (lv_sub hl [0, 1, 2] rfl) hrun

/-! MassclaimModel.owed()J -/
def f_X4_owed_4  : Nat → Nat → Int64 → Int32 → Hp → Rt Int64
  | 0, _, _, _, _ => none
  | n + 1, x0, x1, x3, h => gd (kC h x0 = 4) <| gd (kC h (kR h 308 x0) = 18) <| bd (f_J2_size (kR h 308 x0) h) fun v2 h3 => if v2 ≤ x3 then
  (some (.inl x1, h3))
  else
  (gd (kC h3 x0 = 4) <| gd (kC h3 (kR h3 308 x0) = 18) <| bd (f_J2_get (kR h3 308 x0) x3 h3) fun v6 h7 => gd (v6 = 0 ∨ kC h7 v6 = 9) <| gd (kC h7 v6 = 9) <| vl (x1 + (kL h7 802 v6)) fun v11 => vl (x3 + (1 : Int32)) fun v12 => f_X4_owed_4 n x0 v11 v12 h7)
def f_X4_owed  (x0 : Nat) (h : Hp) : Rt Int64 :=
  f_X4_owed_4 FU x0 (0 : Int64) (0 : Int32) h
theorem b_X4_owed_4 {rr : (Int64 ⊕ Ex) × Hp}  (C : CX p l R s m args meth c D Hs cX4_owed "MassclaimModel" 4 (some .long) [] 4 64)  : ∀ (n : Nat) (x0 : Nat) (x1 : Int64) (x3 : Int32) (h : Hp) (H : Heap) (locs : List Loc) (cells slots : Nat) (ls : Array Slot), HP D Hs h H → LO Hs locs → lv_has ls 4 [(0, rv x0), (1, .long x1), (3, .int x3)] → f_X4_owed_4 n x0 x1 x3 h = some rr → W p l e R s m args below meth c H locs cells slots (ZM D Hs iL rr below args s) (F0 m 4 ls []) := by
  obtain ⟨⟨hx, hb, hml, hown, hts⟩, -⟩ := id C
  have hl9 := C.2.1.2.2.1
  intro n
  induction n with
  | zero =>
    intro x0 x1 x3 h H locs cells slots ls hH hL hl hrun
    cases (show (none : Option _) = some rr from hrun)
  | succ n ih =>
    intro x0 x1 x3 h H locs cells slots ls hH hL hl hrun
    rw [f_X4_owed_4] at hrun
    refine lv_iload_n (pc := 4) hx hb dX4_owed_4 rfl (lv_at hl 2 rfl) ?_
    refine V_aload_n (pc := 5) hx hb dX4_owed_5 rfl (lv_at hl 0 rfl) ?_
    obtain ⟨c1, hrun⟩ := gd_some hrun
    refine V_getR (pc := 6) C hH fr_X4_23 dX4_owed_6 c1 rfl ?_
    obtain ⟨c4, hrun⟩ := gd_some hrun
    refine V_bd (pc := 9) C hL rfl hrun (fun rr1 e1 => Z_runV (rest := [.int x3]) C hH (m_J2_size hl9 e1) wV_X4_94 c4 rfl (by decide) rfl rfl ⟨by decide, by decide⟩ rfl (Nat.le_of_ble_eq_true rfl) hl.1 dX4_owed_9) (fun v2 h3 H locs cells slots hH hL hrun => ?_)
    refine lv_icmp_ge (tgt := 38) (pc := 12) hx hb dX4_owed_12 (by decide) (fun c_ => ?_) (fun c_ => ?_)
    · have hrun := ite_t hrun c_
      refine lv_lload_n (pc := 38) hx hb dX4_owed_38 rfl (lv_at hl 1 rfl) ?_
      exact V_lret (pc := 39) C hH hL hrun dX4_owed_39
    · have hrun := ite_f hrun c_
      refine lv_lload_n (pc := 15) hx hb dX4_owed_15 rfl (lv_at hl 1 rfl) ?_
      refine V_aload_n (pc := 16) hx hb dX4_owed_16 rfl (lv_at hl 0 rfl) ?_
      obtain ⟨c5, hrun⟩ := gd_some hrun
      refine V_getR (pc := 17) C hH fr_X4_23 dX4_owed_17 c5 rfl ?_
      refine lv_iload_n (pc := 20) hx hb dX4_owed_20 rfl (lv_at hl 2 rfl) ?_
      obtain ⟨c8, hrun⟩ := gd_some hrun
      refine V_bd (pc := 21) C hL rfl hrun (fun rr1 e1 => Z_runV (rest := [.long x1]) C hH (m_J2_get hl9 e1) wV_X4_108 c8 rfl (by decide) rfl rfl ⟨by decide, by decide⟩ rfl (Nat.le_of_ble_eq_true rfl) hl.1 dX4_owed_21) (fun v6 h7 H locs cells slots hH hL hrun => ?_)
      obtain ⟨c9, hrun⟩ := gd_some hrun
      refine V_castX (pc := 24) (ci := 8) C hH rfl (by decide) q2211 dX4_owed_24 c9 ?_
      obtain ⟨c10, hrun⟩ := gd_some hrun
      refine V_getL (pc := 27) C hH fr_X4_317 dX4_owed_27 c10 rfl ?_
      refine lv_ladd (pc := 30) hx hb dX4_owed_30 ?_
      refine lv_topl (fun v11 ev11 => ?_)
      have hrun := vl_at hrun v11 ev11
      refine lv_lstore_n (i := 1) (lv' := [(1, .long v11), (0, rv x0), (3, .int x3)]) (pc := 31) hx hb dX4_owed_31 rfl hl (by decide) (by simp [rv_cat, cat_i, cat_l, cat_f, cat_d]) (fun ls hl => ?_)
      obtain ⟨v12, ev12⟩ : ∃ y : Int32, y = x3 + (1 : Int32) := ⟨_, rfl⟩
      have hrun := vl_at hrun v12 ev12
      refine lv_iinc (v := v12) (lv' := [(3, .int v12), (1, .long v11), (0, rv x0)]) (pc := 32) hx hb dX4_owed_32 hl (k := 2) rfl (by rw [ev12]; rfl) (by decide) (by first | rfl | simp [rv_cat, cat_i, cat_l, cat_f, cat_d]) (fun ls hl => ?_)
      refine lv_goto (tgt := 4) (pc := 35) hx hb dX4_owed_35 (by decide) ?_
      exact ih x0 v11 v12 h7 H locs cells slots ls hH hL (lv_sub hl [2, 1, 0] rfl) hrun

theorem b_X4_owed {rr : (Int64 ⊕ Ex) × Hp}  (C : CX p l R s m args meth c D Hs cX4_owed "MassclaimModel" 4 (some .long) [] 4 64)  : ∀ (x0 : Nat) (h : Hp) (H : Heap) (locs : List Loc) (cells slots : Nat) (ls : Array Slot), HP D Hs h H → LO Hs locs → lv_has ls 4 [(0, rv x0)] → f_X4_owed x0 h = some rr → W p l e R s m args below meth c H locs cells slots (ZM D Hs iL rr below args s) (F0 m 0 ls []) := by
  obtain ⟨⟨hx, hb, hml, hown, hts⟩, -⟩ := id C
  have hl9 := C.2.1.2.2.1
  intro x0 h H locs cells slots ls hH hL hl hrun
  unfold f_X4_owed at hrun
  refine lv_lconst (v := (0 : Int64)) (pc := 0) hx hb dX4_owed_0 (by decide) ?_
  refine lv_lstore_n (i := 1) (lv' := [(1, .long (0 : Int64)), (0, rv x0)]) (pc := 1) hx hb dX4_owed_1 rfl hl (by decide) (by simp [rv_cat, cat_i, cat_l, cat_f, cat_d]) (fun ls hl => ?_)
  refine lv_iconst (v := (0 : Int32)) (pc := 2) hx hb dX4_owed_2 (by decide) ?_
  refine lv_istore_n (i := 3) (lv' := [(3, .int (0 : Int32)), (1, .long (0 : Int64)), (0, rv x0)]) (pc := 3) hx hb dX4_owed_3 rfl hl (by decide) rfl (fun ls hl => ?_)
  exact b_X4_owed_4 C FU x0 (0 : Int64) (0 : Int32) h H locs cells slots ls hH hL (lv_sub hl [2, 1, 0] rfl) hrun

theorem m_X4_owed {l : Launch} {D : va_G} {Hs : Heap} {h : Hp} {rr : (Int64 ⊕ Ex) × Hp} (hl9 : l.stackTraces = false) {x0 : Nat} (hrun : f_X4_owed x0 h = some rr) : CM l yX4_owed (ws_ yX4_owed cX4_owed 4 (some .long)) 4 64 iL [rv x0] D Hs h rr := by
  refine CM.of (lv := [(0, rv x0)]) (plainFor_of_name (by decide)) hl9 (by simp [lv_args, rv_cat, cat_i, cat_l, cat_f, cat_d]) (by simp [lg_sl, rv_cat, cat_i, cat_l, cat_f, cat_d]) ?_
  intro p e R s m args below meth c H ls C hH hl hin
  exact b_X4_owed C x0 _ H [] _ _ ls hH (fun _ q => nomatch q) (lv_sub hl [0] rfl) hrun

/-! MassclaimModel.raise(I)J -/
def f_X4_raise_51  (x0 : Nat) (x1 : Int32) (y0 : Int32) (h : Hp) : Rt Int64 :=
  gd (kC h x0 = 4) <| bd (f_X4_isGood x0 y0 (2 : Int32) h) fun v1 h2 => if v1 = 0 then
  (some (.inl (0 : Int64), h2))
  else
  (gd (kC h2 x0 = 4) <| vl (sL h2 310 x0 (x1.toInt64)) fun h5 => gd (kC h5 x0 = 4) <| bd (f_X4_owed x0 h5) fun v6 h7 => some (.inl v6, h7))
def f_X4_raise_50  (x0 : Nat) (x1 : Int32) (h : Hp) : Rt Int64 :=
  f_X4_raise_51 x0 x1 (0 : Int32) h
def f_X4_raise  (x0 : Nat) (x1 : Int32) (h : Hp) : Rt Int64 :=
  gd (kC h x0 = 4) <| bd (f_X4_isWithin (x1.toInt64) ((kL h 310 x0) + (1 : Int64)) (1000000000 : Int64) h) fun v10 h11 => gd (kC h11 x0 = 4) <| bd (f_X4_isGood x0 v10 (1 : Int32) h11) fun v12 h13 => if v12 = 0 then
  (some (.inl (0 : Int64), h13))
  else
  (gd (kC h13 x0 = 4) <| if (kI h13 309 x0) = (3 : Int32) then
  (bd (f_X4_spread x0 ((x1.toInt64) - (kL h13 310 x0)) h13) fun v16 h17 => if v16 = 0 then
  (f_X4_raise_50 x0 x1 h17)
  else
  (f_X4_raise_51 x0 x1 (1 : Int32) h17))
  else
  (f_X4_raise_50 x0 x1 h13))
theorem b_X4_raise_51 {rr : (Int64 ⊕ Ex) × Hp}  (C : CX p l R s m args meth c D Hs cX4_raise "MassclaimModel" 3 (some .long) [] 5 94)  : ∀ (x0 : Nat) (x1 : Int32) (y0 : Int32) (h : Hp) (H : Heap) (locs : List Loc) (cells slots : Nat) (ls : Array Slot), HP D Hs h H → LO Hs locs → lv_has ls 3 [(0, rv x0), (1, .int x1)] → f_X4_raise_51 x0 x1 y0 h = some rr → W p l e R s m args below meth c H locs cells slots (ZM D Hs iL rr below args s) (F0 m 51 ls [.int y0]) := by
  obtain ⟨⟨hx, hb, hml, hown, hts⟩, -⟩ := id C
  have hl9 := C.2.1.2.2.1
  intro x0 x1 y0 h H locs cells slots ls hH hL hl hrun
  unfold f_X4_raise_51 at hrun
  refine lv_istore_n (i := 2) (lv' := [(2, .int y0), (0, rv x0), (1, .int x1)]) (pc := 51) hx hb dX4_raise_51 rfl hl (by decide) rfl (fun ls hl => ?_)
  refine V_aload_n (pc := 52) hx hb dX4_raise_52 rfl (lv_at hl 1 rfl) ?_
  refine lv_iload_n (pc := 53) hx hb dX4_raise_53 rfl (lv_at hl 0 rfl) ?_
  refine lv_iconst (v := (2 : Int32)) (pc := 54) hx hb dX4_raise_54 (by decide) ?_
  obtain ⟨c3, hrun⟩ := gd_some hrun
  refine V_bd (pc := 55) C hL rfl hrun (fun rr1 e1 => Z_runV (rest := []) C hH (m_X4_isGood hl9 e1) wV_X4_104 c3 rfl (by decide) rfl rfl ⟨by decide, by decide⟩ rfl (Nat.le_of_ble_eq_true rfl) hl.1 dX4_raise_55) (fun v1 h2 H locs cells slots hH hL hrun => ?_)
  refine lv_if_ne (tgt := 63) (pc := 58) hx hb dX4_raise_58 (by decide) (fun c_ => ?_) (fun c_ => ?_)
  · have hrun := ite_f hrun c_
    refine V_aload_n (pc := 63) hx hb dX4_raise_63 rfl (lv_at hl 1 rfl) ?_
    refine lv_iload_n (pc := 64) hx hb dX4_raise_64 rfl (lv_at hl 2 rfl) ?_
    refine lv_i2l (pc := 65) hx hb dX4_raise_65 rfl ?_
    obtain ⟨c4, hrun⟩ := gd_some hrun
    refine V_putL (pc := 66) C hH hL fl_X4_56 dX4_raise_66 c4 (fok_l _) rfl (fun q => Bool.noConfusion q) hrun (fun h5 H locs hH hL hrun => ?_)
    refine V_aload_n (pc := 69) hx hb dX4_raise_69 rfl (lv_at hl 1 rfl) ?_
    obtain ⟨c8, hrun⟩ := gd_some hrun
    refine V_bd (pc := 70) C hL rfl hrun (fun rr1 e1 => Z_runV (rest := []) C hH (m_X4_owed hl9 e1) wV_X4_362 c8 rfl (by decide) rfl rfl ⟨by decide, by decide⟩ rfl (Nat.le_of_ble_eq_true rfl) hl.1 dX4_raise_70) (fun v6 h7 H locs cells slots hH hL hrun => ?_)
    exact V_lret (pc := 73) C hH hL hrun dX4_raise_73
  · have hrun := ite_t hrun c_
    refine lv_lconst (v := (0 : Int64)) (pc := 61) hx hb dX4_raise_61 (by decide) ?_
    exact V_lret (pc := 62) C hH hL hrun dX4_raise_62

theorem b_X4_raise_50 {rr : (Int64 ⊕ Ex) × Hp}  (C : CX p l R s m args meth c D Hs cX4_raise "MassclaimModel" 3 (some .long) [] 5 94)  : ∀ (x0 : Nat) (x1 : Int32) (h : Hp) (H : Heap) (locs : List Loc) (cells slots : Nat) (ls : Array Slot), HP D Hs h H → LO Hs locs → lv_has ls 3 [(0, rv x0), (1, .int x1)] → f_X4_raise_50 x0 x1 h = some rr → W p l e R s m args below meth c H locs cells slots (ZM D Hs iL rr below args s) (F0 m 50 ls []) := by
  obtain ⟨⟨hx, hb, hml, hown, hts⟩, -⟩ := id C
  have hl9 := C.2.1.2.2.1
  intro x0 x1 h H locs cells slots ls hH hL hl hrun
  unfold f_X4_raise_50 at hrun
  refine lv_iconst (v := (0 : Int32)) (pc := 50) hx hb dX4_raise_50 (by decide) ?_
  exact b_X4_raise_51 C x0 x1 (0 : Int32) h H locs cells slots ls hH hL (lv_sub hl [0, 1] rfl) hrun

theorem b_X4_raise {rr : (Int64 ⊕ Ex) × Hp}  (C : CX p l R s m args meth c D Hs cX4_raise "MassclaimModel" 3 (some .long) [] 5 94)  : ∀ (x0 : Nat) (x1 : Int32) (h : Hp) (H : Heap) (locs : List Loc) (cells slots : Nat) (ls : Array Slot), HP D Hs h H → LO Hs locs → lv_has ls 3 [(0, rv x0), (1, .int x1)] → f_X4_raise x0 x1 h = some rr → W p l e R s m args below meth c H locs cells slots (ZM D Hs iL rr below args s) (F0 m 0 ls []) := by
  obtain ⟨⟨hx, hb, hml, hown, hts⟩, -⟩ := id C
  have hl9 := C.2.1.2.2.1
  intro x0 x1 h H locs cells slots ls hH hL hl hrun
  unfold f_X4_raise at hrun
  refine V_aload_n (pc := 0) hx hb dX4_raise_0 rfl (lv_at hl 0 rfl) ?_
  refine lv_iload_n (pc := 1) hx hb dX4_raise_1 rfl (lv_at hl 1 rfl) ?_
  refine lv_i2l (pc := 2) hx hb dX4_raise_2 rfl ?_
  refine V_aload_n (pc := 3) hx hb dX4_raise_3 rfl (lv_at hl 0 rfl) ?_
  obtain ⟨c9, hrun⟩ := gd_some hrun
  refine V_getL (pc := 4) C hH fr_X4_56 dX4_raise_4 c9 rfl ?_
  refine lv_lconst (v := (1 : Int64)) (pc := 7) hx hb dX4_raise_7 (by decide) ?_
  refine lv_ladd (pc := 8) hx hb dX4_raise_8 ?_
  refine lv_ldc2 (pc := 9) hx hb hown (hts _ q2206) dX4_raise_9 ?_
  refine V_bd (pc := 12) C hL rfl hrun (fun rr1 e1 => Z_runS (rest := [rv x0]) C hH (m_X4_isWithin hl9 e1) wS_X4_100 rfl ⟨by decide, by decide⟩ rfl (by simp [csum, rv_cat, cat_i, cat_l, cat_f, cat_d]) hl.1 dX4_raise_12) (fun v10 h11 H locs cells slots hH hL hrun => ?_)
  refine lv_iconst (v := (1 : Int32)) (pc := 15) hx hb dX4_raise_15 (by decide) ?_
  obtain ⟨c14, hrun⟩ := gd_some hrun
  refine V_bd (pc := 16) C hL rfl hrun (fun rr1 e1 => Z_runV (rest := []) C hH (m_X4_isGood hl9 e1) wV_X4_104 c14 rfl (by decide) rfl rfl ⟨by decide, by decide⟩ rfl (Nat.le_of_ble_eq_true rfl) hl.1 dX4_raise_16) (fun v12 h13 H locs cells slots hH hL hrun => ?_)
  refine lv_if_ne (tgt := 24) (pc := 19) hx hb dX4_raise_19 (by decide) (fun c_ => ?_) (fun c_ => ?_)
  · have hrun := ite_f hrun c_
    refine V_aload_n (pc := 24) hx hb dX4_raise_24 rfl (lv_at hl 0 rfl) ?_
    obtain ⟨c15, hrun⟩ := gd_some hrun
    refine V_getI (pc := 25) C hH fr_X4_53 dX4_raise_25 c15 rfl ?_
    refine lv_iconst (v := (3 : Int32)) (pc := 28) hx hb dX4_raise_28 (by decide) ?_
    refine lv_icmp_ne (tgt := 50) (pc := 29) hx hb dX4_raise_29 (by decide) (fun c_ => ?_) (fun c_ => ?_)
    · have hrun := ite_f hrun c_
      exact b_X4_raise_50 C x0 x1 h13 H locs cells slots ls hH hL (lv_sub hl [0, 1] rfl) hrun
    · have hrun := ite_t hrun c_
      refine V_aload_n (pc := 32) hx hb dX4_raise_32 rfl (lv_at hl 0 rfl) ?_
      refine lv_iload_n (pc := 33) hx hb dX4_raise_33 rfl (lv_at hl 1 rfl) ?_
      refine lv_i2l (pc := 34) hx hb dX4_raise_34 rfl ?_
      refine V_aload_n (pc := 35) hx hb dX4_raise_35 rfl (lv_at hl 0 rfl) ?_
      refine V_getL (pc := 36) C hH fr_X4_56 dX4_raise_36 c15 rfl ?_
      refine lv_lsub (pc := 39) hx hb dX4_raise_39 ?_
      refine V_bd (pc := 40) C hL rfl hrun (fun rr1 e1 => Z_runV (rest := []) C hH (m_X4_spread hl9 e1) wV_X4_329 c15 rfl (by decide) rfl rfl ⟨by decide, by decide⟩ rfl (Nat.le_of_ble_eq_true rfl) hl.1 dX4_raise_40) (fun v16 h17 H locs cells slots hH hL hrun => ?_)
      refine lv_if_eq (tgt := 50) (pc := 43) hx hb dX4_raise_43 (by decide) (fun c_ => ?_) (fun c_ => ?_)
      · have hrun := ite_t hrun c_
        exact b_X4_raise_50 C x0 x1 h17 H locs cells slots ls hH hL (lv_sub hl [0, 1] rfl) hrun
      · have hrun := ite_f hrun c_
        refine lv_iconst (v := (1 : Int32)) (pc := 46) hx hb dX4_raise_46 (by decide) ?_
        refine lv_goto (tgt := 51) (pc := 47) hx hb dX4_raise_47 (by decide) ?_
        exact b_X4_raise_51 C x0 x1 (1 : Int32) h17 H locs cells slots ls hH hL (lv_sub hl [0, 1] rfl) hrun
  · have hrun := ite_t hrun c_
    refine lv_lconst (v := (0 : Int64)) (pc := 22) hx hb dX4_raise_22 (by decide) ?_
    exact V_lret (pc := 23) C hH hL hrun dX4_raise_23

theorem m_X4_raise {l : Launch} {D : va_G} {Hs : Heap} {h : Hp} {rr : (Int64 ⊕ Ex) × Hp} (hl9 : l.stackTraces = false) {x0 : Nat} {x1 : Int32} (hrun : f_X4_raise x0 x1 h = some rr) : CM l yX4_raise (ws_ yX4_raise cX4_raise 3 (some .long)) 5 94 iL [rv x0, .int x1] D Hs h rr := by
  refine CM.of (lv := [(0, rv x0), (1, .int x1)]) (plainFor_of_name (by decide)) hl9 (by simp [lv_args, rv_cat, cat_i, cat_l, cat_f, cat_d]) (by simp [lg_sl, rv_cat, cat_i, cat_l, cat_f, cat_d]) ?_
  intro p e R s m args below meth c H ls C hH hl hin
  exact b_X4_raise C x0 x1 _ H [] _ _ ls hH (fun _ q => nomatch q) (lv_sub hl [0, 1] rfl) hrun

/-! Massclaim.grid(III)I -/
def f_X1_grid_40  (x0 : Nat) (x1 : Int32) (x2 : Int32) (x3 : Int32) (y0 : Int32) (h : Hp) : Rt Int32 :=
  bd (f_X1_requireState y0 h) fun _ h2 => gd (kC h2 x0 = 1) <| gd (kC h2 (kR h2 5 x0) = 104 ∧ ixo (x1 - (1 : Int32)) (kN h2 (kR h2 5 x0))) <| gd (kC h2 (jR h2 (kR h2 5 x0) ((x1 - (1 : Int32))).toNatClampNeg) = 101 ∧ ixo x2 (kN h2 (jR h2 (kR h2 5 x0) ((x1 - (1 : Int32))).toNatClampNeg))) <| vl (jI h2 (jR h2 (kR h2 5 x0) ((x1 - (1 : Int32))).toNatClampNeg) (x2).toNatClampNeg) fun v6 => gd (kC h2 (kR h2 5 x0) = 104 ∧ ixo (x1 - (1 : Int32)) (kN h2 (kR h2 5 x0))) <| gd (kC h2 (jR h2 (kR h2 5 x0) ((x1 - (1 : Int32))).toNatClampNeg) = 101 ∧ ixo x2 (kN h2 (jR h2 (kR h2 5 x0) ((x1 - (1 : Int32))).toNatClampNeg))) <| vl (tI h2 (jR h2 (kR h2 5 x0) ((x1 - (1 : Int32))).toNatClampNeg) (x2).toNatClampNeg x3) fun h9 => some (.inl v6, h9)
def f_X1_grid  (x0 : Nat) (x1 : Int32) (x2 : Int32) (x3 : Int32) (h : Hp) : Rt Int32 :=
  bd (f_X1_requireLevel x1 h) fun _ h11 => bd (f_X1_isIn (x2.toInt64) (0 : Int64) (3 : Int64) h11) fun v12 h13 => bd (f_X1_requireIndex v12 h13) fun _ h15 => bd (f_X1_isIn (x3.toInt64) (0 : Int64) (1000000 : Int64) h15) fun v16 h17 => bd (f_X1_requireArgument v16 h17) fun _ h19 => gd (kC h19 x0 = 1) <| bd (f_X1_isDone x0 h19) fun v20 h21 => if v20 = 0 then
  (f_X1_grid_40 x0 x1 x2 x3 (1 : Int32) h21)
  else
  (f_X1_grid_40 x0 x1 x2 x3 (0 : Int32) h21)
theorem b_X1_grid_40 {rr : (Int32 ⊕ Ex) × Hp}  (C : CX p l R s m args meth c D Hs cX1_grid "Massclaim" 5 (some .int) [] 8 130)  : ∀ (x0 : Nat) (x1 : Int32) (x2 : Int32) (x3 : Int32) (y0 : Int32) (h : Hp) (H : Heap) (locs : List Loc) (cells slots : Nat) (ls : Array Slot), HP D Hs h H → LO Hs locs → lv_has ls 5 [(0, rv x0), (1, .int x1), (2, .int x2), (3, .int x3)] → f_X1_grid_40 x0 x1 x2 x3 y0 h = some rr → W p l e R s m args below meth c H locs cells slots (ZM D Hs iI rr below args s) (F0 m 40 ls [.int y0]) := by
  obtain ⟨⟨hx, hb, hml, hown, hts⟩, -⟩ := id C
  have hl9 := C.2.1.2.2.1
  intro x0 x1 x2 x3 y0 h H locs cells slots ls hH hL hl hrun
  unfold f_X1_grid_40 at hrun
  refine V_bd (pc := 40) C hL rfl hrun (fun rr1 e1 => Z_runS (rest := []) C hH (m_X1_requireState hl9 e1) wS_X1_182 rfl ⟨by decide, by decide⟩ rfl (Nat.le_of_ble_eq_true rfl) hl.1 dX1_grid_40) (fun _ h2 H locs cells slots hH hL hrun => ?_)
  refine V_aload_n (pc := 43) hx hb dX1_grid_43 rfl (lv_at hl 0 rfl) ?_
  obtain ⟨c3, hrun⟩ := gd_some hrun
  refine V_getR (pc := 44) C hH fr_X1_60 dX1_grid_44 c3 rfl ?_
  refine lv_iload_n (pc := 47) hx hb dX1_grid_47 rfl (lv_at hl 1 rfl) ?_
  refine lv_iconst (v := (1 : Int32)) (pc := 48) hx hb dX1_grid_48 (by decide) ?_
  refine lv_isub (pc := 49) hx hb dX1_grid_49 ?_
  obtain ⟨c4, hrun⟩ := gd_some hrun
  refine V_aald2 (pc := 50) C hH dX1_grid_50 c4 ?_
  refine lv_iload_n (pc := 51) hx hb dX1_grid_51 rfl (lv_at hl 2 rfl) ?_
  obtain ⟨c5, hrun⟩ := gd_some hrun
  refine V_iald (pc := 52) C hH dX1_grid_52 c5 ?_
  refine lv_topi (fun v6 ev6 => ?_)
  have hrun := vl_at hrun v6 ev6
  refine lv_istore (i := 4) (lv' := [(4, .int v6), (0, rv x0), (1, .int x1), (2, .int x2), (3, .int x3)]) (pc := 53) hx hb dX1_grid_53 hl (by decide) rfl (fun ls hl => ?_)
  refine V_aload_n (pc := 55) hx hb dX1_grid_55 rfl (lv_at hl 1 rfl) ?_
  refine V_getR (pc := 56) C hH fr_X1_60 dX1_grid_56 c3 rfl ?_
  refine lv_iload_n (pc := 59) hx hb dX1_grid_59 rfl (lv_at hl 2 rfl) ?_
  refine lv_iconst (v := (1 : Int32)) (pc := 60) hx hb dX1_grid_60 (by decide) ?_
  refine lv_isub (pc := 61) hx hb dX1_grid_61 ?_
  obtain ⟨c7, hrun⟩ := gd_some hrun
  refine V_aald2 (pc := 62) C hH dX1_grid_62 c7 ?_
  refine lv_iload_n (pc := 63) hx hb dX1_grid_63 rfl (lv_at hl 3 rfl) ?_
  refine lv_iload_n (pc := 64) hx hb dX1_grid_64 rfl (lv_at hl 4 rfl) ?_
  obtain ⟨c8, hrun⟩ := gd_some hrun
  refine V_iast (pc := 65) C hH hL dX1_grid_65 c8 hrun (fun h9 H locs hH hL hrun => ?_)
  refine lv_iload (pc := 66) hx hb dX1_grid_66 (lv_at hl 0 rfl) ?_
  exact V_iret (pc := 68) C hH hL hrun dX1_grid_68

theorem b_X1_grid {rr : (Int32 ⊕ Ex) × Hp}  (C : CX p l R s m args meth c D Hs cX1_grid "Massclaim" 5 (some .int) [] 8 130)  : ∀ (x0 : Nat) (x1 : Int32) (x2 : Int32) (x3 : Int32) (h : Hp) (H : Heap) (locs : List Loc) (cells slots : Nat) (ls : Array Slot), HP D Hs h H → LO Hs locs → lv_has ls 5 [(0, rv x0), (1, .int x1), (2, .int x2), (3, .int x3)] → f_X1_grid x0 x1 x2 x3 h = some rr → W p l e R s m args below meth c H locs cells slots (ZM D Hs iI rr below args s) (F0 m 0 ls []) := by
  obtain ⟨⟨hx, hb, hml, hown, hts⟩, -⟩ := id C
  have hl9 := C.2.1.2.2.1
  intro x0 x1 x2 x3 h H locs cells slots ls hH hL hl hrun
  unfold f_X1_grid at hrun
  refine lv_iload_n (pc := 0) hx hb dX1_grid_0 rfl (lv_at hl 1 rfl) ?_
  refine V_bd (pc := 1) C hL rfl hrun (fun rr1 e1 => Z_runS (rest := []) C hH (m_X1_requireLevel hl9 e1) wS_X1_308 rfl ⟨by decide, by decide⟩ rfl (Nat.le_of_ble_eq_true rfl) hl.1 dX1_grid_1) (fun _ h11 H locs cells slots hH hL hrun => ?_)
  refine lv_iload_n (pc := 4) hx hb dX1_grid_4 rfl (lv_at hl 2 rfl) ?_
  refine lv_i2l (pc := 5) hx hb dX1_grid_5 rfl ?_
  refine lv_lconst (v := (0 : Int64)) (pc := 6) hx hb dX1_grid_6 (by decide) ?_
  refine lv_ldc2 (pc := 7) hx hb hown (hts _ q592) dX1_grid_7 ?_
  refine V_bd (pc := 10) C hL rfl hrun (fun rr1 e1 => Z_runS (rest := []) C hH (m_X1_isIn hl9 e1) wS_X1_127 rfl ⟨by decide, by decide⟩ rfl (Nat.le_of_ble_eq_true rfl) hl.1 dX1_grid_10) (fun v12 h13 H locs cells slots hH hL hrun => ?_)
  refine V_bd (pc := 13) C hL rfl hrun (fun rr1 e1 => Z_runS (rest := []) C hH (m_X1_requireIndex hl9 e1) wS_X1_275 rfl ⟨by decide, by decide⟩ rfl (Nat.le_of_ble_eq_true rfl) hl.1 dX1_grid_13) (fun _ h15 H locs cells slots hH hL hrun => ?_)
  refine lv_iload_n (pc := 16) hx hb dX1_grid_16 rfl (lv_at hl 3 rfl) ?_
  refine lv_i2l (pc := 17) hx hb dX1_grid_17 rfl ?_
  refine lv_lconst (v := (0 : Int64)) (pc := 18) hx hb dX1_grid_18 (by decide) ?_
  refine lv_ldc2 (pc := 19) hx hb hown (hts _ q1513) dX1_grid_19 ?_
  refine V_bd (pc := 22) C hL rfl hrun (fun rr1 e1 => Z_runS (rest := []) C hH (m_X1_isIn hl9 e1) wS_X1_127 rfl ⟨by decide, by decide⟩ rfl (Nat.le_of_ble_eq_true rfl) hl.1 dX1_grid_22) (fun v16 h17 H locs cells slots hH hL hrun => ?_)
  refine V_bd (pc := 25) C hL rfl hrun (fun rr1 e1 => Z_runS (rest := []) C hH (m_X1_requireArgument hl9 e1) wS_X1_131 rfl ⟨by decide, by decide⟩ rfl (Nat.le_of_ble_eq_true rfl) hl.1 dX1_grid_25) (fun _ h19 H locs cells slots hH hL hrun => ?_)
  refine V_aload_n (pc := 28) hx hb dX1_grid_28 rfl (lv_at hl 0 rfl) ?_
  obtain ⟨c22, hrun⟩ := gd_some hrun
  refine V_bd (pc := 29) C hL rfl hrun (fun rr1 e1 => Z_runV (rest := []) C hH (m_X1_isDone hl9 e1) wV_X1_225 c22 rfl (by decide) rfl rfl ⟨by decide, by decide⟩ rfl (Nat.le_of_ble_eq_true rfl) hl.1 dX1_grid_29) (fun v20 h21 H locs cells slots hH hL hrun => ?_)
  refine lv_if_ne (tgt := 39) (pc := 32) hx hb dX1_grid_32 (by decide) (fun c_ => ?_) (fun c_ => ?_)
  · have hrun := ite_f hrun c_
    refine lv_iconst (v := (0 : Int32)) (pc := 39) hx hb dX1_grid_39 (by decide) ?_
    exact b_X1_grid_40 C x0 x1 x2 x3 (0 : Int32) h21 H locs cells slots ls hH hL (lv_sub hl [0, 1, 2, 3] rfl) hrun
  · have hrun := ite_t hrun c_
    refine lv_iconst (v := (1 : Int32)) (pc := 35) hx hb dX1_grid_35 (by decide) ?_
    refine lv_goto (tgt := 40) (pc := 36) hx hb dX1_grid_36 (by decide) ?_
    exact b_X1_grid_40 C x0 x1 x2 x3 (1 : Int32) h21 H locs cells slots ls hH hL (lv_sub hl [0, 1, 2, 3] rfl) hrun

theorem m_X1_grid {l : Launch} {D : va_G} {Hs : Heap} {h : Hp} {rr : (Int32 ⊕ Ex) × Hp} (hl9 : l.stackTraces = false) {x0 : Nat} {x1 : Int32} {x2 : Int32} {x3 : Int32} (hrun : f_X1_grid x0 x1 x2 x3 h = some rr) : CM l yX1_grid (ws_ yX1_grid cX1_grid 5 (some .int)) 8 130 iI [rv x0, .int x1, .int x2, .int x3] D Hs h rr := by
  refine CM.of (lv := [(0, rv x0), (1, .int x1), (2, .int x2), (3, .int x3)]) (plainFor_of_name (by decide)) hl9 (by simp [lv_args, rv_cat, cat_i, cat_l, cat_f, cat_d]) (by simp [lg_sl, rv_cat, cat_i, cat_l, cat_f, cat_d]) ?_
  intro p e R s m args below meth c H ls C hH hl hin
  exact b_X1_grid C x0 x1 x2 x3 _ H [] _ _ ls hH (fun _ q => nomatch q) (lv_sub hl [0, 1, 2, 3] rfl) hrun

/-! MassclaimLaw.grid(LMassclaim;III[J)I -/
def f_X0_grid_15  (y0 : Nat) (h : Hp) : Rt Int32 :=
  some (.inl (1 : Int32), h)
def f_X0_grid_19  (y0 : Nat) (h : Hp) : Rt Int32 :=
  some (.inl (2 : Int32), h)
def f_X0_grid_23  (y0 : Nat) (h : Hp) : Rt Int32 :=
  some (.inl (3 : Int32), h)
def f_X0_grid  (x0 : Nat) (x1 : Int32) (x2 : Int32) (x3 : Int32) (x4 : Nat) (h : Hp) : Rt Int32 :=
  gd (kC h x0 = 1) <| bdH (f_X1_grid x0 x1 x2 x3 h)
  (fun v1 h2 => gd (kC h2 x4 = 102 ∧ ixo (0 : Int32) (kN h2 x4)) <| vl (tL h2 x4 ((0 : Int32)).toNatClampNeg (v1.toInt64)) fun h5 => some (.inl (0 : Int32), h5))
  (fun ex6 h7 => if ex6.1 = 901 then
  (f_X0_grid_15 ex6.2 h7)
  else
  if ex6.1 = 902 then
  (f_X0_grid_19 ex6.2 h7)
  else
  if ex6.1 = 903 then
  (f_X0_grid_23 ex6.2 h7)
  else
  none)
theorem b_X0_grid_15 {rr : (Int32 ⊕ Ex) × Hp}  (C : CX p l R s m args meth c D Hs cX0_grid "MassclaimLaw" 6 (some .int) [(0, 12, 15, 25), (0, 12, 19, 13), (0, 12, 23, 19)] 9 154)  : ∀ (y0 : Nat) (h : Hp) (H : Heap) (locs : List Loc) (cells slots : Nat) (ls : Array Slot), HP D Hs h H → LO Hs locs → lv_has ls 6 [] → f_X0_grid_15 y0 h = some rr → W p l e R s m args below meth c H locs cells slots (ZM D Hs iI rr below args s) (F0 m 15 ls [rv y0]) := by
  obtain ⟨⟨hx, hb, hml, hown, hts⟩, -⟩ := id C
  have hl9 := C.2.1.2.2.1
  intro y0 h H locs cells slots ls hH hL hl hrun
  unfold f_X0_grid_15 at hrun
  refine V_astore (i := 5) (lv' := [(5, rv y0)]) (pc := 15) hx hb dX0_grid_15 hl (by decide) rfl (fun ls hl => ?_)
  refine lv_iconst (v := (1 : Int32)) (pc := 17) hx hb dX0_grid_17 (by decide) ?_
  exact V_iret (pc := 18) C hH hL hrun dX0_grid_18

theorem b_X0_grid_19 {rr : (Int32 ⊕ Ex) × Hp}  (C : CX p l R s m args meth c D Hs cX0_grid "MassclaimLaw" 6 (some .int) [(0, 12, 15, 25), (0, 12, 19, 13), (0, 12, 23, 19)] 9 154)  : ∀ (y0 : Nat) (h : Hp) (H : Heap) (locs : List Loc) (cells slots : Nat) (ls : Array Slot), HP D Hs h H → LO Hs locs → lv_has ls 6 [] → f_X0_grid_19 y0 h = some rr → W p l e R s m args below meth c H locs cells slots (ZM D Hs iI rr below args s) (F0 m 19 ls [rv y0]) := by
  obtain ⟨⟨hx, hb, hml, hown, hts⟩, -⟩ := id C
  have hl9 := C.2.1.2.2.1
  intro y0 h H locs cells slots ls hH hL hl hrun
  unfold f_X0_grid_19 at hrun
  refine V_astore (i := 5) (lv' := [(5, rv y0)]) (pc := 19) hx hb dX0_grid_19 hl (by decide) rfl (fun ls hl => ?_)
  refine lv_iconst (v := (2 : Int32)) (pc := 21) hx hb dX0_grid_21 (by decide) ?_
  exact V_iret (pc := 22) C hH hL hrun dX0_grid_22

theorem b_X0_grid_23 {rr : (Int32 ⊕ Ex) × Hp}  (C : CX p l R s m args meth c D Hs cX0_grid "MassclaimLaw" 6 (some .int) [(0, 12, 15, 25), (0, 12, 19, 13), (0, 12, 23, 19)] 9 154)  : ∀ (y0 : Nat) (h : Hp) (H : Heap) (locs : List Loc) (cells slots : Nat) (ls : Array Slot), HP D Hs h H → LO Hs locs → lv_has ls 6 [] → f_X0_grid_23 y0 h = some rr → W p l e R s m args below meth c H locs cells slots (ZM D Hs iI rr below args s) (F0 m 23 ls [rv y0]) := by
  obtain ⟨⟨hx, hb, hml, hown, hts⟩, -⟩ := id C
  have hl9 := C.2.1.2.2.1
  intro y0 h H locs cells slots ls hH hL hl hrun
  unfold f_X0_grid_23 at hrun
  refine V_astore (i := 5) (lv' := [(5, rv y0)]) (pc := 23) hx hb dX0_grid_23 hl (by decide) rfl (fun ls hl => ?_)
  refine lv_iconst (v := (3 : Int32)) (pc := 25) hx hb dX0_grid_25 (by decide) ?_
  exact V_iret (pc := 26) C hH hL hrun dX0_grid_26

theorem b_X0_grid {rr : (Int32 ⊕ Ex) × Hp}  (C : CX p l R s m args meth c D Hs cX0_grid "MassclaimLaw" 6 (some .int) [(0, 12, 15, 25), (0, 12, 19, 13), (0, 12, 23, 19)] 9 154)  : ∀ (x0 : Nat) (x1 : Int32) (x2 : Int32) (x3 : Int32) (x4 : Nat) (h : Hp) (H : Heap) (locs : List Loc) (cells slots : Nat) (ls : Array Slot), HP D Hs h H → LO Hs locs → lv_has ls 6 [(0, rv x0), (1, .int x1), (2, .int x2), (3, .int x3), (4, rv x4)] → f_X0_grid x0 x1 x2 x3 x4 h = some rr → W p l e R s m args below meth c H locs cells slots (ZM D Hs iI rr below args s) (F0 m 0 ls []) := by
  obtain ⟨⟨hx, hb, hml, hown, hts⟩, -⟩ := id C
  have hl9 := C.2.1.2.2.1
  intro x0 x1 x2 x3 x4 h H locs cells slots ls hH hL hl hrun
  unfold f_X0_grid at hrun
  refine V_aload (pc := 0) hx hb dX0_grid_0 (lv_at hl 4 rfl) ?_
  refine lv_iconst (v := (0 : Int32)) (pc := 2) hx hb dX0_grid_2 (by decide) ?_
  refine V_aload_n (pc := 3) hx hb dX0_grid_3 rfl (lv_at hl 0 rfl) ?_
  refine lv_iload_n (pc := 4) hx hb dX0_grid_4 rfl (lv_at hl 1 rfl) ?_
  refine lv_iload_n (pc := 5) hx hb dX0_grid_5 rfl (lv_at hl 2 rfl) ?_
  refine lv_iload_n (pc := 6) hx hb dX0_grid_6 rfl (lv_at hl 3 rfl) ?_
  obtain ⟨c3, hrun⟩ := gd_some hrun
  refine V_bdH (pc := 7) hL hrun (fun rr1 e1 => Z_runV (rest := [.int (0 : Int32), rv x4]) C hH (m_X1_grid hl9 e1) wV_X0_101 c3 rfl (by decide) rfl rfl ⟨by decide, by decide⟩ rfl (by simp [csum, rv_cat, cat_i, cat_l, cat_f, cat_d]) hl.1 dX0_grid_7) (fun v1 h2 H locs cells slots hH hL hrun => ?_) (fun x_ q_ ce_ h7 H locs cells slots hH hL hrun hc_ hv_ hcl_ => ?_)
  · refine lv_i2l (pc := 10) hx hb dX0_grid_10 rfl ?_
    obtain ⟨c4, hrun⟩ := gd_some hrun
    refine V_last (pc := 11) C hH hL dX0_grid_11 c4 hrun (fun h5 H locs hH hL hrun => ?_)
    refine lv_goto (tgt := 27) (pc := 12) hx hb dX0_grid_12 (by decide) ?_
    refine lv_iconst (v := (0 : Int32)) (pc := 27) hx hb dX0_grid_27 (by decide) ?_
    exact V_iret (pc := 28) C hH hL hrun dX0_grid_28
  · by_cases n901 : x_ = 901
    · subst n901
      have hrun := ite_t hrun rfl
      refine vx_catch (E := "java/lang/IndexOutOfBoundsException") (name := "java/lang/IndexOutOfBoundsException") hown (tableOf []) ⟨0, 12, 15, 25⟩ (tableOf [(0, 12, 19, 13), (0, 12, 23, 19)]) (by rw [C.2.1.2.2.2.2]; rfl) (fun z hz => nomatch hz) (by decide) (by decide) (hts _ q829) (va_Nw.use rfl (C.2.1.2.2.2.1.2.1 _ q537 rfl)) hc_ hv_ hcl_ ?_
      exact b_X0_grid_15 C (q_ + 1) h7 H locs cells slots ls hH hL (lv_sub hl [] rfl) hrun
    have hrun := ite_f hrun n901
    by_cases n902 : x_ = 902
    · subst n902
      have hrun := ite_t hrun rfl
      refine vx_catch (E := "java/lang/IllegalArgumentException") (name := "java/lang/IllegalArgumentException") hown (tableOf [(0, 12, 15, 25)]) ⟨0, 12, 19, 13⟩ (tableOf [(0, 12, 23, 19)]) (by rw [C.2.1.2.2.2.2]; rfl) (fun z hz => by simp only [tableOf, List.map, List.mem_cons, List.not_mem_nil, or_false] at hz; rcases hz with rfl <;> first | exact Or.inr ⟨by decide, "java/lang/IndexOutOfBoundsException", hts _ q829, nc_at C (by decide)⟩) (by decide) (by decide) (hts _ q449) (va_Nw.use rfl (C.2.1.2.2.2.1.2.1 _ q463 rfl)) hc_ hv_ hcl_ ?_
      exact b_X0_grid_19 C (q_ + 1) h7 H locs cells slots ls hH hL (lv_sub hl [] rfl) hrun
    have hrun := ite_f hrun n902
    by_cases n903 : x_ = 903
    · subst n903
      have hrun := ite_t hrun rfl
      refine vx_catch (E := "java/lang/IllegalStateException") (name := "java/lang/IllegalStateException") hown (tableOf [(0, 12, 15, 25), (0, 12, 19, 13)]) ⟨0, 12, 23, 19⟩ (tableOf []) (by rw [C.2.1.2.2.2.2]; rfl) (fun z hz => by simp only [tableOf, List.map, List.mem_cons, List.not_mem_nil, or_false] at hz; rcases hz with rfl | rfl <;> first | exact Or.inr ⟨by decide, "java/lang/IndexOutOfBoundsException", hts _ q829, nc_at C (by decide)⟩ | exact Or.inr ⟨by decide, "java/lang/IllegalArgumentException", hts _ q449, nc_at C (by decide)⟩) (by decide) (by decide) (hts _ q585) (va_Nw.use rfl (C.2.1.2.2.2.1.2.1 _ q702 rfl)) hc_ hv_ hcl_ ?_
      exact b_X0_grid_23 C (q_ + 1) h7 H locs cells slots ls hH hL (lv_sub hl [] rfl) hrun
    have hrun := ite_f hrun n903
    cases hrun

theorem m_X0_grid {l : Launch} {D : va_G} {Hs : Heap} {h : Hp} {rr : (Int32 ⊕ Ex) × Hp} (hl9 : l.stackTraces = false) {x0 : Nat} {x1 : Int32} {x2 : Int32} {x3 : Int32} {x4 : Nat} (hrun : f_X0_grid x0 x1 x2 x3 x4 h = some rr) : CM l yX0_grid (wsW_ yX0_grid cX0_grid 6 (some .int) [(0, 12, 15, 25), (0, 12, 19, 13), (0, 12, 23, 19)]) 9 154 iI [rv x0, .int x1, .int x2, .int x3, rv x4] D Hs h rr := by
  refine CM.ofH (lv := [(0, rv x0), (1, .int x1), (2, .int x2), (3, .int x3), (4, rv x4)]) (plainFor_of_name (by decide)) hl9 (by simp [lv_args, rv_cat, cat_i, cat_l, cat_f, cat_d]) (by simp [lg_sl, rv_cat, cat_i, cat_l, cat_f, cat_d]) ?_
  intro p e R s m args below meth c H ls C hH hl hin
  exact b_X0_grid C x0 x1 x2 x3 x4 _ H [] _ _ ls hH (fun _ q => nomatch q) (lv_sub hl [0, 1, 2, 3, 4] rfl) hrun

/-! MassclaimModel.grid(III)I -/
def f_X4_grid_74  (h : Hp) : Rt Int32 :=
  some (.inl (0 : Int32), h)
def f_X4_grid_67  (x0 : Nat) (x1 : Int32) (x2 : Int32) (x3 : Int32) (y0 : Nat) (y1 : Int32) (h : Hp) : Rt Int32 :=
  gd (kC h y0 = 4) <| bd (f_X4_isGood y0 y1 (3 : Int32) h) fun v1 h2 => if v1 = 0 then
  (f_X4_grid_74  h2)
  else
  (vl (((4 : Int32) * (x1 - (1 : Int32))) + x2) fun v4 => gd (kC h2 x0 = 4) <| gd (kC h2 (kR h2 315 x0) = 101 ∧ ixo v4 (kN h2 (kR h2 315 x0))) <| vl (jI h2 (kR h2 315 x0) (v4).toNatClampNeg) fun v7 => gd (kC h2 (kR h2 315 x0) = 101 ∧ ixo v4 (kN h2 (kR h2 315 x0))) <| vl (tI h2 (kR h2 315 x0) (v4).toNatClampNeg x3) fun h9 => some (.inl v7, h9))
def f_X4_grid_30  (x0 : Nat) (x1 : Int32) (x2 : Int32) (x3 : Int32) (y0 : Nat) (y1 : Int32) (h : Hp) : Rt Int32 :=
  gd (kC h y0 = 4) <| bd (f_X4_isGood y0 y1 (1 : Int32) h) fun v10 h11 => if v10 = 0 then
  (f_X4_grid_74  h11)
  else
  (bd (f_X4_isWithin (x3.toInt64) (0 : Int64) (1000000 : Int64) h11) fun v13 h14 => gd (kC h14 x0 = 4) <| bd (f_X4_isGood x0 v13 (2 : Int32) h14) fun v15 h16 => if v15 = 0 then
  (f_X4_grid_74  h16)
  else
  (gd (kC h16 x0 = 4) <| bd (f_X4_isOver x0 h16) fun v18 h19 => if v18 = 0 then
  (f_X4_grid_67 x0 x1 x2 x3 x0 (1 : Int32) h19)
  else
  (f_X4_grid_67 x0 x1 x2 x3 x0 (0 : Int32) h19)))
def f_X4_grid_29  (x0 : Nat) (x1 : Int32) (x2 : Int32) (x3 : Int32) (y0 : Nat) (h : Hp) : Rt Int32 :=
  f_X4_grid_30 x0 x1 x2 x3 y0 (0 : Int32) h
def f_X4_grid  (x0 : Nat) (x1 : Int32) (x2 : Int32) (x3 : Int32) (h : Hp) : Rt Int32 :=
  bd (f_X4_isWithin (x1.toInt64) (1 : Int64) (5 : Int64) h) fun v21 h22 => if v21 = 0 then
  (f_X4_grid_29 x0 x1 x2 x3 x0 h22)
  else
  (bd (f_X4_isWithin (x2.toInt64) (0 : Int64) (3 : Int64) h22) fun v23 h24 => if v23 = 0 then
  (f_X4_grid_29 x0 x1 x2 x3 x0 h24)
  else
  (f_X4_grid_30 x0 x1 x2 x3 x0 (1 : Int32) h24))
theorem b_X4_grid_74 {rr : (Int32 ⊕ Ex) × Hp}  (C : CX p l R s m args meth c D Hs cX4_grid "MassclaimModel" 6 (some .int) [] 2 25)  : ∀ (h : Hp) (H : Heap) (locs : List Loc) (cells slots : Nat) (ls : Array Slot), HP D Hs h H → LO Hs locs → lv_has ls 6 [] → f_X4_grid_74 h = some rr → W p l e R s m args below meth c H locs cells slots (ZM D Hs iI rr below args s) (F0 m 74 ls []) := by
  obtain ⟨⟨hx, hb, hml, hown, hts⟩, -⟩ := id C
  have hl9 := C.2.1.2.2.1
  intro h H locs cells slots ls hH hL hl hrun
  unfold f_X4_grid_74 at hrun
  refine lv_iconst (v := (0 : Int32)) (pc := 74) hx hb dX4_grid_74 (by decide) ?_
  exact V_iret (pc := 75) C hH hL hrun dX4_grid_75

theorem b_X4_grid_67 {rr : (Int32 ⊕ Ex) × Hp}  (C : CX p l R s m args meth c D Hs cX4_grid "MassclaimModel" 6 (some .int) [] 2 25)  : ∀ (x0 : Nat) (x1 : Int32) (x2 : Int32) (x3 : Int32) (y0 : Nat) (y1 : Int32) (h : Hp) (H : Heap) (locs : List Loc) (cells slots : Nat) (ls : Array Slot), HP D Hs h H → LO Hs locs → lv_has ls 6 [(0, rv x0), (1, .int x1), (2, .int x2), (3, .int x3)] → f_X4_grid_67 x0 x1 x2 x3 y0 y1 h = some rr → W p l e R s m args below meth c H locs cells slots (ZM D Hs iI rr below args s) (F0 m 67 ls [.int y1, rv y0]) := by
  obtain ⟨⟨hx, hb, hml, hown, hts⟩, -⟩ := id C
  have hl9 := C.2.1.2.2.1
  intro x0 x1 x2 x3 y0 y1 h H locs cells slots ls hH hL hl hrun
  unfold f_X4_grid_67 at hrun
  refine lv_iconst (v := (3 : Int32)) (pc := 67) hx hb dX4_grid_67 (by decide) ?_
  obtain ⟨c3, hrun⟩ := gd_some hrun
  refine V_bd (pc := 68) C hL rfl hrun (fun rr1 e1 => Z_runV (rest := []) C hH (m_X4_isGood hl9 e1) wV_X4_104 c3 rfl (by decide) rfl rfl ⟨by decide, by decide⟩ rfl (Nat.le_of_ble_eq_true rfl) hl.1 dX4_grid_68) (fun v1 h2 H locs cells slots hH hL hrun => ?_)
  refine lv_if_ne (tgt := 76) (pc := 71) hx hb dX4_grid_71 (by decide) (fun c_ => ?_) (fun c_ => ?_)
  · have hrun := ite_f hrun c_
    refine lv_iconst (v := (4 : Int32)) (pc := 76) hx hb dX4_grid_76 (by decide) ?_
    refine lv_iload_n (pc := 77) hx hb dX4_grid_77 rfl (lv_at hl 1 rfl) ?_
    refine lv_iconst (v := (1 : Int32)) (pc := 78) hx hb dX4_grid_78 (by decide) ?_
    refine lv_isub (pc := 79) hx hb dX4_grid_79 ?_
    refine lv_imul (pc := 80) hx hb dX4_grid_80 ?_
    refine lv_iload_n (pc := 81) hx hb dX4_grid_81 rfl (lv_at hl 2 rfl) ?_
    refine lv_iadd (pc := 82) hx hb dX4_grid_82 ?_
    refine lv_topi (fun v4 ev4 => ?_)
    have hrun := vl_at hrun v4 ev4
    refine lv_istore (i := 4) (lv' := [(4, .int v4), (0, rv x0), (1, .int x1), (2, .int x2), (3, .int x3)]) (pc := 83) hx hb dX4_grid_83 hl (by decide) rfl (fun ls hl => ?_)
    refine V_aload_n (pc := 85) hx hb dX4_grid_85 rfl (lv_at hl 1 rfl) ?_
    obtain ⟨c5, hrun⟩ := gd_some hrun
    refine V_getR (pc := 86) C hH fr_X4_26 dX4_grid_86 c5 rfl ?_
    refine lv_iload (pc := 89) hx hb dX4_grid_89 (lv_at hl 0 rfl) ?_
    obtain ⟨c6, hrun⟩ := gd_some hrun
    refine V_iald (pc := 91) C hH dX4_grid_91 c6 ?_
    refine lv_topi (fun v7 ev7 => ?_)
    have hrun := vl_at hrun v7 ev7
    refine lv_istore (i := 5) (lv' := [(5, .int v7), (4, .int v4), (0, rv x0), (1, .int x1), (2, .int x2), (3, .int x3)]) (pc := 92) hx hb dX4_grid_92 hl (by decide) rfl (fun ls hl => ?_)
    refine V_aload_n (pc := 94) hx hb dX4_grid_94 rfl (lv_at hl 2 rfl) ?_
    refine V_getR (pc := 95) C hH fr_X4_26 dX4_grid_95 c5 rfl ?_
    refine lv_iload (pc := 98) hx hb dX4_grid_98 (lv_at hl 1 rfl) ?_
    refine lv_iload_n (pc := 100) hx hb dX4_grid_100 rfl (lv_at hl 5 rfl) ?_
    obtain ⟨c8, hrun⟩ := gd_some hrun
    refine V_iast (pc := 101) C hH hL dX4_grid_101 c8 hrun (fun h9 H locs hH hL hrun => ?_)
    refine lv_iload (pc := 102) hx hb dX4_grid_102 (lv_at hl 0 rfl) ?_
    exact V_iret (pc := 104) C hH hL hrun dX4_grid_104
  · have hrun := ite_t hrun c_
    exact b_X4_grid_74 C h2 H locs cells slots ls hH hL (lv_sub hl [] rfl) hrun

theorem b_X4_grid_30 {rr : (Int32 ⊕ Ex) × Hp}  (C : CX p l R s m args meth c D Hs cX4_grid "MassclaimModel" 6 (some .int) [] 2 25)  : ∀ (x0 : Nat) (x1 : Int32) (x2 : Int32) (x3 : Int32) (y0 : Nat) (y1 : Int32) (h : Hp) (H : Heap) (locs : List Loc) (cells slots : Nat) (ls : Array Slot), HP D Hs h H → LO Hs locs → lv_has ls 6 [(0, rv x0), (1, .int x1), (2, .int x2), (3, .int x3)] → f_X4_grid_30 x0 x1 x2 x3 y0 y1 h = some rr → W p l e R s m args below meth c H locs cells slots (ZM D Hs iI rr below args s) (F0 m 30 ls [.int y1, rv y0]) := by
  obtain ⟨⟨hx, hb, hml, hown, hts⟩, -⟩ := id C
  have hl9 := C.2.1.2.2.1
  intro x0 x1 x2 x3 y0 y1 h H locs cells slots ls hH hL hl hrun
  unfold f_X4_grid_30 at hrun
  refine lv_iconst (v := (1 : Int32)) (pc := 30) hx hb dX4_grid_30 (by decide) ?_
  obtain ⟨c12, hrun⟩ := gd_some hrun
  refine V_bd (pc := 31) C hL rfl hrun (fun rr1 e1 => Z_runV (rest := []) C hH (m_X4_isGood hl9 e1) wV_X4_104 c12 rfl (by decide) rfl rfl ⟨by decide, by decide⟩ rfl (Nat.le_of_ble_eq_true rfl) hl.1 dX4_grid_31) (fun v10 h11 H locs cells slots hH hL hrun => ?_)
  refine lv_if_eq (tgt := 74) (pc := 34) hx hb dX4_grid_34 (by decide) (fun c_ => ?_) (fun c_ => ?_)
  · have hrun := ite_t hrun c_
    exact b_X4_grid_74 C h11 H locs cells slots ls hH hL (lv_sub hl [] rfl) hrun
  · have hrun := ite_f hrun c_
    refine V_aload_n (pc := 37) hx hb dX4_grid_37 rfl (lv_at hl 0 rfl) ?_
    refine lv_iload_n (pc := 38) hx hb dX4_grid_38 rfl (lv_at hl 3 rfl) ?_
    refine lv_i2l (pc := 39) hx hb dX4_grid_39 rfl ?_
    refine lv_lconst (v := (0 : Int64)) (pc := 40) hx hb dX4_grid_40 (by decide) ?_
    refine lv_ldc2 (pc := 41) hx hb hown (hts _ q2299) dX4_grid_41 ?_
    refine V_bd (pc := 44) C hL rfl hrun (fun rr1 e1 => Z_runS (rest := [rv x0]) C hH (m_X4_isWithin hl9 e1) wS_X4_100 rfl ⟨by decide, by decide⟩ rfl (by simp [csum, rv_cat, cat_i, cat_l, cat_f, cat_d]) hl.1 dX4_grid_44) (fun v13 h14 H locs cells slots hH hL hrun => ?_)
    refine lv_iconst (v := (2 : Int32)) (pc := 47) hx hb dX4_grid_47 (by decide) ?_
    obtain ⟨c17, hrun⟩ := gd_some hrun
    refine V_bd (pc := 48) C hL rfl hrun (fun rr1 e1 => Z_runV (rest := []) C hH (m_X4_isGood hl9 e1) wV_X4_104 c17 rfl (by decide) rfl rfl ⟨by decide, by decide⟩ rfl (Nat.le_of_ble_eq_true rfl) hl.1 dX4_grid_48) (fun v15 h16 H locs cells slots hH hL hrun => ?_)
    refine lv_if_eq (tgt := 74) (pc := 51) hx hb dX4_grid_51 (by decide) (fun c_ => ?_) (fun c_ => ?_)
    · have hrun := ite_t hrun c_
      exact b_X4_grid_74 C h16 H locs cells slots ls hH hL (lv_sub hl [] rfl) hrun
    · have hrun := ite_f hrun c_
      refine V_aload_n (pc := 54) hx hb dX4_grid_54 rfl (lv_at hl 0 rfl) ?_
      refine V_aload_n (pc := 55) hx hb dX4_grid_55 rfl (lv_at hl 0 rfl) ?_
      obtain ⟨c20, hrun⟩ := gd_some hrun
      refine V_bd (pc := 56) C hL rfl hrun (fun rr1 e1 => Z_runV (rest := [rv x0]) C hH (m_X4_isOver hl9 e1) wV_X4_232 c20 rfl (by decide) rfl rfl ⟨by decide, by decide⟩ rfl (by simp [csum, rv_cat, cat_i, cat_l, cat_f, cat_d]) hl.1 dX4_grid_56) (fun v18 h19 H locs cells slots hH hL hrun => ?_)
      refine lv_if_ne (tgt := 66) (pc := 59) hx hb dX4_grid_59 (by decide) (fun c_ => ?_) (fun c_ => ?_)
      · have hrun := ite_f hrun c_
        refine lv_iconst (v := (0 : Int32)) (pc := 66) hx hb dX4_grid_66 (by decide) ?_
        exact b_X4_grid_67 C x0 x1 x2 x3 x0 (0 : Int32) h19 H locs cells slots ls hH hL (lv_sub hl [0, 1, 2, 3] rfl) hrun
      · have hrun := ite_t hrun c_
        refine lv_iconst (v := (1 : Int32)) (pc := 62) hx hb dX4_grid_62 (by decide) ?_
        refine lv_goto (tgt := 67) (pc := 63) hx hb dX4_grid_63 (by decide) ?_
        exact b_X4_grid_67 C x0 x1 x2 x3 x0 (1 : Int32) h19 H locs cells slots ls hH hL (lv_sub hl [0, 1, 2, 3] rfl) hrun

theorem b_X4_grid_29 {rr : (Int32 ⊕ Ex) × Hp}  (C : CX p l R s m args meth c D Hs cX4_grid "MassclaimModel" 6 (some .int) [] 2 25)  : ∀ (x0 : Nat) (x1 : Int32) (x2 : Int32) (x3 : Int32) (y0 : Nat) (h : Hp) (H : Heap) (locs : List Loc) (cells slots : Nat) (ls : Array Slot), HP D Hs h H → LO Hs locs → lv_has ls 6 [(0, rv x0), (1, .int x1), (2, .int x2), (3, .int x3)] → f_X4_grid_29 x0 x1 x2 x3 y0 h = some rr → W p l e R s m args below meth c H locs cells slots (ZM D Hs iI rr below args s) (F0 m 29 ls [rv y0]) := by
  obtain ⟨⟨hx, hb, hml, hown, hts⟩, -⟩ := id C
  have hl9 := C.2.1.2.2.1
  intro x0 x1 x2 x3 y0 h H locs cells slots ls hH hL hl hrun
  unfold f_X4_grid_29 at hrun
  refine lv_iconst (v := (0 : Int32)) (pc := 29) hx hb dX4_grid_29 (by decide) ?_
  exact b_X4_grid_30 C x0 x1 x2 x3 y0 (0 : Int32) h H locs cells slots ls hH hL (lv_sub hl [0, 1, 2, 3] rfl) hrun

theorem b_X4_grid {rr : (Int32 ⊕ Ex) × Hp}  (C : CX p l R s m args meth c D Hs cX4_grid "MassclaimModel" 6 (some .int) [] 2 25)  : ∀ (x0 : Nat) (x1 : Int32) (x2 : Int32) (x3 : Int32) (h : Hp) (H : Heap) (locs : List Loc) (cells slots : Nat) (ls : Array Slot), HP D Hs h H → LO Hs locs → lv_has ls 6 [(0, rv x0), (1, .int x1), (2, .int x2), (3, .int x3)] → f_X4_grid x0 x1 x2 x3 h = some rr → W p l e R s m args below meth c H locs cells slots (ZM D Hs iI rr below args s) (F0 m 0 ls []) := by
  obtain ⟨⟨hx, hb, hml, hown, hts⟩, -⟩ := id C
  have hl9 := C.2.1.2.2.1
  intro x0 x1 x2 x3 h H locs cells slots ls hH hL hl hrun
  unfold f_X4_grid at hrun
  refine V_aload_n (pc := 0) hx hb dX4_grid_0 rfl (lv_at hl 0 rfl) ?_
  refine lv_iload_n (pc := 1) hx hb dX4_grid_1 rfl (lv_at hl 1 rfl) ?_
  refine lv_i2l (pc := 2) hx hb dX4_grid_2 rfl ?_
  refine lv_lconst (v := (1 : Int64)) (pc := 3) hx hb dX4_grid_3 (by decide) ?_
  refine lv_ldc2 (pc := 4) hx hb hown (hts _ q2071) dX4_grid_4 ?_
  refine V_bd (pc := 7) C hL rfl hrun (fun rr1 e1 => Z_runS (rest := [rv x0]) C hH (m_X4_isWithin hl9 e1) wS_X4_100 rfl ⟨by decide, by decide⟩ rfl (by simp [csum, rv_cat, cat_i, cat_l, cat_f, cat_d]) hl.1 dX4_grid_7) (fun v21 h22 H locs cells slots hH hL hrun => ?_)
  refine lv_if_eq (tgt := 29) (pc := 10) hx hb dX4_grid_10 (by decide) (fun c_ => ?_) (fun c_ => ?_)
  · have hrun := ite_t hrun c_
    exact b_X4_grid_29 C x0 x1 x2 x3 x0 h22 H locs cells slots ls hH hL (lv_sub hl [0, 1, 2, 3] rfl) hrun
  · have hrun := ite_f hrun c_
    refine lv_iload_n (pc := 13) hx hb dX4_grid_13 rfl (lv_at hl 2 rfl) ?_
    refine lv_i2l (pc := 14) hx hb dX4_grid_14 rfl ?_
    refine lv_lconst (v := (0 : Int64)) (pc := 15) hx hb dX4_grid_15 (by decide) ?_
    refine lv_ldc2 (pc := 16) hx hb hown (hts _ q1978) dX4_grid_16 ?_
    refine V_bd (pc := 19) C hL rfl hrun (fun rr1 e1 => Z_runS (rest := [rv x0]) C hH (m_X4_isWithin hl9 e1) wS_X4_100 rfl ⟨by decide, by decide⟩ rfl (by simp [csum, rv_cat, cat_i, cat_l, cat_f, cat_d]) hl.1 dX4_grid_19) (fun v23 h24 H locs cells slots hH hL hrun => ?_)
    refine lv_if_eq (tgt := 29) (pc := 22) hx hb dX4_grid_22 (by decide) (fun c_ => ?_) (fun c_ => ?_)
    · have hrun := ite_t hrun c_
      exact b_X4_grid_29 C x0 x1 x2 x3 x0 h24 H locs cells slots ls hH hL (lv_sub hl [0, 1, 2, 3] rfl) hrun
    · have hrun := ite_f hrun c_
      refine lv_iconst (v := (1 : Int32)) (pc := 25) hx hb dX4_grid_25 (by decide) ?_
      refine lv_goto (tgt := 30) (pc := 26) hx hb dX4_grid_26 (by decide) ?_
      exact b_X4_grid_30 C x0 x1 x2 x3 x0 (1 : Int32) h24 H locs cells slots ls hH hL (lv_sub hl [0, 1, 2, 3] rfl) hrun

theorem m_X4_grid {l : Launch} {D : va_G} {Hs : Heap} {h : Hp} {rr : (Int32 ⊕ Ex) × Hp} (hl9 : l.stackTraces = false) {x0 : Nat} {x1 : Int32} {x2 : Int32} {x3 : Int32} (hrun : f_X4_grid x0 x1 x2 x3 h = some rr) : CM l yX4_grid (ws_ yX4_grid cX4_grid 6 (some .int)) 2 25 iI [rv x0, .int x1, .int x2, .int x3] D Hs h rr := by
  refine CM.of (lv := [(0, rv x0), (1, .int x1), (2, .int x2), (3, .int x3)]) (plainFor_of_name (by decide)) hl9 (by simp [lv_args, rv_cat, cat_i, cat_l, cat_f, cat_d]) (by simp [lg_sl, rv_cat, cat_i, cat_l, cat_f, cat_d]) ?_
  intro p e R s m args below meth c H ls C hH hl hin
  exact b_X4_grid C x0 x1 x2 x3 _ H [] _ _ ls hH (fun _ q => nomatch q) (lv_sub hl [0, 1, 2, 3] rfl) hrun
end WK10

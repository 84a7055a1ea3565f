section WK6
variable {p : Program} {l : Launch} {e : Env} {R : Room} {s : State} {m : MethodId} {args : Array Value} {below : List Frame} {meth : Method} {c : Code} {D : va_G} {Hs : Heap} {F X : Nat}
/-! Massclaim.draw(I)I -/
def f_X1_draw_121 (k29 : Nat → Nat → Nat → Hp → Rt Int32) (x2 : Nat) (x3 : Nat) (x4 : Nat) (h : Hp) : Rt Int32 :=
  k29 x2 x3 x4 h
def f_X1_draw_111 (k29 : Nat → Nat → Nat → Hp → Rt Int32) (x2 : Nat) (x3 : Nat) (x4 : Nat) (x5 : Nat) (x6 : Int32) (h : Hp) : Rt Int32 :=
  gd (kC h x3 = 18) <| bd (f_J2_add_3 x3 x6 x5 h) fun _ h2 => f_X1_draw_121 k29 x2 x3 x4 h2
def f_X1_draw_76 (k29 : Nat → Nat → Nat → Hp → Rt Int32) : Nat → Nat → Nat → Nat → Nat → Int32 → Hp → Rt Int32
  | 0, _, _, _, _, _, _ => none
  | n + 1, x2, x3, x4, x5, x6, h => if x6 ≤ 0 then
  (f_X1_draw_111 k29 x2 x3 x4 x5 x6 h)
  else
  (gd (kC h x3 = 18) <| bd (f_J2_get x3 (x6 - (1 : Int32)) h) fun v4 h5 => gd (v4 = 0 ∨ kC h5 v4 = 5) <| gd (kC h5 v4 = 5) <| gd (kC h5 x5 = 5) <| if (kI h5 404 v4) ≤ (kI h5 404 x5) then
  (f_X1_draw_111 k29 x2 x3 x4 x5 x6 h5)
  else
  (vl (x6 + (-1 : Int32)) fun v10 => f_X1_draw_76 k29 n x2 x3 x4 x5 v10 h5))
def f_X1_draw_29  : Nat → Nat → Nat → Nat → Hp → Rt Int32
  | 0, _, _, _, _ => none
  | n + 1, x2, x3, x4, h => gd (kC h x4 = 19) <| bd (f_J16_hasNext x4 h) fun v11 h12 => if v11 = 0 then
  (gd (kC h12 x3 = 18) <| bd (f_J2_isEmpty x3 h12) fun v14 h15 => if v14 = 0 then
  (gd (kC h15 x3 = 18) <| bd (f_J2_size x3 h15) fun v17 h18 => gd (kC h18 x3 = 18) <| bd (f_J2_get x3 ((v17 - (1 : Int32)) / (2 : Int32)) h18) fun v20 h21 => gd (v20 = 0 ∨ kC h21 v20 = 5) <| gd (kC h21 v20 = 5) <| vl (sI h21 411 v20 (1 : Int32)) fun h25 => gd (kC h25 v20 = 5) <| some (.inl (kI h25 400 v20), h25))
  else
  (some (.inl (-1 : Int32), h15)))
  else
  (gd (kC h12 x4 = 19) <| bd (f_J16_next x4 h12) fun v27 h28 => gd (v27 = 0 ∨ kC h28 v27 = 5) <| gd (kC h28 v27 = 5) <| bd (f_X5_subclass v27 h28) fun v31 h32 => if v31 = x2 then
  (gd (kC h32 v27 = 5) <| if (kI h32 411 v27) = 0 then
  (gd (kC h32 x3 = 18) <| bd (f_J2_size x3 h32) fun v35 h36 => f_X1_draw_76 (f_X1_draw_29 n) FU x2 x3 x4 v27 v35 h36)
  else
  (f_X1_draw_121 (f_X1_draw_29 n) x2 x3 x4 h32))
  else
  (f_X1_draw_121 (f_X1_draw_29 n) x2 x3 x4 h32))
def f_X1_draw  (x0 : Nat) (x1 : Int32) (h : Hp) : Rt Int32 :=
  gd (kC h x0 = 1) <| gd (kC h (kR h 1 x0) = 2) <| bd (f_X2_at (kR h 1 x0) x1 h) fun v39 h40 => gd (v39 = 0 ∨ kC h40 v39 = 7) <| nw h40 18 3 fun q43 h44 => gd (kC h44 q43 = 18) <| bd (f_J2_init q43 h44) fun _ h46 => gd (kC h46 x0 = 1) <| gd (kC h46 (kR h46 0 x0) = 2) <| bd (f_X2_iterator (kR h46 0 x0) h46) fun v49 h50 => f_X1_draw_29 FU v39 q43 v49 h50
theorem b_X1_draw_121 {rr : (Int32 ⊕ Ex) × Hp} {k29 : Nat → Nat → Nat → Hp → Rt Int32} (C : CX p l R s m args meth c D Hs cX1_draw "Massclaim" 7 (some .int) [] 9 354) (K29 : ∀ (x2 : Nat) (x3 : Nat) (x4 : Nat) (h : Hp) (H : Heap) (locs : List Loc) (cells slots : Nat) (ls : Array Slot), HP D Hs h H → LO Hs locs → lv_has ls 7 [(2, rv x2), (3, rv x3), (4, rv x4)] → k29 x2 x3 x4 h = some rr → W p l e R s m args below meth c H locs cells slots (ZM D Hs iI rr below args s) (F0 m 29 ls [])) : ∀ (x2 : Nat) (x3 : Nat) (x4 : Nat) (h : Hp) (H : Heap) (locs : List Loc) (cells slots : Nat) (ls : Array Slot), HP D Hs h H → LO Hs locs → lv_has ls 7 [(2, rv x2), (3, rv x3), (4, rv x4)] → f_X1_draw_121 k29 x2 x3 x4 h = some rr → W p l e R s m args below meth c H locs cells slots (ZM D Hs iI rr below args s) (F0 m 121 ls []) := by
  obtain ⟨⟨hx, hb, hml, hown, hts⟩, -⟩ := id C
  have hl9 := C.2.1.2.2.1
  intro x2 x3 x4 h H locs cells slots ls hH hL hl hrun
  unfold f_X1_draw_121 at hrun
  refine lv_goto (tgt := 29) (pc := 121) hx hb dX1_draw_121 (by decide) ?_
  exact K29 x2 x3 x4 h H locs cells slots ls hH hL (lv_sub hl [0, 1, 2] rfl) hrun

theorem b_X1_draw_111 {rr : (Int32 ⊕ Ex) × Hp} {k29 : Nat → Nat → Nat → Hp → Rt Int32} (C : CX p l R s m args meth c D Hs cX1_draw "Massclaim" 7 (some .int) [] 9 354) (K29 : ∀ (x2 : Nat) (x3 : Nat) (x4 : Nat) (h : Hp) (H : Heap) (locs : List Loc) (cells slots : Nat) (ls : Array Slot), HP D Hs h H → LO Hs locs → lv_has ls 7 [(2, rv x2), (3, rv x3), (4, rv x4)] → k29 x2 x3 x4 h = some rr → W p l e R s m args below meth c H locs cells slots (ZM D Hs iI rr below args s) (F0 m 29 ls [])) : ∀ (x2 : Nat) (x3 : Nat) (x4 : Nat) (x5 : Nat) (x6 : Int32) (h : Hp) (H : Heap) (locs : List Loc) (cells slots : Nat) (ls : Array Slot), HP D Hs h H → LO Hs locs → lv_has ls 7 [(2, rv x2), (3, rv x3), (4, rv x4), (5, rv x5), (6, .int x6)] → f_X1_draw_111 k29 x2 x3 x4 x5 x6 h = some rr → W p l e R s m args below meth c H locs cells slots (ZM D Hs iI rr below args s) (F0 m 111 ls []) := by
  obtain ⟨⟨hx, hb, hml, hown, hts⟩, -⟩ := id C
  have hl9 := C.2.1.2.2.1
  intro x2 x3 x4 x5 x6 h H locs cells slots ls hH hL hl hrun
  unfold f_X1_draw_111 at hrun
  refine V_aload_n (pc := 111) hx hb dX1_draw_111 rfl (lv_at hl 1 rfl) ?_
  refine lv_iload (pc := 112) hx hb dX1_draw_112 (lv_at hl 4 rfl) ?_
  refine V_aload (pc := 114) hx hb dX1_draw_114 (lv_at hl 3 rfl) ?_
  obtain ⟨c3, hrun⟩ := gd_some hrun
  refine V_bd5 (pc := 116) C hL rfl hrun (fun rr1 e1 => Z_runF (rest := []) C hH (m_J2_add_3 hl9 e1) rfl wF_X1_293_J2 c3 (by decide) rfl ⟨by decide, by decide⟩ rfl (Nat.le_of_ble_eq_true rfl) hl.1 dX1_draw_116) (fun _ h2 H locs cells slots hH hL hrun => ?_)
  exact b_X1_draw_121 C K29 x2 x3 x4 h2 H locs cells slots ls hH hL (lv_sub hl [0, 1, 2] rfl) hrun

theorem b_X1_draw_76 {rr : (Int32 ⊕ Ex) × Hp} {k29 : Nat → Nat → Nat → Hp → Rt Int32} (C : CX p l R s m args meth c D Hs cX1_draw "Massclaim" 7 (some .int) [] 9 354) (K29 : ∀ (x2 : Nat) (x3 : Nat) (x4 : Nat) (h : Hp) (H : Heap) (locs : List Loc) (cells slots : Nat) (ls : Array Slot), HP D Hs h H → LO Hs locs → lv_has ls 7 [(2, rv x2), (3, rv x3), (4, rv x4)] → k29 x2 x3 x4 h = some rr → W p l e R s m args below meth c H locs cells slots (ZM D Hs iI rr below args s) (F0 m 29 ls [])) : ∀ (n : Nat) (x2 : Nat) (x3 : Nat) (x4 : Nat) (x5 : Nat) (x6 : Int32) (h : Hp) (H : Heap) (locs : List Loc) (cells slots : Nat) (ls : Array Slot), HP D Hs h H → LO Hs locs → lv_has ls 7 [(2, rv x2), (3, rv x3), (4, rv x4), (5, rv x5), (6, .int x6)] → f_X1_draw_76 k29 n x2 x3 x4 x5 x6 h = some rr → W p l e R s m args below meth c H locs cells slots (ZM D Hs iI rr below args s) (F0 m 76 ls []) := by
  obtain ⟨⟨hx, hb, hml, hown, hts⟩, -⟩ := id C
  have hl9 := C.2.1.2.2.1
  intro n
  induction n with
  | zero =>
    intro x2 x3 x4 x5 x6 h H locs cells slots ls hH hL hl hrun
    cases (show (none : Option _) = some rr from hrun)
  | succ n ih =>
    intro x2 x3 x4 x5 x6 h H locs cells slots ls hH hL hl hrun
    rw [f_X1_draw_76] at hrun
    refine lv_iload (pc := 76) hx hb dX1_draw_76 (lv_at hl 4 rfl) ?_
    refine lv_if_le (tgt := 111) (pc := 78) hx hb dX1_draw_78 (by decide) (fun c_ => ?_) (fun c_ => ?_)
    · have hrun := ite_t hrun c_
      exact b_X1_draw_111 C K29 x2 x3 x4 x5 x6 h H locs cells slots ls hH hL (lv_sub hl [0, 1, 2, 3, 4] rfl) hrun
    · have hrun := ite_f hrun c_
      refine V_aload_n (pc := 81) hx hb dX1_draw_81 rfl (lv_at hl 1 rfl) ?_
      refine lv_iload (pc := 82) hx hb dX1_draw_82 (lv_at hl 4 rfl) ?_
      refine lv_iconst (v := (1 : Int32)) (pc := 84) hx hb dX1_draw_84 (by decide) ?_
      refine lv_isub (pc := 85) hx hb dX1_draw_85 ?_
      obtain ⟨c6, hrun⟩ := gd_some hrun
      refine V_bd5 (pc := 86) C hL rfl hrun (fun rr1 e1 => Z_runF (rest := []) C hH (m_J2_get hl9 e1) rfl wF_X1_19_J2 c6 (by decide) rfl ⟨by decide, by decide⟩ rfl (Nat.le_of_ble_eq_true rfl) hl.1 dX1_draw_86) (fun v4 h5 H locs cells slots hH hL hrun => ?_)
      obtain ⟨c7, hrun⟩ := gd_some hrun
      refine V_castX (pc := 91) (ci := 4) C hH rfl (by decide) q376 dX1_draw_91 c7 ?_
      obtain ⟨c8, hrun⟩ := gd_some hrun
      refine V_getNI (pc := 94) C hH fn_X1_290 dX1_draw_94 c8 rfl ?_
      refine V_aload (pc := 97) hx hb dX1_draw_97 (lv_at hl 3 rfl) ?_
      obtain ⟨c9, hrun⟩ := gd_some hrun
      refine V_getNI (pc := 99) C hH fn_X1_290 dX1_draw_99 c9 rfl ?_
      refine lv_icmp_le (tgt := 111) (pc := 102) hx hb dX1_draw_102 (by decide) (fun c_ => ?_) (fun c_ => ?_)
      · have hrun := ite_t hrun c_
        exact b_X1_draw_111 C K29 x2 x3 x4 x5 x6 h5 H locs cells slots ls hH hL (lv_sub hl [0, 1, 2, 3, 4] rfl) hrun
      · have hrun := ite_f hrun c_
        obtain ⟨v10, ev10⟩ : ∃ y : Int32, y = x6 + (-1 : Int32) := ⟨_, rfl⟩
        have hrun := vl_at hrun v10 ev10
        refine lv_iinc (v := v10) (lv' := [(6, .int v10), (2, rv x2), (3, rv x3), (4, rv x4), (5, rv x5)]) (pc := 105) hx hb dX1_draw_105 hl (k := 4) rfl (by rw [ev10]; rfl) (by decide) (by first | rfl | simp [rv_cat, cat_i, cat_l, cat_f, cat_d]) (fun ls hl => ?_)
        refine lv_goto (tgt := 76) (pc := 108) hx hb dX1_draw_108 (by decide) ?_
        exact ih x2 x3 x4 x5 v10 h5 H locs cells slots ls hH hL (lv_sub hl [1, 2, 3, 4, 0] rfl) hrun

theorem b_X1_draw_29 {rr : (Int32 ⊕ Ex) × Hp}  (C : CX p l R s m args meth c D Hs cX1_draw "Massclaim" 7 (some .int) [] 9 354)  : ∀ (n : Nat) (x2 : Nat) (x3 : Nat) (x4 : Nat) (h : Hp) (H : Heap) (locs : List Loc) (cells slots : Nat) (ls : Array Slot), HP D Hs h H → LO Hs locs → lv_has ls 7 [(2, rv x2), (3, rv x3), (4, rv x4)] → f_X1_draw_29 n x2 x3 x4 h = some rr → W p l e R s m args below meth c H locs cells slots (ZM D Hs iI rr below args s) (F0 m 29 ls []) := by
  obtain ⟨⟨hx, hb, hml, hown, hts⟩, -⟩ := id C
  have hl9 := C.2.1.2.2.1
  intro n
  induction n with
  | zero =>
    intro x2 x3 x4 h H locs cells slots ls hH hL hl hrun
    cases (show (none : Option _) = some rr from hrun)
  | succ n ih =>
    intro x2 x3 x4 h H locs cells slots ls hH hL hl hrun
    rw [f_X1_draw_29] at hrun
    refine V_aload (pc := 29) hx hb dX1_draw_29 (lv_at hl 2 rfl) ?_
    obtain ⟨c13, hrun⟩ := gd_some hrun
    refine V_bd5 (pc := 31) C hL rfl hrun (fun rr1 e1 => Z_runF (rest := []) C hH (m_J16_hasNext hl9 e1) rfl wF_X1_212_J16 c13 (by decide) rfl ⟨by decide, by decide⟩ rfl (Nat.le_of_ble_eq_true rfl) hl.1 dX1_draw_31) (fun v11 h12 H locs cells slots hH hL hrun => ?_)
    refine lv_if_eq (tgt := 124) (pc := 36) hx hb dX1_draw_36 (by decide) (fun c_ => ?_) (fun c_ => ?_)
    · have hrun := ite_t hrun c_
      refine V_aload_n (pc := 124) hx hb dX1_draw_124 rfl (lv_at hl 1 rfl) ?_
      obtain ⟨c16, hrun⟩ := gd_some hrun
      refine V_bd5 (pc := 125) C hL rfl hrun (fun rr1 e1 => Z_runF (rest := []) C hH (m_J2_isEmpty hl9 e1) rfl wF_X1_296_J2 c16 (by decide) rfl ⟨by decide, by decide⟩ rfl (Nat.le_of_ble_eq_true rfl) hl.1 dX1_draw_125) (fun v14 h15 H locs cells slots hH hL hrun => ?_)
      refine lv_if_eq (tgt := 135) (pc := 130) hx hb dX1_draw_130 (by decide) (fun c_ => ?_) (fun c_ => ?_)
      · have hrun := ite_t hrun c_
        refine V_aload_n (pc := 135) hx hb dX1_draw_135 rfl (lv_at hl 1 rfl) ?_
        refine V_aload_n (pc := 136) hx hb dX1_draw_136 rfl (lv_at hl 1 rfl) ?_
        obtain ⟨c19, hrun⟩ := gd_some hrun
        refine V_bd5 (pc := 137) C hL rfl hrun (fun rr1 e1 => Z_runF (rest := [rv x3]) C hH (m_J2_size hl9 e1) rfl wF_X1_13_J2 c19 (by decide) rfl ⟨by decide, by decide⟩ rfl (by simp [csum, rv_cat, cat_i, cat_l, cat_f, cat_d]) hl.1 dX1_draw_137) (fun v17 h18 H locs cells slots hH hL hrun => ?_)
        refine lv_iconst (v := (1 : Int32)) (pc := 142) hx hb dX1_draw_142 (by decide) ?_
        refine lv_isub (pc := 143) hx hb dX1_draw_143 ?_
        refine lv_iconst (v := (2 : Int32)) (pc := 144) hx hb dX1_draw_144 (by decide) ?_
        refine lv_idiv (pc := 145) hx hb dX1_draw_145 (by decide) ?_
        obtain ⟨c22, hrun⟩ := gd_some hrun
        refine V_bd5 (pc := 146) C hL rfl hrun (fun rr1 e1 => Z_runF (rest := []) C hH (m_J2_get hl9 e1) rfl wF_X1_19_J2 c22 (by decide) rfl ⟨by decide, by decide⟩ rfl (Nat.le_of_ble_eq_true rfl) hl.1 dX1_draw_146) (fun v20 h21 H locs cells slots hH hL hrun => ?_)
        obtain ⟨c23, hrun⟩ := gd_some hrun
        refine V_castX (pc := 151) (ci := 4) C hH rfl (by decide) q376 dX1_draw_151 c23 ?_
        refine V_astore (i := 4) (lv' := [(4, rv v20), (2, rv x2), (3, rv x3)]) (pc := 154) hx hb dX1_draw_154 hl (by decide) (by simp [rv_cat, cat_i, cat_l, cat_f, cat_d]) (fun ls hl => ?_)
        refine V_aload (pc := 156) hx hb dX1_draw_156 (lv_at hl 0 rfl) ?_
        refine lv_iconst (v := (1 : Int32)) (pc := 158) hx hb dX1_draw_158 (by decide) ?_
        obtain ⟨c24, hrun⟩ := gd_some hrun
        refine V_putNI (pc := 159) C hH hL fn_X1_287 dX1_draw_159 c24 (fok_z (Or.inr rfl)) rfl hrun (fun h25 H locs hH hL hrun => ?_)
        refine V_aload (pc := 162) hx hb dX1_draw_162 (lv_at hl 0 rfl) ?_
        obtain ⟨c26, hrun⟩ := gd_some hrun
        refine V_getNI (pc := 164) C hH fn_X1_299 dX1_draw_164 c26 rfl ?_
        exact V_iret (pc := 167) C hH hL hrun dX1_draw_167
      · have hrun := ite_f hrun c_
        refine lv_iconst (v := (-1 : Int32)) (pc := 133) hx hb dX1_draw_133 (by decide) ?_
        exact V_iret (pc := 134) C hH hL hrun dX1_draw_134
    · have hrun := ite_f hrun c_
      refine V_aload (pc := 39) hx hb dX1_draw_39 (lv_at hl 2 rfl) ?_
      obtain ⟨c29, hrun⟩ := gd_some hrun
      refine V_bd5 (pc := 41) C hL rfl hrun (fun rr1 e1 => Z_runF (rest := []) C hH (m_J16_next hl9 e1) rfl wF_X1_217_J16 c29 (by decide) rfl ⟨by decide, by decide⟩ rfl (Nat.le_of_ble_eq_true rfl) hl.1 dX1_draw_41) (fun v27 h28 H locs cells slots hH hL hrun => ?_)
      obtain ⟨c30, hrun⟩ := gd_some hrun
      refine V_castX (pc := 46) (ci := 4) C hH rfl (by decide) q376 dX1_draw_46 c30 ?_
      refine V_astore (i := 5) (lv' := [(5, rv v27), (2, rv x2), (3, rv x3), (4, rv x4)]) (pc := 49) hx hb dX1_draw_49 hl (by decide) (by simp [rv_cat, cat_i, cat_l, cat_f, cat_d]) (fun ls hl => ?_)
      refine V_aload (pc := 51) hx hb dX1_draw_51 (lv_at hl 0 rfl) ?_
      obtain ⟨c33, hrun⟩ := gd_some hrun
      refine V_bd (pc := 53) C hL rfl hrun (fun rr1 e1 => Z_runV (rest := []) C hH (m_X5_subclass hl9 e1) wV_X1_238 c33 rfl (by decide) rfl rfl ⟨by decide, by decide⟩ rfl (Nat.le_of_ble_eq_true rfl) hl.1 dX1_draw_53) (fun v31 h32 H locs cells slots hH hL hrun => ?_)
      refine V_aload_n (pc := 56) hx hb dX1_draw_56 rfl (lv_at hl 1 rfl) ?_
      refine V_acmp_ne (tgt := 121) (pc := 57) hx hb dX1_draw_57 (by decide) hrun (fun c_ hrun => ?_) (fun c_ hrun => ?_)
      · exact b_X1_draw_121 C ih x2 x3 x4 h32 H locs cells slots ls hH hL (lv_sub hl [1, 2, 3] rfl) hrun
      · refine V_aload (pc := 60) hx hb dX1_draw_60 (lv_at hl 0 rfl) ?_
        obtain ⟨c34, hrun⟩ := gd_some hrun
        refine V_getNI (pc := 62) C hH fn_X1_287 dX1_draw_62 c34 rfl ?_
        refine lv_if_ne (tgt := 121) (pc := 65) hx hb dX1_draw_65 (by decide) (fun c_ => ?_) (fun c_ => ?_)
        · have hrun := ite_f hrun c_
          exact b_X1_draw_121 C ih x2 x3 x4 h32 H locs cells slots ls hH hL (lv_sub hl [1, 2, 3] rfl) hrun
        · have hrun := ite_t hrun c_
          refine V_aload_n (pc := 68) hx hb dX1_draw_68 rfl (lv_at hl 2 rfl) ?_
          obtain ⟨c37, hrun⟩ := gd_some hrun
          refine V_bd5 (pc := 69) C hL rfl hrun (fun rr1 e1 => Z_runF (rest := []) C hH (m_J2_size hl9 e1) rfl wF_X1_13_J2 c37 (by decide) rfl ⟨by decide, by decide⟩ rfl (Nat.le_of_ble_eq_true rfl) hl.1 dX1_draw_69) (fun v35 h36 H locs cells slots hH hL hrun => ?_)
          refine lv_istore (i := 6) (lv' := [(6, .int v35), (5, rv v27), (2, rv x2), (3, rv x3), (4, rv x4)]) (pc := 74) hx hb dX1_draw_74 hl (by decide) (by simp [rv_cat, cat_i, cat_l, cat_f, cat_d]) (fun ls hl => ?_)
          exact b_X1_draw_76 C ih FU x2 x3 x4 v27 v35 h36 H locs cells slots ls hH hL (lv_sub hl [2, 3, 4, 1, 0] rfl) hrun

theorem b_X1_draw {rr : (Int32 ⊕ Ex) × Hp}  (C : CX p l R s m args meth c D Hs cX1_draw "Massclaim" 7 (some .int) [] 9 354)  : ∀ (x0 : Nat) (x1 : Int32) (h : Hp) (H : Heap) (locs : List Loc) (cells slots : Nat) (ls : Array Slot), HP D Hs h H → LO Hs locs → lv_has ls 7 [(0, rv x0), (1, .int x1)] → f_X1_draw x0 x1 h = some rr → W p l e R s m args below meth c H locs cells slots (ZM D Hs iI rr below args s) (F0 m 0 ls []) := by
  obtain ⟨⟨hx, hb, hml, hown, hts⟩, -⟩ := id C
  have hl9 := C.2.1.2.2.1
  intro x0 x1 h H locs cells slots ls hH hL hl hrun
  unfold f_X1_draw at hrun
  refine V_aload_n (pc := 0) hx hb dX1_draw_0 rfl (lv_at hl 0 rfl) ?_
  obtain ⟨c38, hrun⟩ := gd_some hrun
  refine V_getR (pc := 1) C hH fr_X1_46 dX1_draw_1 c38 rfl ?_
  refine lv_iload_n (pc := 4) hx hb dX1_draw_4 rfl (lv_at hl 1 rfl) ?_
  obtain ⟨c41, hrun⟩ := gd_some hrun
  refine V_bd (pc := 5) C hL rfl hrun (fun rr1 e1 => Z_runV (rest := []) C hH (m_X2_at hl9 e1) wV_X1_136 c41 rfl (by decide) rfl rfl ⟨by decide, by decide⟩ rfl (Nat.le_of_ble_eq_true rfl) hl.1 dX1_draw_5) (fun v39 h40 H locs cells slots hH hL hrun => ?_)
  obtain ⟨c42, hrun⟩ := gd_some hrun
  refine V_castX (pc := 8) (ci := 6) C hH rfl (by decide) q907 dX1_draw_8 c42 ?_
  refine V_astore_n (i := 2) (lv' := [(2, rv v39), (0, rv x0), (1, .int x1)]) (pc := 11) hx hb dX1_draw_11 rfl hl (by decide) rfl (fun ls hl => ?_)
  refine V_new (pc := 12) C hH nl_X1_284 dX1_draw_12 hrun (fun q43 h44 H cells slots hH hrun => ?_)
  refine lv_dup (pc := 15) hx hb dX1_draw_15 (rv_cat _) ?_
  obtain ⟨c47, hrun⟩ := gd_some hrun
  refine V_bd (pc := 16) C hL rfl hrun (fun rr1 e1 => Z_runI (rest := [rv q43]) C hH (m_J2_init hl9 e1) wI_X1_286 (hH.pos c47) rfl ⟨by decide, by decide⟩ rfl (by simp [csum, rv_cat, cat_i, cat_l, cat_f, cat_d]) hl.1 dX1_draw_16) (fun _ h46 H locs cells slots hH hL hrun => ?_)
  refine V_astore_n (i := 3) (lv' := [(3, rv q43), (2, rv v39), (0, rv x0), (1, .int x1)]) (pc := 19) hx hb dX1_draw_19 rfl hl (by decide) (by simp [rv_cat, cat_i, cat_l, cat_f, cat_d]) (fun ls hl => ?_)
  refine V_aload_n (pc := 20) hx hb dX1_draw_20 rfl (lv_at hl 2 rfl) ?_
  obtain ⟨c48, hrun⟩ := gd_some hrun
  refine V_getR (pc := 21) C hH fr_X1_42 dX1_draw_21 c48 rfl ?_
  obtain ⟨c51, hrun⟩ := gd_some hrun
  refine V_bd (pc := 24) C hL rfl hrun (fun rr1 e1 => Z_runV (rest := []) C hH (m_X2_iterator hl9 e1) wV_X1_208 c51 rfl (by decide) rfl rfl ⟨by decide, by decide⟩ rfl (Nat.le_of_ble_eq_true rfl) hl.1 dX1_draw_24) (fun v49 h50 H locs cells slots hH hL hrun => ?_)
  refine V_astore (i := 4) (lv' := [(4, rv v49), (3, rv q43), (2, rv v39), (0, rv x0), (1, .int x1)]) (pc := 27) hx hb dX1_draw_27 hl (by decide) (by simp [rv_cat, cat_i, cat_l, cat_f, cat_d]) (fun ls hl => ?_)
  exact b_X1_draw_29 C FU v39 q43 v49 h50 H locs cells slots ls hH hL (lv_sub hl [2, 1, 0] rfl) hrun

theorem m_X1_draw {l : Launch} {D : va_G} {Hs : Heap} {h : Hp} {rr : (Int32 ⊕ Ex) × Hp} (hl9 : l.stackTraces = false) {x0 : Nat} {x1 : Int32} (hrun : f_X1_draw x0 x1 h = some rr) : CM l yX1_draw (ws_ yX1_draw cX1_draw 7 (some .int)) 9 354 iI [rv x0, .int x1] D Hs h rr := by
  refine CM.of (lv := [(0, rv x0), (1, .int x1)]) (plainFor_of_name (by decide)) hl9 (by simp [lv_args, rv_cat, cat_i, cat_l, cat_f, cat_d]) (by simp [lg_sl, rv_cat, cat_i, cat_l, cat_f, cat_d]) ?_
  intro p e R s m args below meth c H ls C hH hl hin
  exact b_X1_draw C x0 x1 _ H [] _ _ ls hH (fun _ q => nomatch q) (lv_sub hl [0, 1] rfl) hrun

/-! MassclaimLaw.draw(LMassclaim;I[J)I -/
def f_X0_draw_12  (y0 : Nat) (h : Hp) : Rt Int32 :=
  some (.inl (1 : Int32), h)
def f_X0_draw  (x0 : Nat) (x1 : Int32) (x2 : Nat) (h : Hp) : Rt Int32 :=
  gd (kC h x0 = 1) <| bdH (f_X1_draw x0 x1 h)
  (fun v1 h2 => gd (kC h2 x2 = 102 ∧ ixo (0 : Int32) (kN h2 x2)) <| vl (tL h2 x2 ((0 : Int32)).toNatClampNeg (v1.toInt64)) fun h5 => some (.inl (0 : Int32), h5))
  (fun ex6 h7 => if ex6.1 = 901 then
  (f_X0_draw_12 ex6.2 h7)
  else
  none)
theorem b_X0_draw_12 {rr : (Int32 ⊕ Ex) × Hp}  (C : CX p l R s m args meth c D Hs cX0_draw "MassclaimLaw" 4 (some .int) [(0, 9, 12, 25)] 10 380)  : ∀ (y0 : Nat) (h : Hp) (H : Heap) (locs : List Loc) (cells slots : Nat) (ls : Array Slot), HP D Hs h H → LO Hs locs → lv_has ls 4 [] → f_X0_draw_12 y0 h = some rr → W p l e R s m args below meth c H locs cells slots (ZM D Hs iI rr below args s) (F0 m 12 ls [rv y0]) := by
  obtain ⟨⟨hx, hb, hml, hown, hts⟩, -⟩ := id C
  have hl9 := C.2.1.2.2.1
  intro y0 h H locs cells slots ls hH hL hl hrun
  unfold f_X0_draw_12 at hrun
  refine V_astore_n (i := 3) (lv' := [(3, rv y0)]) (pc := 12) hx hb dX0_draw_12 rfl hl (by decide) rfl (fun ls hl => ?_)
  refine lv_iconst (v := (1 : Int32)) (pc := 13) hx hb dX0_draw_13 (by decide) ?_
  exact V_iret (pc := 14) C hH hL hrun dX0_draw_14

theorem b_X0_draw {rr : (Int32 ⊕ Ex) × Hp}  (C : CX p l R s m args meth c D Hs cX0_draw "MassclaimLaw" 4 (some .int) [(0, 9, 12, 25)] 10 380)  : ∀ (x0 : Nat) (x1 : Int32) (x2 : Nat) (h : Hp) (H : Heap) (locs : List Loc) (cells slots : Nat) (ls : Array Slot), HP D Hs h H → LO Hs locs → lv_has ls 4 [(0, rv x0), (1, .int x1), (2, rv x2)] → f_X0_draw x0 x1 x2 h = some rr → W p l e R s m args below meth c H locs cells slots (ZM D Hs iI rr below args s) (F0 m 0 ls []) := by
  obtain ⟨⟨hx, hb, hml, hown, hts⟩, -⟩ := id C
  have hl9 := C.2.1.2.2.1
  intro x0 x1 x2 h H locs cells slots ls hH hL hl hrun
  unfold f_X0_draw at hrun
  refine V_aload_n (pc := 0) hx hb dX0_draw_0 rfl (lv_at hl 2 rfl) ?_
  refine lv_iconst (v := (0 : Int32)) (pc := 1) hx hb dX0_draw_1 (by decide) ?_
  refine V_aload_n (pc := 2) hx hb dX0_draw_2 rfl (lv_at hl 0 rfl) ?_
  refine lv_iload_n (pc := 3) hx hb dX0_draw_3 rfl (lv_at hl 1 rfl) ?_
  obtain ⟨c3, hrun⟩ := gd_some hrun
  refine V_bdH (pc := 4) hL hrun (fun rr1 e1 => Z_runV (rest := [.int (0 : Int32), rv x2]) C hH (m_X1_draw hl9 e1) wV_X0_62 c3 rfl (by decide) rfl rfl ⟨by decide, by decide⟩ rfl (by simp [csum, rv_cat, cat_i, cat_l, cat_f, cat_d]) hl.1 dX0_draw_4) (fun v1 h2 H locs cells slots hH hL hrun => ?_) (fun x_ q_ ce_ h7 H locs cells slots hH hL hrun hc_ hv_ hcl_ => ?_)
  · refine lv_i2l (pc := 7) hx hb dX0_draw_7 rfl ?_
    obtain ⟨c4, hrun⟩ := gd_some hrun
    refine V_last (pc := 8) C hH hL dX0_draw_8 c4 hrun (fun h5 H locs hH hL hrun => ?_)
    refine lv_goto (tgt := 15) (pc := 9) hx hb dX0_draw_9 (by decide) ?_
    refine lv_iconst (v := (0 : Int32)) (pc := 15) hx hb dX0_draw_15 (by decide) ?_
    exact V_iret (pc := 16) C hH hL hrun dX0_draw_16
  · by_cases n901 : x_ = 901
    · subst n901
      have hrun := ite_t hrun rfl
      refine vx_catch (E := "java/lang/IndexOutOfBoundsException") (name := "java/lang/IndexOutOfBoundsException") hown (tableOf []) ⟨0, 9, 12, 25⟩ (tableOf []) (by rw [C.2.1.2.2.2.2]; rfl) (fun z hz => nomatch hz) (by decide) (by decide) (hts _ q829) (va_Nw.use rfl (C.2.1.2.2.2.1.2.1 _ q537 rfl)) hc_ hv_ hcl_ ?_
      exact b_X0_draw_12 C (q_ + 1) h7 H locs cells slots ls hH hL (lv_sub hl [] rfl) hrun
    have hrun := ite_f hrun n901
    cases hrun

theorem m_X0_draw {l : Launch} {D : va_G} {Hs : Heap} {h : Hp} {rr : (Int32 ⊕ Ex) × Hp} (hl9 : l.stackTraces = false) {x0 : Nat} {x1 : Int32} {x2 : Nat} (hrun : f_X0_draw x0 x1 x2 h = some rr) : CM l yX0_draw (wsW_ yX0_draw cX0_draw 4 (some .int) [(0, 9, 12, 25)]) 10 380 iI [rv x0, .int x1, rv x2] D Hs h rr := by
  refine CM.ofH (lv := [(0, rv x0), (1, .int x1), (2, rv x2)]) (plainFor_of_name (by decide)) hl9 (by simp [lv_args, rv_cat, cat_i, cat_l, cat_f, cat_d]) (by simp [lg_sl, rv_cat, cat_i, cat_l, cat_f, cat_d]) ?_
  intro p e R s m args below meth c H ls C hH hl hin
  exact b_X0_draw C x0 x1 x2 _ H [] _ _ ls hH (fun _ q => nomatch q) (lv_sub hl [0, 1, 2] rfl) hrun

/-! MassclaimModel.draw(I)I -/
def f_X4_draw_106 (k36 : Nat → Int32 → Nat → Int32 → Hp → Rt Int32) (k46 : Nat → Int32 → Nat → Int32 → Int32 → Hp → Rt Int32) (x0 : Nat) (x1 : Int32) (x2 : Nat) (x3 : Int32) (x4 : Int32) (h : Hp) : Rt Int32 :=
  vl (x4 + (1 : Int32)) fun v1 => k46 x0 x1 x2 x3 v1 h
def f_X4_draw_46 (k36 : Nat → Int32 → Nat → Int32 → Hp → Rt Int32) : Nat → Nat → Int32 → Nat → Int32 → Int32 → Hp → Rt Int32
  | 0, _, _, _, _, _, _ => none
  | n + 1, x0, x1, x2, x3, x4, h => gd (kC h x0 = 4) <| gd (kC h (kR h 302 x0) = 18) <| bd (f_J2_size (kR h 302 x0) h) fun v3 h4 => if v3 ≤ x4 then
  (vl (x3 + (1 : Int32)) fun v6 => k36 x0 x1 x2 v6 h4)
  else
  (gd (kC h4 x0 = 4) <| gd (kC h4 (kR h4 302 x0) = 18) <| bd (f_J2_get (kR h4 302 x0) x4 h4) fun v8 h9 => gd (v8 = 0 ∨ kC h9 v8 = 6) <| gd (kC h9 v8 = 6) <| if (kI h9 503 v8) = x3 then
  (if (kI h9 512 v8) = 0 then
  (gd (kC h9 x0 = 4) <| bd (f_X4_subclassOf x0 v8 h9) fun v13 h14 => if v13 = x1 then
  (gd (kC h14 x2 = 18) <| bd (f_J2_add x2 v8 h14) fun v16 h17 => f_X4_draw_106 k36 (f_X4_draw_46 k36 n) x0 x1 x2 x3 x4 h17)
  else
  (f_X4_draw_106 k36 (f_X4_draw_46 k36 n) x0 x1 x2 x3 x4 h14))
  else
  (f_X4_draw_106 k36 (f_X4_draw_46 k36 n) x0 x1 x2 x3 x4 h9))
  else
  (f_X4_draw_106 k36 (f_X4_draw_46 k36 n) x0 x1 x2 x3 x4 h9))
def f_X4_draw_36  : Nat → Nat → Int32 → Nat → Int32 → Hp → Rt Int32
  | 0, _, _, _, _, _ => none
  | n + 1, x0, x1, x2, x3, h => if (600 : Int32) < x3 then
  (gd (kC h x2 = 18) <| bd (f_J2_isEmpty x2 h) fun v19 h20 => if v19 = 0 then
  (gd (kC h20 x2 = 18) <| bd (f_J2_size x2 h20) fun v22 h23 => gd (kC h23 x2 = 18) <| bd (f_J2_get x2 ((v22 - (1 : Int32)) / (2 : Int32)) h23) fun v25 h26 => gd (v25 = 0 ∨ kC h26 v25 = 6) <| gd (kC h26 v25 = 6) <| vl (sI h26 512 v25 (1 : Int32)) fun h30 => gd (kC h30 x0 = 4) <| gd (kC h30 (kR h30 302 x0) = 18) <| bd (f_J2_indexOf (kR h30 302 x0) v25 h30) fun v32 h33 => some (.inl v32, h33))
  else
  (some (.inl (-1 : Int32), h20)))
  else
  (f_X4_draw_46 (f_X4_draw_36 n) FU x0 x1 x2 x3 (0 : Int32) h)
def f_X4_draw  (x0 : Nat) (x1 : Int32) (h : Hp) : Rt Int32 :=
  gd (kC h x0 = 4) <| gd (kC h (kR h 307 x0) = 18) <| bd (f_J2_size (kR h 307 x0) h) fun v36 h37 => bd (f_X4_isWithin (x1.toInt64) (0 : Int64) ((v36 - (1 : Int32)).toInt64) h37) fun v39 h40 => gd (kC h40 x0 = 4) <| bd (f_X4_isGood x0 v39 (1 : Int32) h40) fun v41 h42 => if v41 = 0 then
  (some (.inl (0 : Int32), h42))
  else
  (nw h42 18 3 fun q44 h45 => gd (kC h45 q44 = 18) <| bd (f_J2_init q44 h45) fun _ h47 => f_X4_draw_36 FU x0 x1 q44 (0 : Int32) h47)
theorem b_X4_draw_106 {rr : (Int32 ⊕ Ex) × Hp} {k36 : Nat → Int32 → Nat → Int32 → Hp → Rt Int32} {k46 : Nat → Int32 → Nat → Int32 → Int32 → Hp → Rt Int32} (C : CX p l R s m args meth c D Hs cX4_draw "MassclaimModel" 6 (some .int) [] 8 331) (K36 : ∀ (x0 : Nat) (x1 : Int32) (x2 : Nat) (x3 : Int32) (h : Hp) (H : Heap) (locs : List Loc) (cells slots : Nat) (ls : Array Slot), HP D Hs h H → LO Hs locs → lv_has ls 6 [(0, rv x0), (1, .int x1), (2, rv x2), (3, .int x3)] → k36 x0 x1 x2 x3 h = some rr → W p l e R s m args below meth c H locs cells slots (ZM D Hs iI rr below args s) (F0 m 36 ls [])) (K46 : ∀ (x0 : Nat) (x1 : Int32) (x2 : Nat) (x3 : Int32) (x4 : Int32) (h : Hp) (H : Heap) (locs : List Loc) (cells slots : Nat) (ls : Array Slot), HP D Hs h H → LO Hs locs → lv_has ls 6 [(0, rv x0), (1, .int x1), (2, rv x2), (3, .int x3), (4, .int x4)] → k46 x0 x1 x2 x3 x4 h = some rr → W p l e R s m args below meth c H locs cells slots (ZM D Hs iI rr below args s) (F0 m 46 ls [])) : ∀ (x0 : Nat) (x1 : Int32) (x2 : Nat) (x3 : Int32) (x4 : Int32) (h : Hp) (H : Heap) (locs : List Loc) (cells slots : Nat) (ls : Array Slot), HP D Hs h H → LO Hs locs → lv_has ls 6 [(0, rv x0), (1, .int x1), (2, rv x2), (3, .int x3), (4, .int x4)] → f_X4_draw_106 k36 k46 x0 x1 x2 x3 x4 h = some rr → W p l e R s m args below meth c H locs cells slots (ZM D Hs iI rr below args s) (F0 m 106 ls []) := by
  obtain ⟨⟨hx, hb, hml, hown, hts⟩, -⟩ := id C
  have hl9 := C.2.1.2.2.1
  intro x0 x1 x2 x3 x4 h H locs cells slots ls hH hL hl hrun
  unfold f_X4_draw_106 at hrun
  obtain ⟨v1, ev1⟩ : ∃ y : Int32, y = x4 + (1 : Int32) := ⟨_, rfl⟩
  have hrun := vl_at hrun v1 ev1
  refine lv_iinc (v := v1) (lv' := [(4, .int v1), (0, rv x0), (1, .int x1), (2, rv x2), (3, .int x3)]) (pc := 106) hx hb dX4_draw_106 hl (k := 4) rfl (by rw [ev1]; rfl) (by decide) (by first | rfl | simp [rv_cat, cat_i, cat_l, cat_f, cat_d]) (fun ls hl => ?_)
  refine lv_goto (tgt := 46) (pc := 109) hx hb dX4_draw_109 (by decide) ?_
  exact K46 x0 x1 x2 x3 v1 h H locs cells slots ls hH hL (lv_sub hl [1, 2, 3, 4, 0] rfl) hrun

theorem b_X4_draw_46 {rr : (Int32 ⊕ Ex) × Hp} {k36 : Nat → Int32 → Nat → Int32 → Hp → Rt Int32} (C : CX p l R s m args meth c D Hs cX4_draw "MassclaimModel" 6 (some .int) [] 8 331) (K36 : ∀ (x0 : Nat) (x1 : Int32) (x2 : Nat) (x3 : Int32) (h : Hp) (H : Heap) (locs : List Loc) (cells slots : Nat) (ls : Array Slot), HP D Hs h H → LO Hs locs → lv_has ls 6 [(0, rv x0), (1, .int x1), (2, rv x2), (3, .int x3)] → k36 x0 x1 x2 x3 h = some rr → W p l e R s m args below meth c H locs cells slots (ZM D Hs iI rr below args s) (F0 m 36 ls [])) : ∀ (n : Nat) (x0 : Nat) (x1 : Int32) (x2 : Nat) (x3 : Int32) (x4 : Int32) (h : Hp) (H : Heap) (locs : List Loc) (cells slots : Nat) (ls : Array Slot), HP D Hs h H → LO Hs locs → lv_has ls 6 [(0, rv x0), (1, .int x1), (2, rv x2), (3, .int x3), (4, .int x4)] → f_X4_draw_46 k36 n x0 x1 x2 x3 x4 h = some rr → W p l e R s m args below meth c H locs cells slots (ZM D Hs iI rr below args s) (F0 m 46 ls []) := by
  obtain ⟨⟨hx, hb, hml, hown, hts⟩, -⟩ := id C
  have hl9 := C.2.1.2.2.1
  intro n
  induction n with
  | zero =>
    intro x0 x1 x2 x3 x4 h H locs cells slots ls hH hL hl hrun
    cases (show (none : Option _) = some rr from hrun)
  | succ n ih =>
    intro x0 x1 x2 x3 x4 h H locs cells slots ls hH hL hl hrun
    rw [f_X4_draw_46] at hrun
    refine lv_iload (pc := 46) hx hb dX4_draw_46 (lv_at hl 4 rfl) ?_
    refine V_aload_n (pc := 48) hx hb dX4_draw_48 rfl (lv_at hl 0 rfl) ?_
    obtain ⟨c2, hrun⟩ := gd_some hrun
    refine V_getR (pc := 49) C hH fr_X4_16 dX4_draw_49 c2 rfl ?_
    obtain ⟨c5, hrun⟩ := gd_some hrun
    refine V_bd (pc := 52) C hL rfl hrun (fun rr1 e1 => Z_runV (rest := [.int x4]) C hH (m_J2_size hl9 e1) wV_X4_94 c5 rfl (by decide) rfl rfl ⟨by decide, by decide⟩ rfl (Nat.le_of_ble_eq_true rfl) hl.1 dX4_draw_52) (fun v3 h4 H locs cells slots hH hL hrun => ?_)
    refine lv_icmp_ge (tgt := 112) (pc := 55) hx hb dX4_draw_55 (by decide) (fun c_ => ?_) (fun c_ => ?_)
    · have hrun := ite_t hrun c_
      obtain ⟨v6, ev6⟩ : ∃ y : Int32, y = x3 + (1 : Int32) := ⟨_, rfl⟩
      have hrun := vl_at hrun v6 ev6
      refine lv_iinc (v := v6) (lv' := [(3, .int v6), (0, rv x0), (1, .int x1), (2, rv x2), (4, .int x4)]) (pc := 112) hx hb dX4_draw_112 hl (k := 3) rfl (by rw [ev6]; rfl) (by decide) (by first | rfl | simp [rv_cat, cat_i, cat_l, cat_f, cat_d]) (fun ls hl => ?_)
      refine lv_goto (tgt := 36) (pc := 115) hx hb dX4_draw_115 (by decide) ?_
      exact K36 x0 x1 x2 v6 h4 H locs cells slots ls hH hL (lv_sub hl [1, 2, 3, 0] rfl) hrun
    · have hrun := ite_f hrun c_
      refine V_aload_n (pc := 58) hx hb dX4_draw_58 rfl (lv_at hl 0 rfl) ?_
      obtain ⟨c7, hrun⟩ := gd_some hrun
      refine V_getR (pc := 59) C hH fr_X4_16 dX4_draw_59 c7 rfl ?_
      refine lv_iload (pc := 62) hx hb dX4_draw_62 (lv_at hl 4 rfl) ?_
      obtain ⟨c10, hrun⟩ := gd_some hrun
      refine V_bd (pc := 64) C hL rfl hrun (fun rr1 e1 => Z_runV (rest := []) C hH (m_J2_get hl9 e1) wV_X4_108 c10 rfl (by decide) rfl rfl ⟨by decide, by decide⟩ rfl (Nat.le_of_ble_eq_true rfl) hl.1 dX4_draw_64) (fun v8 h9 H locs cells slots hH hL hrun => ?_)
      obtain ⟨c11, hrun⟩ := gd_some hrun
      refine V_castX (pc := 67) (ci := 5) C hH rfl (by decide) q1946 dX4_draw_67 c11 ?_
      refine V_astore (i := 5) (lv' := [(5, rv v8), (0, rv x0), (1, .int x1), (2, rv x2), (3, .int x3), (4, .int x4)]) (pc := 70) hx hb dX4_draw_70 hl (by decide) rfl (fun ls hl => ?_)
      refine V_aload (pc := 72) hx hb dX4_draw_72 (lv_at hl 0 rfl) ?_
      obtain ⟨c12, hrun⟩ := gd_some hrun
      refine V_getI (pc := 74) C hH fr_X4_183 dX4_draw_74 c12 rfl ?_
      refine lv_iload_n (pc := 77) hx hb dX4_draw_77 rfl (lv_at hl 4 rfl) ?_
      refine lv_icmp_ne (tgt := 106) (pc := 78) hx hb dX4_draw_78 (by decide) (fun c_ => ?_) (fun c_ => ?_)
      · have hrun := ite_f hrun c_
        exact b_X4_draw_106 C K36 ih x0 x1 x2 x3 x4 h9 H locs cells slots ls hH hL (lv_sub hl [1, 2, 3, 4, 5] rfl) hrun
      · have hrun := ite_t hrun c_
        refine V_aload (pc := 81) hx hb dX4_draw_81 (lv_at hl 0 rfl) ?_
        refine V_getI (pc := 83) C hH fr_X4_278 dX4_draw_83 c12 rfl ?_
        refine lv_if_ne (tgt := 106) (pc := 86) hx hb dX4_draw_86 (by decide) (fun c_ => ?_) (fun c_ => ?_)
        · have hrun := ite_f hrun c_
          exact b_X4_draw_106 C K36 ih x0 x1 x2 x3 x4 h9 H locs cells slots ls hH hL (lv_sub hl [1, 2, 3, 4, 5] rfl) hrun
        · have hrun := ite_t hrun c_
          refine V_aload_n (pc := 89) hx hb dX4_draw_89 rfl (lv_at hl 1 rfl) ?_
          refine V_aload (pc := 90) hx hb dX4_draw_90 (lv_at hl 0 rfl) ?_
          obtain ⟨c15, hrun⟩ := gd_some hrun
          refine V_bd (pc := 92) C hL rfl hrun (fun rr1 e1 => Z_runV (rest := []) C hH (m_X4_subclassOf hl9 e1) wV_X4_241 c15 rfl (by decide) rfl rfl ⟨by decide, by decide⟩ rfl (Nat.le_of_ble_eq_true rfl) hl.1 dX4_draw_92) (fun v13 h14 H locs cells slots hH hL hrun => ?_)
          refine lv_iload_n (pc := 95) hx hb dX4_draw_95 rfl (lv_at hl 2 rfl) ?_
          refine lv_icmp_ne (tgt := 106) (pc := 96) hx hb dX4_draw_96 (by decide) (fun c_ => ?_) (fun c_ => ?_)
          · have hrun := ite_f hrun c_
            exact b_X4_draw_106 C K36 ih x0 x1 x2 x3 x4 h14 H locs cells slots ls hH hL (lv_sub hl [1, 2, 3, 4, 5] rfl) hrun
          · have hrun := ite_t hrun c_
            refine V_aload_n (pc := 99) hx hb dX4_draw_99 rfl (lv_at hl 3 rfl) ?_
            refine V_aload (pc := 100) hx hb dX4_draw_100 (lv_at hl 0 rfl) ?_
            obtain ⟨c18, hrun⟩ := gd_some hrun
            refine V_bd (pc := 102) C hL rfl hrun (fun rr1 e1 => Z_runV (rest := []) C hH (m_J2_add hl9 e1) wV_X4_186 c18 rfl (by decide) rfl rfl ⟨by decide, by decide⟩ rfl (Nat.le_of_ble_eq_true rfl) hl.1 dX4_draw_102) (fun v16 h17 H locs cells slots hH hL hrun => ?_)
            refine lv_pop (pc := 105) hx hb dX4_draw_105 rfl ?_
            exact b_X4_draw_106 C K36 ih x0 x1 x2 x3 x4 h17 H locs cells slots ls hH hL (lv_sub hl [1, 2, 3, 4, 5] rfl) hrun

theorem b_X4_draw_36 {rr : (Int32 ⊕ Ex) × Hp}  (C : CX p l R s m args meth c D Hs cX4_draw "MassclaimModel" 6 (some .int) [] 8 331)  : ∀ (n : Nat) (x0 : Nat) (x1 : Int32) (x2 : Nat) (x3 : Int32) (h : Hp) (H : Heap) (locs : List Loc) (cells slots : Nat) (ls : Array Slot), HP D Hs h H → LO Hs locs → lv_has ls 6 [(0, rv x0), (1, .int x1), (2, rv x2), (3, .int x3)] → f_X4_draw_36 n x0 x1 x2 x3 h = some rr → W p l e R s m args below meth c H locs cells slots (ZM D Hs iI rr below args s) (F0 m 36 ls []) := by
  obtain ⟨⟨hx, hb, hml, hown, hts⟩, -⟩ := id C
  have hl9 := C.2.1.2.2.1
  intro n
  induction n with
  | zero =>
    intro x0 x1 x2 x3 h H locs cells slots ls hH hL hl hrun
    cases (show (none : Option _) = some rr from hrun)
  | succ n ih =>
    intro x0 x1 x2 x3 h H locs cells slots ls hH hL hl hrun
    rw [f_X4_draw_36] at hrun
    refine lv_iload_n (pc := 36) hx hb dX4_draw_36 rfl (lv_at hl 3 rfl) ?_
    refine lv_sipush (v := (600 : Int32)) (pc := 37) hx hb dX4_draw_37 (by decide) ?_
    refine lv_icmp_gt (tgt := 118) (pc := 40) hx hb dX4_draw_40 (by decide) (fun c_ => ?_) (fun c_ => ?_)
    · have hrun := ite_t hrun c_
      refine V_aload_n (pc := 118) hx hb dX4_draw_118 rfl (lv_at hl 2 rfl) ?_
      obtain ⟨c21, hrun⟩ := gd_some hrun
      refine V_bd (pc := 119) C hL rfl hrun (fun rr1 e1 => Z_runV (rest := []) C hH (m_J2_isEmpty hl9 e1) wV_X4_281 c21 rfl (by decide) rfl rfl ⟨by decide, by decide⟩ rfl (Nat.le_of_ble_eq_true rfl) hl.1 dX4_draw_119) (fun v19 h20 H locs cells slots hH hL hrun => ?_)
      refine lv_if_eq (tgt := 127) (pc := 122) hx hb dX4_draw_122 (by decide) (fun c_ => ?_) (fun c_ => ?_)
      · have hrun := ite_t hrun c_
        refine V_aload_n (pc := 127) hx hb dX4_draw_127 rfl (lv_at hl 2 rfl) ?_
        refine V_aload_n (pc := 128) hx hb dX4_draw_128 rfl (lv_at hl 2 rfl) ?_
        obtain ⟨c24, hrun⟩ := gd_some hrun
        refine V_bd (pc := 129) C hL rfl hrun (fun rr1 e1 => Z_runV (rest := [rv x2]) C hH (m_J2_size hl9 e1) wV_X4_94 c24 rfl (by decide) rfl rfl ⟨by decide, by decide⟩ rfl (by simp [csum, rv_cat, cat_i, cat_l, cat_f, cat_d]) hl.1 dX4_draw_129) (fun v22 h23 H locs cells slots hH hL hrun => ?_)
        refine lv_iconst (v := (1 : Int32)) (pc := 132) hx hb dX4_draw_132 (by decide) ?_
        refine lv_isub (pc := 133) hx hb dX4_draw_133 ?_
        refine lv_iconst (v := (2 : Int32)) (pc := 134) hx hb dX4_draw_134 (by decide) ?_
        refine lv_idiv (pc := 135) hx hb dX4_draw_135 (by decide) ?_
        obtain ⟨c27, hrun⟩ := gd_some hrun
        refine V_bd (pc := 136) C hL rfl hrun (fun rr1 e1 => Z_runV (rest := []) C hH (m_J2_get hl9 e1) wV_X4_108 c27 rfl (by decide) rfl rfl ⟨by decide, by decide⟩ rfl (Nat.le_of_ble_eq_true rfl) hl.1 dX4_draw_136) (fun v25 h26 H locs cells slots hH hL hrun => ?_)
        obtain ⟨c28, hrun⟩ := gd_some hrun
        refine V_castX (pc := 139) (ci := 5) C hH rfl (by decide) q1946 dX4_draw_139 c28 ?_
        refine V_astore_n (i := 3) (lv' := [(3, rv v25), (0, rv x0), (1, .int x1), (2, rv x2)]) (pc := 142) hx hb dX4_draw_142 rfl hl (by decide) (by simp [rv_cat, cat_i, cat_l, cat_f, cat_d]) (fun ls hl => ?_)
        refine V_aload_n (pc := 143) hx hb dX4_draw_143 rfl (lv_at hl 0 rfl) ?_
        refine lv_iconst (v := (1 : Int32)) (pc := 144) hx hb dX4_draw_144 (by decide) ?_
        obtain ⟨c29, hrun⟩ := gd_some hrun
        refine V_putI (pc := 145) C hH hL fl_X4_278 dX4_draw_145 c29 (fok_z (Or.inr rfl)) rfl (fun q => Bool.noConfusion q) hrun (fun h30 H locs hH hL hrun => ?_)
        refine V_aload_n (pc := 148) hx hb dX4_draw_148 rfl (lv_at hl 1 rfl) ?_
        obtain ⟨c31, hrun⟩ := gd_some hrun
        refine V_getR (pc := 149) C hH fr_X4_16 dX4_draw_149 c31 rfl ?_
        refine V_aload_n (pc := 152) hx hb dX4_draw_152 rfl (lv_at hl 0 rfl) ?_
        obtain ⟨c34, hrun⟩ := gd_some hrun
        refine V_bd (pc := 153) C hL rfl hrun (fun rr1 e1 => Z_runV (rest := []) C hH (m_J2_indexOf hl9 e1) wV_X4_252 c34 rfl (by decide) rfl rfl ⟨by decide, by decide⟩ rfl (Nat.le_of_ble_eq_true rfl) hl.1 dX4_draw_153) (fun v32 h33 H locs cells slots hH hL hrun => ?_)
        exact V_iret (pc := 156) C hH hL hrun dX4_draw_156
      · have hrun := ite_f hrun c_
        refine lv_iconst (v := (-1 : Int32)) (pc := 125) hx hb dX4_draw_125 (by decide) ?_
        exact V_iret (pc := 126) C hH hL hrun dX4_draw_126
    · have hrun := ite_f hrun c_
      refine lv_iconst (v := (0 : Int32)) (pc := 43) hx hb dX4_draw_43 (by decide) ?_
      refine lv_istore (i := 4) (lv' := [(4, .int (0 : Int32)), (0, rv x0), (1, .int x1), (2, rv x2), (3, .int x3)]) (pc := 44) hx hb dX4_draw_44 hl (by decide) rfl (fun ls hl => ?_)
      exact b_X4_draw_46 C ih FU x0 x1 x2 x3 (0 : Int32) h H locs cells slots ls hH hL (lv_sub hl [1, 2, 3, 4, 0] rfl) hrun

theorem b_X4_draw {rr : (Int32 ⊕ Ex) × Hp}  (C : CX p l R s m args meth c D Hs cX4_draw "MassclaimModel" 6 (some .int) [] 8 331)  : ∀ (x0 : Nat) (x1 : Int32) (h : Hp) (H : Heap) (locs : List Loc) (cells slots : Nat) (ls : Array Slot), HP D Hs h H → LO Hs locs → lv_has ls 6 [(0, rv x0), (1, .int x1)] → f_X4_draw x0 x1 h = some rr → W p l e R s m args below meth c H locs cells slots (ZM D Hs iI rr below args s) (F0 m 0 ls []) := by
  obtain ⟨⟨hx, hb, hml, hown, hts⟩, -⟩ := id C
  have hl9 := C.2.1.2.2.1
  intro x0 x1 h H locs cells slots ls hH hL hl hrun
  unfold f_X4_draw at hrun
  refine V_aload_n (pc := 0) hx hb dX4_draw_0 rfl (lv_at hl 0 rfl) ?_
  refine lv_iload_n (pc := 1) hx hb dX4_draw_1 rfl (lv_at hl 1 rfl) ?_
  refine lv_i2l (pc := 2) hx hb dX4_draw_2 rfl ?_
  refine lv_lconst (v := (0 : Int64)) (pc := 3) hx hb dX4_draw_3 (by decide) ?_
  refine V_aload_n (pc := 4) hx hb dX4_draw_4 rfl (lv_at hl 0 rfl) ?_
  obtain ⟨c35, hrun⟩ := gd_some hrun
  refine V_getR (pc := 5) C hH fr_X4_20 dX4_draw_5 c35 rfl ?_
  obtain ⟨c38, hrun⟩ := gd_some hrun
  refine V_bd (pc := 8) C hL rfl hrun (fun rr1 e1 => Z_runV (rest := [.long (0 : Int64), .long (x1.toInt64), rv x0]) C hH (m_J2_size hl9 e1) wV_X4_94 c38 rfl (by decide) rfl rfl ⟨by decide, by decide⟩ rfl (by simp [csum, rv_cat, cat_i, cat_l, cat_f, cat_d]) hl.1 dX4_draw_8) (fun v36 h37 H locs cells slots hH hL hrun => ?_)
  refine lv_iconst (v := (1 : Int32)) (pc := 11) hx hb dX4_draw_11 (by decide) ?_
  refine lv_isub (pc := 12) hx hb dX4_draw_12 ?_
  refine lv_i2l (pc := 13) hx hb dX4_draw_13 rfl ?_
  refine V_bd (pc := 14) C hL rfl hrun (fun rr1 e1 => Z_runS (rest := [rv x0]) C hH (m_X4_isWithin hl9 e1) wS_X4_100 rfl ⟨by decide, by decide⟩ rfl (by simp [csum, rv_cat, cat_i, cat_l, cat_f, cat_d]) hl.1 dX4_draw_14) (fun v39 h40 H locs cells slots hH hL hrun => ?_)
  refine lv_iconst (v := (1 : Int32)) (pc := 17) hx hb dX4_draw_17 (by decide) ?_
  obtain ⟨c43, hrun⟩ := gd_some hrun
  refine V_bd (pc := 18) C hL rfl hrun (fun rr1 e1 => Z_runV (rest := []) C hH (m_X4_isGood hl9 e1) wV_X4_104 c43 rfl (by decide) rfl rfl ⟨by decide, by decide⟩ rfl (Nat.le_of_ble_eq_true rfl) hl.1 dX4_draw_18) (fun v41 h42 H locs cells slots hH hL hrun => ?_)
  refine lv_if_ne (tgt := 26) (pc := 21) hx hb dX4_draw_21 (by decide) (fun c_ => ?_) (fun c_ => ?_)
  · have hrun := ite_f hrun c_
    refine V_new (pc := 26) C hH nl_X4_13 dX4_draw_26 hrun (fun q44 h45 H cells slots hH hrun => ?_)
    refine lv_dup (pc := 29) hx hb dX4_draw_29 (rv_cat _) ?_
    obtain ⟨c48, hrun⟩ := gd_some hrun
    refine V_bd (pc := 30) C hL rfl hrun (fun rr1 e1 => Z_runI (rest := [rv q44]) C hH (m_J2_init hl9 e1) wI_X4_15 (hH.pos c48) rfl ⟨by decide, by decide⟩ rfl (by simp [csum, rv_cat, cat_i, cat_l, cat_f, cat_d]) hl.1 dX4_draw_30) (fun _ h47 H locs cells slots hH hL hrun => ?_)
    refine V_astore_n (i := 2) (lv' := [(2, rv q44), (0, rv x0), (1, .int x1)]) (pc := 33) hx hb dX4_draw_33 rfl hl (by decide) rfl (fun ls hl => ?_)
    refine lv_iconst (v := (0 : Int32)) (pc := 34) hx hb dX4_draw_34 (by decide) ?_
    refine lv_istore_n (i := 3) (lv' := [(3, .int (0 : Int32)), (2, rv q44), (0, rv x0), (1, .int x1)]) (pc := 35) hx hb dX4_draw_35 rfl hl (by decide) (by simp [rv_cat, cat_i, cat_l, cat_f, cat_d]) (fun ls hl => ?_)
    exact b_X4_draw_36 C FU x0 x1 q44 (0 : Int32) h47 H locs cells slots ls hH hL (lv_sub hl [2, 3, 1, 0] rfl) hrun
  · have hrun := ite_t hrun c_
    refine lv_iconst (v := (0 : Int32)) (pc := 24) hx hb dX4_draw_24 (by decide) ?_
    exact V_iret (pc := 25) C hH hL hrun dX4_draw_25

theorem m_X4_draw {l : Launch} {D : va_G} {Hs : Heap} {h : Hp} {rr : (Int32 ⊕ Ex) × Hp} (hl9 : l.stackTraces = false) {x0 : Nat} {x1 : Int32} (hrun : f_X4_draw x0 x1 h = some rr) : CM l yX4_draw (ws_ yX4_draw cX4_draw 6 (some .int)) 8 331 iI [rv x0, .int x1] D Hs h rr := by
  refine CM.of (lv := [(0, rv x0), (1, .int x1)]) (plainFor_of_name (by decide)) hl9 (by simp [lv_args, rv_cat, cat_i, cat_l, cat_f, cat_d]) (by simp [lg_sl, rv_cat, cat_i, cat_l, cat_f, cat_d]) ?_
  intro p e R s m args below meth c H ls C hH hl hin
  exact b_X4_draw C x0 x1 _ H [] _ _ ls hH (fun _ q => nomatch q) (lv_sub hl [0, 1] rfl) hrun

/-! Massclaim.offered(I)I -/
def f_X1_offered_38  (y0 : Int32) (h : Hp) : Rt Int32 :=
  some (.inl y0, h)
def f_X1_offered  (x0 : Nat) (x1 : Int32) (h : Hp) : Rt Int32 :=
  gd (kC h x0 = 1) <| gd (kC h (kR h 7 x0) = 101 ∧ ixo (x1 - (1 : Int32)) (kN h (kR h 7 x0))) <| vl (jI h (kR h 7 x0) ((x1 - (1 : Int32))).toNatClampNeg) fun v3 => if v3 = 0 then
  (gd (kC h (kR h 5 x0) = 104 ∧ ixo (x1 - (1 : Int32)) (kN h (kR h 5 x0))) <| gd (kC h (jR h (kR h 5 x0) ((x1 - (1 : Int32))).toNatClampNeg) = 101 ∧ ixo (1 : Int32) (kN h (jR h (kR h 5 x0) ((x1 - (1 : Int32))).toNatClampNeg))) <| f_X1_offered_38 (jI h (jR h (kR h 5 x0) ((x1 - (1 : Int32))).toNatClampNeg) ((1 : Int32)).toNatClampNeg) h)
  else
  (gd (kC h (kR h 6 x0) = 102 ∧ ixo (x1 - (1 : Int32)) (kN h (kR h 6 x0))) <| gd (¬ (v3.toInt64) = 0) <| f_X1_offered_38 (((jL h (kR h 6 x0) ((x1 - (1 : Int32))).toNatClampNeg) / (v3.toInt64)).toInt32) h)
theorem b_X1_offered_38 {rr : (Int32 ⊕ Ex) × Hp}  (C : CX p l R s m args meth c D Hs cX1_offered "Massclaim" 3 (some .int) [] 1 0)  : ∀ (y0 : Int32) (h : Hp) (H : Heap) (locs : List Loc) (cells slots : Nat) (ls : Array Slot), HP D Hs h H → LO Hs locs → lv_has ls 3 [] → f_X1_offered_38 y0 h = some rr → W p l e R s m args below meth c H locs cells slots (ZM D Hs iI rr below args s) (F0 m 38 ls [.int y0]) := by
  obtain ⟨⟨hx, hb, hml, hown, hts⟩, -⟩ := id C
  have hl9 := C.2.1.2.2.1
  intro y0 h H locs cells slots ls hH hL hl hrun
  unfold f_X1_offered_38 at hrun
  exact V_iret (pc := 38) C hH hL hrun dX1_offered_38

theorem b_X1_offered {rr : (Int32 ⊕ Ex) × Hp}  (C : CX p l R s m args meth c D Hs cX1_offered "Massclaim" 3 (some .int) [] 1 0)  : ∀ (x0 : Nat) (x1 : Int32) (h : Hp) (H : Heap) (locs : List Loc) (cells slots : Nat) (ls : Array Slot), HP D Hs h H → LO Hs locs → lv_has ls 3 [(0, rv x0), (1, .int x1)] → f_X1_offered x0 x1 h = some rr → W p l e R s m args below meth c H locs cells slots (ZM D Hs iI rr below args s) (F0 m 0 ls []) := by
  obtain ⟨⟨hx, hb, hml, hown, hts⟩, -⟩ := id C
  have hl9 := C.2.1.2.2.1
  intro x0 x1 h H locs cells slots ls hH hL hl hrun
  unfold f_X1_offered at hrun
  refine V_aload_n (pc := 0) hx hb dX1_offered_0 rfl (lv_at hl 0 rfl) ?_
  obtain ⟨c1, hrun⟩ := gd_some hrun
  refine V_getR (pc := 1) C hH fr_X1_67 dX1_offered_1 c1 rfl ?_
  refine lv_iload_n (pc := 4) hx hb dX1_offered_4 rfl (lv_at hl 1 rfl) ?_
  refine lv_iconst (v := (1 : Int32)) (pc := 5) hx hb dX1_offered_5 (by decide) ?_
  refine lv_isub (pc := 6) hx hb dX1_offered_6 ?_
  obtain ⟨c2, hrun⟩ := gd_some hrun
  refine V_iald (pc := 7) C hH dX1_offered_7 c2 ?_
  refine lv_topi (fun v3 ev3 => ?_)
  have hrun := vl_at hrun v3 ev3
  refine lv_istore_n (i := 2) (lv' := [(2, .int v3), (0, rv x0), (1, .int x1)]) (pc := 8) hx hb dX1_offered_8 rfl hl (by decide) rfl (fun ls hl => ?_)
  refine lv_iload_n (pc := 9) hx hb dX1_offered_9 rfl (lv_at hl 0 rfl) ?_
  refine lv_if_ne (tgt := 26) (pc := 10) hx hb dX1_offered_10 (by decide) (fun c_ => ?_) (fun c_ => ?_)
  · have hrun := ite_f hrun c_
    refine V_aload_n (pc := 26) hx hb dX1_offered_26 rfl (lv_at hl 1 rfl) ?_
    refine V_getR (pc := 27) C hH fr_X1_63 dX1_offered_27 c1 rfl ?_
    refine lv_iload_n (pc := 30) hx hb dX1_offered_30 rfl (lv_at hl 2 rfl) ?_
    refine lv_iconst (v := (1 : Int32)) (pc := 31) hx hb dX1_offered_31 (by decide) ?_
    refine lv_isub (pc := 32) hx hb dX1_offered_32 ?_
    obtain ⟨c4, hrun⟩ := gd_some hrun
    refine V_lald (pc := 33) C hH dX1_offered_33 c4 ?_
    refine lv_iload_n (pc := 34) hx hb dX1_offered_34 rfl (lv_at hl 0 rfl) ?_
    refine lv_i2l (pc := 35) hx hb dX1_offered_35 rfl ?_
    obtain ⟨c5, hrun⟩ := gd_some hrun
    refine lv_ldiv (pc := 36) hx hb dX1_offered_36 c5 ?_
    refine lv_l2i (pc := 37) hx hb dX1_offered_37 rfl ?_
    exact b_X1_offered_38 C (((jL h (kR h 6 x0) ((x1 - (1 : Int32))).toNatClampNeg) / (v3.toInt64)).toInt32) h H locs cells slots ls hH hL (lv_sub hl [] rfl) hrun
  · have hrun := ite_t hrun c_
    refine V_aload_n (pc := 13) hx hb dX1_offered_13 rfl (lv_at hl 1 rfl) ?_
    refine V_getR (pc := 14) C hH fr_X1_60 dX1_offered_14 c1 rfl ?_
    refine lv_iload_n (pc := 17) hx hb dX1_offered_17 rfl (lv_at hl 2 rfl) ?_
    refine lv_iconst (v := (1 : Int32)) (pc := 18) hx hb dX1_offered_18 (by decide) ?_
    refine lv_isub (pc := 19) hx hb dX1_offered_19 ?_
    obtain ⟨c6, hrun⟩ := gd_some hrun
    refine V_aald2 (pc := 20) C hH dX1_offered_20 c6 ?_
    refine lv_iconst (v := (1 : Int32)) (pc := 21) hx hb dX1_offered_21 (by decide) ?_
    obtain ⟨c7, hrun⟩ := gd_some hrun
    refine V_iald (pc := 22) C hH dX1_offered_22 c7 ?_
    refine lv_goto (tgt := 38) (pc := 23) hx hb dX1_offered_23 (by decide) ?_
    exact b_X1_offered_38 C (jI h (jR h (kR h 5 x0) ((x1 - (1 : Int32))).toNatClampNeg) ((1 : Int32)).toNatClampNeg) h H locs cells slots ls hH hL (lv_sub hl [] rfl) hrun

theorem m_X1_offered {l : Launch} {D : va_G} {Hs : Heap} {h : Hp} {rr : (Int32 ⊕ Ex) × Hp} (hl9 : l.stackTraces = false) {x0 : Nat} {x1 : Int32} (hrun : f_X1_offered x0 x1 h = some rr) : CM l yX1_offered (ws_ yX1_offered cX1_offered 3 (some .int)) 1 0 iI [rv x0, .int x1] D Hs h rr := by
  refine CM.of (lv := [(0, rv x0), (1, .int x1)]) (plainFor_of_name (by decide)) hl9 (by simp [lv_args, rv_cat, cat_i, cat_l, cat_f, cat_d]) (by simp [lg_sl, rv_cat, cat_i, cat_l, cat_f, cat_d]) ?_
  intro p e R s m args below meth c H ls C hH hl hin
  exact b_X1_offered C x0 x1 _ H [] _ _ ls hH (fun _ q => nomatch q) (lv_sub hl [0, 1] rfl) hrun

/-! Massclaim.verdict(II)I -/
def f_X1_verdict_50  (x0 : Nat) (x2 : Int32) (x3 : Nat) (y0 : Int32) (h : Hp) : Rt Int32 :=
  bd (f_X1_requireState y0 h) fun _ h2 => gd (kC h2 x3 = 5) <| vl (sI h2 412 x3 (1 : Int32)) fun h4 => gd (kC h4 x0 = 1) <| gd (kC h4 x3 = 5) <| gd (kC h4 (kR h4 6 x0) = 102 ∧ ixo ((kI h4 405 x3) - (1 : Int32)) (kN h4 (kR h4 6 x0))) <| gd (kC h4 (kR h4 6 x0) = 102 ∧ ixo ((kI h4 405 x3) - (1 : Int32)) (kN h4 (kR h4 6 x0))) <| vl (tL h4 (kR h4 6 x0) (((kI h4 405 x3) - (1 : Int32))).toNatClampNeg ((jL h4 (kR h4 6 x0) (((kI h4 405 x3) - (1 : Int32))).toNatClampNeg) + (x2.toInt64))) fun h9 => gd (kC h9 x0 = 1) <| gd (kC h9 x3 = 5) <| gd (kC h9 (kR h9 7 x0) = 101 ∧ ixo ((kI h9 405 x3) - (1 : Int32)) (kN h9 (kR h9 7 x0))) <| gd (kC h9 (kR h9 7 x0) = 101 ∧ ixo ((kI h9 405 x3) - (1 : Int32)) (kN h9 (kR h9 7 x0))) <| vl (tI h9 (kR h9 7 x0) (((kI h9 405 x3) - (1 : Int32))).toNatClampNeg ((jI h9 (kR h9 7 x0) (((kI h9 405 x3) - (1 : Int32))).toNatClampNeg) + (1 : Int32))) fun h14 => gd (kC h14 x3 = 5) <| gd (kC h14 x0 = 1) <| bd (f_X1_offered x0 (kI h14 405 x3) h14) fun v16 h17 => some (.inl v16, h17)
def f_X1_verdict_49  (x0 : Nat) (x2 : Int32) (x3 : Nat) (h : Hp) : Rt Int32 :=
  f_X1_verdict_50 x0 x2 x3 (0 : Int32) h
def f_X1_verdict  (x0 : Nat) (x1 : Int32) (x2 : Int32) (h : Hp) : Rt Int32 :=
  gd (kC h x0 = 1) <| gd (kC h (kR h 0 x0) = 2) <| bd (f_X2_at (kR h 0 x0) x1 h) fun v20 h21 => gd (v20 = 0 ∨ kC h21 v20 = 5) <| bd (f_X1_isIn (x2.toInt64) (0 : Int64) (10000000 : Int64) h21) fun v24 h25 => bd (f_X1_requireArgument v24 h25) fun _ h27 => gd (kC h27 v20 = 5) <| if (kI h27 411 v20) = 0 then
  (f_X1_verdict_49 x0 x2 v20 h27)
  else
  (if (kI h27 412 v20) = 0 then
  (if (kI h27 405 v20) ≤ 0 then
  (f_X1_verdict_49 x0 x2 v20 h27)
  else
  (f_X1_verdict_50 x0 x2 v20 (1 : Int32) h27))
  else
  (f_X1_verdict_49 x0 x2 v20 h27))
theorem b_X1_verdict_50 {rr : (Int32 ⊕ Ex) × Hp}  (C : CX p l R s m args meth c D Hs cX1_verdict "Massclaim" 4 (some .int) [] 8 131)  : ∀ (x0 : Nat) (x2 : Int32) (x3 : Nat) (y0 : Int32) (h : Hp) (H : Heap) (locs : List Loc) (cells slots : Nat) (ls : Array Slot), HP D Hs h H → LO Hs locs → lv_has ls 4 [(0, rv x0), (2, .int x2), (3, rv x3)] → f_X1_verdict_50 x0 x2 x3 y0 h = some rr → W p l e R s m args below meth c H locs cells slots (ZM D Hs iI rr below args s) (F0 m 50 ls [.int y0]) := by
  obtain ⟨⟨hx, hb, hml, hown, hts⟩, -⟩ := id C
  have hl9 := C.2.1.2.2.1
  intro x0 x2 x3 y0 h H locs cells slots ls hH hL hl hrun
  unfold f_X1_verdict_50 at hrun
  refine V_bd (pc := 50) C hL rfl hrun (fun rr1 e1 => Z_runS (rest := []) C hH (m_X1_requireState hl9 e1) wS_X1_182 rfl ⟨by decide, by decide⟩ rfl (Nat.le_of_ble_eq_true rfl) hl.1 dX1_verdict_50) (fun _ h2 H locs cells slots hH hL hrun => ?_)
  refine V_aload_n (pc := 53) hx hb dX1_verdict_53 rfl (lv_at hl 2 rfl) ?_
  refine lv_iconst (v := (1 : Int32)) (pc := 54) hx hb dX1_verdict_54 (by decide) ?_
  obtain ⟨c3, hrun⟩ := gd_some hrun
  refine V_putNI (pc := 55) C hH hL fn_X1_302 dX1_verdict_55 c3 (fok_z (Or.inr rfl)) rfl hrun (fun h4 H locs hH hL hrun => ?_)
  refine V_aload_n (pc := 58) hx hb dX1_verdict_58 rfl (lv_at hl 0 rfl) ?_
  obtain ⟨c5, hrun⟩ := gd_some hrun
  refine V_getR (pc := 59) C hH fr_X1_63 dX1_verdict_59 c5 rfl ?_
  refine V_aload_n (pc := 62) hx hb dX1_verdict_62 rfl (lv_at hl 2 rfl) ?_
  obtain ⟨c6, hrun⟩ := gd_some hrun
  refine V_getNI (pc := 63) C hH fn_X1_145 dX1_verdict_63 c6 rfl ?_
  refine lv_iconst (v := (1 : Int32)) (pc := 66) hx hb dX1_verdict_66 (by decide) ?_
  refine lv_isub (pc := 67) hx hb dX1_verdict_67 ?_
  refine lv_dup2_11 (pc := 68) hx hb dX1_verdict_68 rfl (rv_cat _) ?_
  obtain ⟨c7, hrun⟩ := gd_some hrun
  refine V_lald (pc := 69) C hH dX1_verdict_69 c7 ?_
  refine lv_iload_n (pc := 70) hx hb dX1_verdict_70 rfl (lv_at hl 1 rfl) ?_
  refine lv_i2l (pc := 71) hx hb dX1_verdict_71 rfl ?_
  refine lv_ladd (pc := 72) hx hb dX1_verdict_72 ?_
  obtain ⟨c8, hrun⟩ := gd_some hrun
  refine V_last (pc := 73) C hH hL dX1_verdict_73 c8 hrun (fun h9 H locs hH hL hrun => ?_)
  refine V_aload_n (pc := 74) hx hb dX1_verdict_74 rfl (lv_at hl 0 rfl) ?_
  obtain ⟨c10, hrun⟩ := gd_some hrun
  refine V_getR (pc := 75) C hH fr_X1_67 dX1_verdict_75 c10 rfl ?_
  refine V_aload_n (pc := 78) hx hb dX1_verdict_78 rfl (lv_at hl 2 rfl) ?_
  obtain ⟨c11, hrun⟩ := gd_some hrun
  refine V_getNI (pc := 79) C hH fn_X1_145 dX1_verdict_79 c11 rfl ?_
  refine lv_iconst (v := (1 : Int32)) (pc := 82) hx hb dX1_verdict_82 (by decide) ?_
  refine lv_isub (pc := 83) hx hb dX1_verdict_83 ?_
  refine lv_dup2_11 (pc := 84) hx hb dX1_verdict_84 rfl (rv_cat _) ?_
  obtain ⟨c12, hrun⟩ := gd_some hrun
  refine V_iald (pc := 85) C hH dX1_verdict_85 c12 ?_
  refine lv_iconst (v := (1 : Int32)) (pc := 86) hx hb dX1_verdict_86 (by decide) ?_
  refine lv_iadd (pc := 87) hx hb dX1_verdict_87 ?_
  obtain ⟨c13, hrun⟩ := gd_some hrun
  refine V_iast (pc := 88) C hH hL dX1_verdict_88 c13 hrun (fun h14 H locs hH hL hrun => ?_)
  refine V_aload_n (pc := 89) hx hb dX1_verdict_89 rfl (lv_at hl 0 rfl) ?_
  refine V_aload_n (pc := 90) hx hb dX1_verdict_90 rfl (lv_at hl 2 rfl) ?_
  obtain ⟨c15, hrun⟩ := gd_some hrun
  refine V_getNI (pc := 91) C hH fn_X1_145 dX1_verdict_91 c15 rfl ?_
  obtain ⟨c18, hrun⟩ := gd_some hrun
  refine V_bd (pc := 94) C hL rfl hrun (fun rr1 e1 => Z_runV (rest := []) C hH (m_X1_offered hl9 e1) wV_X1_305 c18 rfl (by decide) rfl rfl ⟨by decide, by decide⟩ rfl (Nat.le_of_ble_eq_true rfl) hl.1 dX1_verdict_94) (fun v16 h17 H locs cells slots hH hL hrun => ?_)
  exact V_iret (pc := 97) C hH hL hrun dX1_verdict_97

theorem b_X1_verdict_49 {rr : (Int32 ⊕ Ex) × Hp}  (C : CX p l R s m args meth c D Hs cX1_verdict "Massclaim" 4 (some .int) [] 8 131)  : ∀ (x0 : Nat) (x2 : Int32) (x3 : Nat) (h : Hp) (H : Heap) (locs : List Loc) (cells slots : Nat) (ls : Array Slot), HP D Hs h H → LO Hs locs → lv_has ls 4 [(0, rv x0), (2, .int x2), (3, rv x3)] → f_X1_verdict_49 x0 x2 x3 h = some rr → W p l e R s m args below meth c H locs cells slots (ZM D Hs iI rr below args s) (F0 m 49 ls []) := by
  obtain ⟨⟨hx, hb, hml, hown, hts⟩, -⟩ := id C
  have hl9 := C.2.1.2.2.1
  intro x0 x2 x3 h H locs cells slots ls hH hL hl hrun
  unfold f_X1_verdict_49 at hrun
  refine lv_iconst (v := (0 : Int32)) (pc := 49) hx hb dX1_verdict_49 (by decide) ?_
  exact b_X1_verdict_50 C x0 x2 x3 (0 : Int32) h H locs cells slots ls hH hL (lv_sub hl [0, 1, 2] rfl) hrun

theorem b_X1_verdict {rr : (Int32 ⊕ Ex) × Hp}  (C : CX p l R s m args meth c D Hs cX1_verdict "Massclaim" 4 (some .int) [] 8 131)  : ∀ (x0 : Nat) (x1 : Int32) (x2 : Int32) (h : Hp) (H : Heap) (locs : List Loc) (cells slots : Nat) (ls : Array Slot), HP D Hs h H → LO Hs locs → lv_has ls 4 [(0, rv x0), (1, .int x1), (2, .int x2)] → f_X1_verdict x0 x1 x2 h = some rr → W p l e R s m args below meth c H locs cells slots (ZM D Hs iI rr below args s) (F0 m 0 ls []) := by
  obtain ⟨⟨hx, hb, hml, hown, hts⟩, -⟩ := id C
  have hl9 := C.2.1.2.2.1
  intro x0 x1 x2 h H locs cells slots ls hH hL hl hrun
  unfold f_X1_verdict at hrun
  refine V_aload_n (pc := 0) hx hb dX1_verdict_0 rfl (lv_at hl 0 rfl) ?_
  obtain ⟨c19, hrun⟩ := gd_some hrun
  refine V_getR (pc := 1) C hH fr_X1_42 dX1_verdict_1 c19 rfl ?_
  refine lv_iload_n (pc := 4) hx hb dX1_verdict_4 rfl (lv_at hl 1 rfl) ?_
  obtain ⟨c22, hrun⟩ := gd_some hrun
  refine V_bd (pc := 5) C hL rfl hrun (fun rr1 e1 => Z_runV (rest := []) C hH (m_X2_at hl9 e1) wV_X1_136 c22 rfl (by decide) rfl rfl ⟨by decide, by decide⟩ rfl (Nat.le_of_ble_eq_true rfl) hl.1 dX1_verdict_5) (fun v20 h21 H locs cells slots hH hL hrun => ?_)
  obtain ⟨c23, hrun⟩ := gd_some hrun
  refine V_castX (pc := 8) (ci := 4) C hH rfl (by decide) q376 dX1_verdict_8 c23 ?_
  refine V_astore_n (i := 3) (lv' := [(3, rv v20), (0, rv x0), (1, .int x1), (2, .int x2)]) (pc := 11) hx hb dX1_verdict_11 rfl hl (by decide) rfl (fun ls hl => ?_)
  refine lv_iload_n (pc := 12) hx hb dX1_verdict_12 rfl (lv_at hl 3 rfl) ?_
  refine lv_i2l (pc := 13) hx hb dX1_verdict_13 rfl ?_
  refine lv_lconst (v := (0 : Int64)) (pc := 14) hx hb dX1_verdict_14 (by decide) ?_
  refine lv_ldc2 (pc := 15) hx hb hown (hts _ q1302) dX1_verdict_15 ?_
  refine V_bd (pc := 18) C hL rfl hrun (fun rr1 e1 => Z_runS (rest := []) C hH (m_X1_isIn hl9 e1) wS_X1_127 rfl ⟨by decide, by decide⟩ rfl (Nat.le_of_ble_eq_true rfl) hl.1 dX1_verdict_18) (fun v24 h25 H locs cells slots hH hL hrun => ?_)
  refine V_bd (pc := 21) C hL rfl hrun (fun rr1 e1 => Z_runS (rest := []) C hH (m_X1_requireArgument hl9 e1) wS_X1_131 rfl ⟨by decide, by decide⟩ rfl (Nat.le_of_ble_eq_true rfl) hl.1 dX1_verdict_21) (fun _ h27 H locs cells slots hH hL hrun => ?_)
  refine V_aload_n (pc := 24) hx hb dX1_verdict_24 rfl (lv_at hl 0 rfl) ?_
  obtain ⟨c28, hrun⟩ := gd_some hrun
  refine V_getNI (pc := 25) C hH fn_X1_287 dX1_verdict_25 c28 rfl ?_
  refine lv_if_eq (tgt := 49) (pc := 28) hx hb dX1_verdict_28 (by decide) (fun c_ => ?_) (fun c_ => ?_)
  · have hrun := ite_t hrun c_
    exact b_X1_verdict_49 C x0 x2 v20 h27 H locs cells slots ls hH hL (lv_sub hl [1, 3, 0] rfl) hrun
  · have hrun := ite_f hrun c_
    refine V_aload_n (pc := 31) hx hb dX1_verdict_31 rfl (lv_at hl 0 rfl) ?_
    refine V_getNI (pc := 32) C hH fn_X1_302 dX1_verdict_32 c28 rfl ?_
    refine lv_if_ne (tgt := 49) (pc := 35) hx hb dX1_verdict_35 (by decide) (fun c_ => ?_) (fun c_ => ?_)
    · have hrun := ite_f hrun c_
      exact b_X1_verdict_49 C x0 x2 v20 h27 H locs cells slots ls hH hL (lv_sub hl [1, 3, 0] rfl) hrun
    · have hrun := ite_t hrun c_
      refine V_aload_n (pc := 38) hx hb dX1_verdict_38 rfl (lv_at hl 0 rfl) ?_
      refine V_getNI (pc := 39) C hH fn_X1_145 dX1_verdict_39 c28 rfl ?_
      refine lv_if_le (tgt := 49) (pc := 42) hx hb dX1_verdict_42 (by decide) (fun c_ => ?_) (fun c_ => ?_)
      · have hrun := ite_t hrun c_
        exact b_X1_verdict_49 C x0 x2 v20 h27 H locs cells slots ls hH hL (lv_sub hl [1, 3, 0] rfl) hrun
      · have hrun := ite_f hrun c_
        refine lv_iconst (v := (1 : Int32)) (pc := 45) hx hb dX1_verdict_45 (by decide) ?_
        refine lv_goto (tgt := 50) (pc := 46) hx hb dX1_verdict_46 (by decide) ?_
        exact b_X1_verdict_50 C x0 x2 v20 (1 : Int32) h27 H locs cells slots ls hH hL (lv_sub hl [1, 3, 0] rfl) hrun

theorem m_X1_verdict {l : Launch} {D : va_G} {Hs : Heap} {h : Hp} {rr : (Int32 ⊕ Ex) × Hp} (hl9 : l.stackTraces = false) {x0 : Nat} {x1 : Int32} {x2 : Int32} (hrun : f_X1_verdict x0 x1 x2 h = some rr) : CM l yX1_verdict (ws_ yX1_verdict cX1_verdict 4 (some .int)) 8 131 iI [rv x0, .int x1, .int x2] D Hs h rr := by
  refine CM.of (lv := [(0, rv x0), (1, .int x1), (2, .int x2)]) (plainFor_of_name (by decide)) hl9 (by simp [lv_args, rv_cat, cat_i, cat_l, cat_f, cat_d]) (by simp [lg_sl, rv_cat, cat_i, cat_l, cat_f, cat_d]) ?_
  intro p e R s m args below meth c H ls C hH hl hin
  exact b_X1_verdict C x0 x1 x2 _ H [] _ _ ls hH (fun _ q => nomatch q) (lv_sub hl [0, 1, 2] rfl) hrun

/-! MassclaimLaw.verdict(LMassclaim;II[J)I -/
def f_X0_verdict_13  (y0 : Nat) (h : Hp) : Rt Int32 :=
  some (.inl (1 : Int32), h)
def f_X0_verdict_17  (y0 : Nat) (h : Hp) : Rt Int32 :=
  some (.inl (2 : Int32), h)
def f_X0_verdict_21  (y0 : Nat) (h : Hp) : Rt Int32 :=
  some (.inl (3 : Int32), h)
def f_X0_verdict  (x0 : Nat) (x1 : Int32) (x2 : Int32) (x3 : Nat) (h : Hp) : Rt Int32 :=
  gd (kC h x0 = 1) <| bdH (f_X1_verdict x0 x1 x2 h)
  (fun v1 h2 => gd (kC h2 x3 = 102 ∧ ixo (0 : Int32) (kN h2 x3)) <| vl (tL h2 x3 ((0 : Int32)).toNatClampNeg (v1.toInt64)) fun h5 => some (.inl (0 : Int32), h5))
  (fun ex6 h7 => if ex6.1 = 901 then
  (f_X0_verdict_13 ex6.2 h7)
  else
  if ex6.1 = 902 then
  (f_X0_verdict_17 ex6.2 h7)
  else
  if ex6.1 = 903 then
  (f_X0_verdict_21 ex6.2 h7)
  else
  none)
theorem b_X0_verdict_13 {rr : (Int32 ⊕ Ex) × Hp}  (C : CX p l R s m args meth c D Hs cX0_verdict "MassclaimLaw" 5 (some .int) [(0, 10, 13, 25), (0, 10, 17, 13), (0, 10, 21, 19)] 9 154)  : ∀ (y0 : Nat) (h : Hp) (H : Heap) (locs : List Loc) (cells slots : Nat) (ls : Array Slot), HP D Hs h H → LO Hs locs → lv_has ls 5 [] → f_X0_verdict_13 y0 h = some rr → W p l e R s m args below meth c H locs cells slots (ZM D Hs iI rr below args s) (F0 m 13 ls [rv y0]) := by
  obtain ⟨⟨hx, hb, hml, hown, hts⟩, -⟩ := id C
  have hl9 := C.2.1.2.2.1
  intro y0 h H locs cells slots ls hH hL hl hrun
  unfold f_X0_verdict_13 at hrun
  refine V_astore (i := 4) (lv' := [(4, rv y0)]) (pc := 13) hx hb dX0_verdict_13 hl (by decide) rfl (fun ls hl => ?_)
  refine lv_iconst (v := (1 : Int32)) (pc := 15) hx hb dX0_verdict_15 (by decide) ?_
  exact V_iret (pc := 16) C hH hL hrun dX0_verdict_16

theorem b_X0_verdict_17 {rr : (Int32 ⊕ Ex) × Hp}  (C : CX p l R s m args meth c D Hs cX0_verdict "MassclaimLaw" 5 (some .int) [(0, 10, 13, 25), (0, 10, 17, 13), (0, 10, 21, 19)] 9 154)  : ∀ (y0 : Nat) (h : Hp) (H : Heap) (locs : List Loc) (cells slots : Nat) (ls : Array Slot), HP D Hs h H → LO Hs locs → lv_has ls 5 [] → f_X0_verdict_17 y0 h = some rr → W p l e R s m args below meth c H locs cells slots (ZM D Hs iI rr below args s) (F0 m 17 ls [rv y0]) := by
  obtain ⟨⟨hx, hb, hml, hown, hts⟩, -⟩ := id C
  have hl9 := C.2.1.2.2.1
  intro y0 h H locs cells slots ls hH hL hl hrun
  unfold f_X0_verdict_17 at hrun
  refine V_astore (i := 4) (lv' := [(4, rv y0)]) (pc := 17) hx hb dX0_verdict_17 hl (by decide) rfl (fun ls hl => ?_)
  refine lv_iconst (v := (2 : Int32)) (pc := 19) hx hb dX0_verdict_19 (by decide) ?_
  exact V_iret (pc := 20) C hH hL hrun dX0_verdict_20

theorem b_X0_verdict_21 {rr : (Int32 ⊕ Ex) × Hp}  (C : CX p l R s m args meth c D Hs cX0_verdict "MassclaimLaw" 5 (some .int) [(0, 10, 13, 25), (0, 10, 17, 13), (0, 10, 21, 19)] 9 154)  : ∀ (y0 : Nat) (h : Hp) (H : Heap) (locs : List Loc) (cells slots : Nat) (ls : Array Slot), HP D Hs h H → LO Hs locs → lv_has ls 5 [] → f_X0_verdict_21 y0 h = some rr → W p l e R s m args below meth c H locs cells slots (ZM D Hs iI rr below args s) (F0 m 21 ls [rv y0]) := by
  obtain ⟨⟨hx, hb, hml, hown, hts⟩, -⟩ := id C
  have hl9 := C.2.1.2.2.1
  intro y0 h H locs cells slots ls hH hL hl hrun
  unfold f_X0_verdict_21 at hrun
  refine V_astore (i := 4) (lv' := [(4, rv y0)]) (pc := 21) hx hb dX0_verdict_21 hl (by decide) rfl (fun ls hl => ?_)
  refine lv_iconst (v := (3 : Int32)) (pc := 23) hx hb dX0_verdict_23 (by decide) ?_
  exact V_iret (pc := 24) C hH hL hrun dX0_verdict_24

theorem b_X0_verdict {rr : (Int32 ⊕ Ex) × Hp}  (C : CX p l R s m args meth c D Hs cX0_verdict "MassclaimLaw" 5 (some .int) [(0, 10, 13, 25), (0, 10, 17, 13), (0, 10, 21, 19)] 9 154)  : ∀ (x0 : Nat) (x1 : Int32) (x2 : Int32) (x3 : Nat) (h : Hp) (H : Heap) (locs : List Loc) (cells slots : Nat) (ls : Array Slot), HP D Hs h H → LO Hs locs → lv_has ls 5 [(0, rv x0), (1, .int x1), (2, .int x2), (3, rv x3)] → f_X0_verdict x0 x1 x2 x3 h = some rr → W p l e R s m args below meth c H locs cells slots (ZM D Hs iI rr below args s) (F0 m 0 ls []) := by
  obtain ⟨⟨hx, hb, hml, hown, hts⟩, -⟩ := id C
  have hl9 := C.2.1.2.2.1
  intro x0 x1 x2 x3 h H locs cells slots ls hH hL hl hrun
  unfold f_X0_verdict at hrun
  refine V_aload_n (pc := 0) hx hb dX0_verdict_0 rfl (lv_at hl 3 rfl) ?_
  refine lv_iconst (v := (0 : Int32)) (pc := 1) hx hb dX0_verdict_1 (by decide) ?_
  refine V_aload_n (pc := 2) hx hb dX0_verdict_2 rfl (lv_at hl 0 rfl) ?_
  refine lv_iload_n (pc := 3) hx hb dX0_verdict_3 rfl (lv_at hl 1 rfl) ?_
  refine lv_iload_n (pc := 4) hx hb dX0_verdict_4 rfl (lv_at hl 2 rfl) ?_
  obtain ⟨c3, hrun⟩ := gd_some hrun
  refine V_bdH (pc := 5) hL hrun (fun rr1 e1 => Z_runV (rest := [.int (0 : Int32), rv x3]) C hH (m_X1_verdict hl9 e1) wV_X0_65 c3 rfl (by decide) rfl rfl ⟨by decide, by decide⟩ rfl (by simp [csum, rv_cat, cat_i, cat_l, cat_f, cat_d]) hl.1 dX0_verdict_5) (fun v1 h2 H locs cells slots hH hL hrun => ?_) (fun x_ q_ ce_ h7 H locs cells slots hH hL hrun hc_ hv_ hcl_ => ?_)
  · refine lv_i2l (pc := 8) hx hb dX0_verdict_8 rfl ?_
    obtain ⟨c4, hrun⟩ := gd_some hrun
    refine V_last (pc := 9) C hH hL dX0_verdict_9 c4 hrun (fun h5 H locs hH hL hrun => ?_)
    refine lv_goto (tgt := 25) (pc := 10) hx hb dX0_verdict_10 (by decide) ?_
    refine lv_iconst (v := (0 : Int32)) (pc := 25) hx hb dX0_verdict_25 (by decide) ?_
    exact V_iret (pc := 26) C hH hL hrun dX0_verdict_26
  · by_cases n901 : x_ = 901
    · subst n901
      have hrun := ite_t hrun rfl
      refine vx_catch (E := "java/lang/IndexOutOfBoundsException") (name := "java/lang/IndexOutOfBoundsException") hown (tableOf []) ⟨0, 10, 13, 25⟩ (tableOf [(0, 10, 17, 13), (0, 10, 21, 19)]) (by rw [C.2.1.2.2.2.2]; rfl) (fun z hz => nomatch hz) (by decide) (by decide) (hts _ q829) (va_Nw.use rfl (C.2.1.2.2.2.1.2.1 _ q537 rfl)) hc_ hv_ hcl_ ?_
      exact b_X0_verdict_13 C (q_ + 1) h7 H locs cells slots ls hH hL (lv_sub hl [] rfl) hrun
    have hrun := ite_f hrun n901
    by_cases n902 : x_ = 902
    · subst n902
      have hrun := ite_t hrun rfl
      refine vx_catch (E := "java/lang/IllegalArgumentException") (name := "java/lang/IllegalArgumentException") hown (tableOf [(0, 10, 13, 25)]) ⟨0, 10, 17, 13⟩ (tableOf [(0, 10, 21, 19)]) (by rw [C.2.1.2.2.2.2]; rfl) (fun z hz => by simp only [tableOf, List.map, List.mem_cons, List.not_mem_nil, or_false] at hz; rcases hz with rfl <;> first | exact Or.inr ⟨by decide, "java/lang/IndexOutOfBoundsException", hts _ q829, nc_at C (by decide)⟩) (by decide) (by decide) (hts _ q449) (va_Nw.use rfl (C.2.1.2.2.2.1.2.1 _ q463 rfl)) hc_ hv_ hcl_ ?_
      exact b_X0_verdict_17 C (q_ + 1) h7 H locs cells slots ls hH hL (lv_sub hl [] rfl) hrun
    have hrun := ite_f hrun n902
    by_cases n903 : x_ = 903
    · subst n903
      have hrun := ite_t hrun rfl
      refine vx_catch (E := "java/lang/IllegalStateException") (name := "java/lang/IllegalStateException") hown (tableOf [(0, 10, 13, 25), (0, 10, 17, 13)]) ⟨0, 10, 21, 19⟩ (tableOf []) (by rw [C.2.1.2.2.2.2]; rfl) (fun z hz => by simp only [tableOf, List.map, List.mem_cons, List.not_mem_nil, or_false] at hz; rcases hz with rfl | rfl <;> first | exact Or.inr ⟨by decide, "java/lang/IndexOutOfBoundsException", hts _ q829, nc_at C (by decide)⟩ | exact Or.inr ⟨by decide, "java/lang/IllegalArgumentException", hts _ q449, nc_at C (by decide)⟩) (by decide) (by decide) (hts _ q585) (va_Nw.use rfl (C.2.1.2.2.2.1.2.1 _ q702 rfl)) hc_ hv_ hcl_ ?_
      exact b_X0_verdict_21 C (q_ + 1) h7 H locs cells slots ls hH hL (lv_sub hl [] rfl) hrun
    have hrun := ite_f hrun n903
    cases hrun

theorem m_X0_verdict {l : Launch} {D : va_G} {Hs : Heap} {h : Hp} {rr : (Int32 ⊕ Ex) × Hp} (hl9 : l.stackTraces = false) {x0 : Nat} {x1 : Int32} {x2 : Int32} {x3 : Nat} (hrun : f_X0_verdict x0 x1 x2 x3 h = some rr) : CM l yX0_verdict (wsW_ yX0_verdict cX0_verdict 5 (some .int) [(0, 10, 13, 25), (0, 10, 17, 13), (0, 10, 21, 19)]) 9 154 iI [rv x0, .int x1, .int x2, rv x3] D Hs h rr := by
  refine CM.ofH (lv := [(0, rv x0), (1, .int x1), (2, .int x2), (3, rv x3)]) (plainFor_of_name (by decide)) hl9 (by simp [lv_args, rv_cat, cat_i, cat_l, cat_f, cat_d]) (by simp [lg_sl, rv_cat, cat_i, cat_l, cat_f, cat_d]) ?_
  intro p e R s m args below meth c H ls C hH hl hin
  exact b_X0_verdict C x0 x1 x2 x3 _ H [] _ _ ls hH (fun _ q => nomatch q) (lv_sub hl [0, 1, 2, 3] rfl) hrun

/-! MassclaimModel.offerOf(I)I -/
def f_X4_offerOf_124  (y0 : Int32) (h : Hp) : Rt Int32 :=
  some (.inl y0, h)
def f_X4_offerOf_89 (k8 : Nat → Int32 → Int64 → Int32 → Int32 → Hp → Rt Int32) (x0 : Nat) (x1 : Int32) (x2 : Int64) (x5 : Int32) (y0 : Int32) (y1 : Int32) (h : Hp) : Rt Int32 :=
  vl (y0 + y1) fun v1 => vl (x5 + (1 : Int32)) fun v2 => k8 x0 x1 x2 v1 v2 h
def f_X4_offerOf_75 (k8 : Nat → Int32 → Int64 → Int32 → Int32 → Hp → Rt Int32) (x0 : Nat) (x1 : Int32) (x4 : Int32) (x5 : Int32) (x7 : Int32) (y0 : Int64) (y1 : Int64) (h : Hp) : Rt Int32 :=
  vl (y0 + y1) fun v3 => if x7 = 0 then
  (f_X4_offerOf_89 k8 x0 x1 v3 x5 x4 (0 : Int32) h)
  else
  (f_X4_offerOf_89 k8 x0 x1 v3 x5 x4 (1 : Int32) h)
def f_X4_offerOf_57 (k8 : Nat → Int32 → Int64 → Int32 → Int32 → Hp → Rt Int32) (x0 : Nat) (x1 : Int32) (x2 : Int64) (x4 : Int32) (x5 : Int32) (x6 : Nat) (y0 : Int32) (h : Hp) : Rt Int32 :=
  if y0 = 0 then
  (f_X4_offerOf_75 k8 x0 x1 x4 x5 y0 x2 (0 : Int64) h)
  else
  (gd (kC h x6 = 6) <| f_X4_offerOf_75 k8 x0 x1 x4 x5 y0 x2 ((kI h 513 x6).toInt64) h)
def f_X4_offerOf_56 (k8 : Nat → Int32 → Int64 → Int32 → Int32 → Hp → Rt Int32) (x0 : Nat) (x1 : Int32) (x2 : Int64) (x4 : Int32) (x5 : Int32) (x6 : Nat) (h : Hp) : Rt Int32 :=
  f_X4_offerOf_57 k8 x0 x1 x2 x4 x5 x6 (0 : Int32) h
def f_X4_offerOf_8  : Nat → Nat → Int32 → Int64 → Int32 → Int32 → Hp → Rt Int32
  | 0, _, _, _, _, _, _ => none
  | n + 1, x0, x1, x2, x4, x5, h => gd (kC h x0 = 4) <| gd (kC h (kR h 302 x0) = 18) <| bd (f_J2_size (kR h 302 x0) h) fun v6 h7 => if v6 ≤ x5 then
  (if x4 = 0 then
  (gd (kC h7 x0 = 4) <| gd (kC h7 (kR h7 315 x0) = 101 ∧ ixo (((4 : Int32) * (x1 - (1 : Int32))) + (1 : Int32)) (kN h7 (kR h7 315 x0))) <| f_X4_offerOf_124 (jI h7 (kR h7 315 x0) ((((4 : Int32) * (x1 - (1 : Int32))) + (1 : Int32))).toNatClampNeg) h7)
  else
  (gd (¬ (x4.toInt64) = 0) <| f_X4_offerOf_124 ((x2 / (x4.toInt64)).toInt32) h7))
  else
  (gd (kC h7 x0 = 4) <| gd (kC h7 (kR h7 302 x0) = 18) <| bd (f_J2_get (kR h7 302 x0) x5 h7) fun v13 h14 => gd (v13 = 0 ∨ kC h14 v13 = 6) <| gd (kC h14 v13 = 6) <| if (kI h14 513 v13) = (-1 : Int32) then
  (f_X4_offerOf_56 (f_X4_offerOf_8 n) x0 x1 x2 x4 x5 v13 h14)
  else
  (if (kI h14 514 v13) = x1 then
  (f_X4_offerOf_57 (f_X4_offerOf_8 n) x0 x1 x2 x4 x5 v13 (1 : Int32) h14)
  else
  (f_X4_offerOf_56 (f_X4_offerOf_8 n) x0 x1 x2 x4 x5 v13 h14)))
def f_X4_offerOf  (x0 : Nat) (x1 : Int32) (h : Hp) : Rt Int32 :=
  f_X4_offerOf_8 FU x0 x1 (0 : Int64) (0 : Int32) (0 : Int32) h
theorem b_X4_offerOf_124 {rr : (Int32 ⊕ Ex) × Hp}  (C : CX p l R s m args meth c D Hs cX4_offerOf "MassclaimModel" 8 (some .int) [] 4 64)  : ∀ (y0 : Int32) (h : Hp) (H : Heap) (locs : List Loc) (cells slots : Nat) (ls : Array Slot), HP D Hs h H → LO Hs locs → lv_has ls 8 [] → f_X4_offerOf_124 y0 h = some rr → W p l e R s m args below meth c H locs cells slots (ZM D Hs iI rr below args s) (F0 m 124 ls [.int y0]) := by
  obtain ⟨⟨hx, hb, hml, hown, hts⟩, -⟩ := id C
  have hl9 := C.2.1.2.2.1
  intro y0 h H locs cells slots ls hH hL hl hrun
  unfold f_X4_offerOf_124 at hrun
  exact V_iret (pc := 124) C hH hL hrun dX4_offerOf_124

theorem b_X4_offerOf_89 {rr : (Int32 ⊕ Ex) × Hp} {k8 : Nat → Int32 → Int64 → Int32 → Int32 → Hp → Rt Int32} (C : CX p l R s m args meth c D Hs cX4_offerOf "MassclaimModel" 8 (some .int) [] 4 64) (K8 : ∀ (x0 : Nat) (x1 : Int32) (x2 : Int64) (x4 : Int32) (x5 : Int32) (h : Hp) (H : Heap) (locs : List Loc) (cells slots : Nat) (ls : Array Slot), HP D Hs h H → LO Hs locs → lv_has ls 8 [(0, rv x0), (1, .int x1), (2, .long x2), (4, .int x4), (5, .int x5)] → k8 x0 x1 x2 x4 x5 h = some rr → W p l e R s m args below meth c H locs cells slots (ZM D Hs iI rr below args s) (F0 m 8 ls [])) : ∀ (x0 : Nat) (x1 : Int32) (x2 : Int64) (x5 : Int32) (y0 : Int32) (y1 : Int32) (h : Hp) (H : Heap) (locs : List Loc) (cells slots : Nat) (ls : Array Slot), HP D Hs h H → LO Hs locs → lv_has ls 8 [(0, rv x0), (1, .int x1), (2, .long x2), (5, .int x5)] → f_X4_offerOf_89 k8 x0 x1 x2 x5 y0 y1 h = some rr → W p l e R s m args below meth c H locs cells slots (ZM D Hs iI rr below args s) (F0 m 89 ls [.int y1, .int y0]) := by
  obtain ⟨⟨hx, hb, hml, hown, hts⟩, -⟩ := id C
  have hl9 := C.2.1.2.2.1
  intro x0 x1 x2 x5 y0 y1 h H locs cells slots ls hH hL hl hrun
  unfold f_X4_offerOf_89 at hrun
  refine lv_iadd (pc := 89) hx hb dX4_offerOf_89 ?_
  refine lv_topi (fun v1 ev1 => ?_)
  have hrun := vl_at hrun v1 ev1
  refine lv_istore (i := 4) (lv' := [(4, .int v1), (0, rv x0), (1, .int x1), (2, .long x2), (5, .int x5)]) (pc := 90) hx hb dX4_offerOf_90 hl (by decide) rfl (fun ls hl => ?_)
  obtain ⟨v2, ev2⟩ : ∃ y : Int32, y = x5 + (1 : Int32) := ⟨_, rfl⟩
  have hrun := vl_at hrun v2 ev2
  refine lv_iinc (v := v2) (lv' := [(5, .int v2), (4, .int v1), (0, rv x0), (1, .int x1), (2, .long x2)]) (pc := 92) hx hb dX4_offerOf_92 hl (k := 4) rfl (by rw [ev2]; rfl) (by decide) (by first | rfl | simp [rv_cat, cat_i, cat_l, cat_f, cat_d]) (fun ls hl => ?_)
  refine lv_goto (tgt := 8) (pc := 95) hx hb dX4_offerOf_95 (by decide) ?_
  exact K8 x0 x1 x2 v1 v2 h H locs cells slots ls hH hL (lv_sub hl [2, 3, 4, 1, 0] rfl) hrun

theorem b_X4_offerOf_75 {rr : (Int32 ⊕ Ex) × Hp} {k8 : Nat → Int32 → Int64 → Int32 → Int32 → Hp → Rt Int32} (C : CX p l R s m args meth c D Hs cX4_offerOf "MassclaimModel" 8 (some .int) [] 4 64) (K8 : ∀ (x0 : Nat) (x1 : Int32) (x2 : Int64) (x4 : Int32) (x5 : Int32) (h : Hp) (H : Heap) (locs : List Loc) (cells slots : Nat) (ls : Array Slot), HP D Hs h H → LO Hs locs → lv_has ls 8 [(0, rv x0), (1, .int x1), (2, .long x2), (4, .int x4), (5, .int x5)] → k8 x0 x1 x2 x4 x5 h = some rr → W p l e R s m args below meth c H locs cells slots (ZM D Hs iI rr below args s) (F0 m 8 ls [])) : ∀ (x0 : Nat) (x1 : Int32) (x4 : Int32) (x5 : Int32) (x7 : Int32) (y0 : Int64) (y1 : Int64) (h : Hp) (H : Heap) (locs : List Loc) (cells slots : Nat) (ls : Array Slot), HP D Hs h H → LO Hs locs → lv_has ls 8 [(0, rv x0), (1, .int x1), (4, .int x4), (5, .int x5), (7, .int x7)] → f_X4_offerOf_75 k8 x0 x1 x4 x5 x7 y0 y1 h = some rr → W p l e R s m args below meth c H locs cells slots (ZM D Hs iI rr below args s) (F0 m 75 ls [.long y1, .long y0]) := by
  obtain ⟨⟨hx, hb, hml, hown, hts⟩, -⟩ := id C
  have hl9 := C.2.1.2.2.1
  intro x0 x1 x4 x5 x7 y0 y1 h H locs cells slots ls hH hL hl hrun
  unfold f_X4_offerOf_75 at hrun
  refine lv_ladd (pc := 75) hx hb dX4_offerOf_75 ?_
  refine lv_topl (fun v3 ev3 => ?_)
  have hrun := vl_at hrun v3 ev3
  refine lv_lstore_n (i := 2) (lv' := [(2, .long v3), (0, rv x0), (1, .int x1), (4, .int x4), (5, .int x5), (7, .int x7)]) (pc := 76) hx hb dX4_offerOf_76 rfl hl (by decide) rfl (fun ls hl => ?_)
  refine lv_iload (pc := 77) hx hb dX4_offerOf_77 (lv_at hl 3 rfl) ?_
  refine lv_iload (pc := 79) hx hb dX4_offerOf_79 (lv_at hl 5 rfl) ?_
  refine lv_if_eq (tgt := 88) (pc := 81) hx hb dX4_offerOf_81 (by decide) (fun c_ => ?_) (fun c_ => ?_)
  · have hrun := ite_t hrun c_
    refine lv_iconst (v := (0 : Int32)) (pc := 88) hx hb dX4_offerOf_88 (by decide) ?_
    exact b_X4_offerOf_89 C K8 x0 x1 v3 x5 x4 (0 : Int32) h H locs cells slots ls hH hL (lv_sub hl [1, 2, 0, 4] rfl) hrun
  · have hrun := ite_f hrun c_
    refine lv_iconst (v := (1 : Int32)) (pc := 84) hx hb dX4_offerOf_84 (by decide) ?_
    refine lv_goto (tgt := 89) (pc := 85) hx hb dX4_offerOf_85 (by decide) ?_
    exact b_X4_offerOf_89 C K8 x0 x1 v3 x5 x4 (1 : Int32) h H locs cells slots ls hH hL (lv_sub hl [1, 2, 0, 4] rfl) hrun

theorem b_X4_offerOf_57 {rr : (Int32 ⊕ Ex) × Hp} {k8 : Nat → Int32 → Int64 → Int32 → Int32 → Hp → Rt Int32} (C : CX p l R s m args meth c D Hs cX4_offerOf "MassclaimModel" 8 (some .int) [] 4 64) (K8 : ∀ (x0 : Nat) (x1 : Int32) (x2 : Int64) (x4 : Int32) (x5 : Int32) (h : Hp) (H : Heap) (locs : List Loc) (cells slots : Nat) (ls : Array Slot), HP D Hs h H → LO Hs locs → lv_has ls 8 [(0, rv x0), (1, .int x1), (2, .long x2), (4, .int x4), (5, .int x5)] → k8 x0 x1 x2 x4 x5 h = some rr → W p l e R s m args below meth c H locs cells slots (ZM D Hs iI rr below args s) (F0 m 8 ls [])) : ∀ (x0 : Nat) (x1 : Int32) (x2 : Int64) (x4 : Int32) (x5 : Int32) (x6 : Nat) (y0 : Int32) (h : Hp) (H : Heap) (locs : List Loc) (cells slots : Nat) (ls : Array Slot), HP D Hs h H → LO Hs locs → lv_has ls 8 [(0, rv x0), (1, .int x1), (2, .long x2), (4, .int x4), (5, .int x5), (6, rv x6)] → f_X4_offerOf_57 k8 x0 x1 x2 x4 x5 x6 y0 h = some rr → W p l e R s m args below meth c H locs cells slots (ZM D Hs iI rr below args s) (F0 m 57 ls [.int y0]) := by
  obtain ⟨⟨hx, hb, hml, hown, hts⟩, -⟩ := id C
  have hl9 := C.2.1.2.2.1
  intro x0 x1 x2 x4 x5 x6 y0 h H locs cells slots ls hH hL hl hrun
  unfold f_X4_offerOf_57 at hrun
  refine lv_istore (i := 7) (lv' := [(7, .int y0), (0, rv x0), (1, .int x1), (2, .long x2), (4, .int x4), (5, .int x5), (6, rv x6)]) (pc := 57) hx hb dX4_offerOf_57 hl (by decide) (by simp [rv_cat, cat_i, cat_l, cat_f, cat_d]) (fun ls hl => ?_)
  refine lv_lload_n (pc := 59) hx hb dX4_offerOf_59 rfl (lv_at hl 3 rfl) ?_
  refine lv_iload (pc := 60) hx hb dX4_offerOf_60 (lv_at hl 0 rfl) ?_
  refine lv_if_eq (tgt := 74) (pc := 62) hx hb dX4_offerOf_62 (by decide) (fun c_ => ?_) (fun c_ => ?_)
  · have hrun := ite_t hrun c_
    refine lv_lconst (v := (0 : Int64)) (pc := 74) hx hb dX4_offerOf_74 (by decide) ?_
    exact b_X4_offerOf_75 C K8 x0 x1 x4 x5 y0 x2 (0 : Int64) h H locs cells slots ls hH hL (lv_sub hl [1, 2, 4, 5, 0] rfl) hrun
  · have hrun := ite_f hrun c_
    refine V_aload (pc := 65) hx hb dX4_offerOf_65 (lv_at hl 6 rfl) ?_
    obtain ⟨c4, hrun⟩ := gd_some hrun
    refine V_getI (pc := 67) C hH fr_X4_284 dX4_offerOf_67 c4 rfl ?_
    refine lv_i2l (pc := 70) hx hb dX4_offerOf_70 rfl ?_
    refine lv_goto (tgt := 75) (pc := 71) hx hb dX4_offerOf_71 (by decide) ?_
    exact b_X4_offerOf_75 C K8 x0 x1 x4 x5 y0 x2 ((kI h 513 x6).toInt64) h H locs cells slots ls hH hL (lv_sub hl [1, 2, 4, 5, 0] rfl) hrun

theorem b_X4_offerOf_56 {rr : (Int32 ⊕ Ex) × Hp} {k8 : Nat → Int32 → Int64 → Int32 → Int32 → Hp → Rt Int32} (C : CX p l R s m args meth c D Hs cX4_offerOf "MassclaimModel" 8 (some .int) [] 4 64) (K8 : ∀ (x0 : Nat) (x1 : Int32) (x2 : Int64) (x4 : Int32) (x5 : Int32) (h : Hp) (H : Heap) (locs : List Loc) (cells slots : Nat) (ls : Array Slot), HP D Hs h H → LO Hs locs → lv_has ls 8 [(0, rv x0), (1, .int x1), (2, .long x2), (4, .int x4), (5, .int x5)] → k8 x0 x1 x2 x4 x5 h = some rr → W p l e R s m args below meth c H locs cells slots (ZM D Hs iI rr below args s) (F0 m 8 ls [])) : ∀ (x0 : Nat) (x1 : Int32) (x2 : Int64) (x4 : Int32) (x5 : Int32) (x6 : Nat) (h : Hp) (H : Heap) (locs : List Loc) (cells slots : Nat) (ls : Array Slot), HP D Hs h H → LO Hs locs → lv_has ls 8 [(0, rv x0), (1, .int x1), (2, .long x2), (4, .int x4), (5, .int x5), (6, rv x6)] → f_X4_offerOf_56 k8 x0 x1 x2 x4 x5 x6 h = some rr → W p l e R s m args below meth c H locs cells slots (ZM D Hs iI rr below args s) (F0 m 56 ls []) := by
  obtain ⟨⟨hx, hb, hml, hown, hts⟩, -⟩ := id C
  have hl9 := C.2.1.2.2.1
  intro x0 x1 x2 x4 x5 x6 h H locs cells slots ls hH hL hl hrun
  unfold f_X4_offerOf_56 at hrun
  refine lv_iconst (v := (0 : Int32)) (pc := 56) hx hb dX4_offerOf_56 (by decide) ?_
  exact b_X4_offerOf_57 C K8 x0 x1 x2 x4 x5 x6 (0 : Int32) h H locs cells slots ls hH hL (lv_sub hl [0, 1, 2, 3, 4, 5] rfl) hrun

theorem b_X4_offerOf_8 {rr : (Int32 ⊕ Ex) × Hp}  (C : CX p l R s m args meth c D Hs cX4_offerOf "MassclaimModel" 8 (some .int) [] 4 64)  : ∀ (n : Nat) (x0 : Nat) (x1 : Int32) (x2 : Int64) (x4 : Int32) (x5 : Int32) (h : Hp) (H : Heap) (locs : List Loc) (cells slots : Nat) (ls : Array Slot), HP D Hs h H → LO Hs locs → lv_has ls 8 [(0, rv x0), (1, .int x1), (2, .long x2), (4, .int x4), (5, .int x5)] → f_X4_offerOf_8 n x0 x1 x2 x4 x5 h = some rr → W p l e R s m args below meth c H locs cells slots (ZM D Hs iI rr below args s) (F0 m 8 ls []) := by
  obtain ⟨⟨hx, hb, hml, hown, hts⟩, -⟩ := id C
  have hl9 := C.2.1.2.2.1
  intro n
  induction n with
  | zero =>
    intro x0 x1 x2 x4 x5 h H locs cells slots ls hH hL hl hrun
    cases (show (none : Option _) = some rr from hrun)
  | succ n ih =>
    intro x0 x1 x2 x4 x5 h H locs cells slots ls hH hL hl hrun
    rw [f_X4_offerOf_8] at hrun
    refine lv_iload (pc := 8) hx hb dX4_offerOf_8 (lv_at hl 4 rfl) ?_
    refine V_aload_n (pc := 10) hx hb dX4_offerOf_10 rfl (lv_at hl 0 rfl) ?_
    obtain ⟨c5, hrun⟩ := gd_some hrun
    refine V_getR (pc := 11) C hH fr_X4_16 dX4_offerOf_11 c5 rfl ?_
    obtain ⟨c8, hrun⟩ := gd_some hrun
    refine V_bd (pc := 14) C hL rfl hrun (fun rr1 e1 => Z_runV (rest := [.int x5]) C hH (m_J2_size hl9 e1) wV_X4_94 c8 rfl (by decide) rfl rfl ⟨by decide, by decide⟩ rfl (Nat.le_of_ble_eq_true rfl) hl.1 dX4_offerOf_14) (fun v6 h7 H locs cells slots hH hL hrun => ?_)
    refine lv_icmp_ge (tgt := 98) (pc := 17) hx hb dX4_offerOf_17 (by decide) (fun c_ => ?_) (fun c_ => ?_)
    · have hrun := ite_t hrun c_
      refine lv_iload (pc := 98) hx hb dX4_offerOf_98 (lv_at hl 3 rfl) ?_
      refine lv_if_ne (tgt := 118) (pc := 100) hx hb dX4_offerOf_100 (by decide) (fun c_ => ?_) (fun c_ => ?_)
      · have hrun := ite_f hrun c_
        refine lv_lload_n (pc := 118) hx hb dX4_offerOf_118 rfl (lv_at hl 2 rfl) ?_
        refine lv_iload (pc := 119) hx hb dX4_offerOf_119 (lv_at hl 3 rfl) ?_
        refine lv_i2l (pc := 121) hx hb dX4_offerOf_121 rfl ?_
        obtain ⟨c9, hrun⟩ := gd_some hrun
        refine lv_ldiv (pc := 122) hx hb dX4_offerOf_122 c9 ?_
        refine lv_l2i (pc := 123) hx hb dX4_offerOf_123 rfl ?_
        exact b_X4_offerOf_124 C ((x2 / (x4.toInt64)).toInt32) h7 H locs cells slots ls hH hL (lv_sub hl [] rfl) hrun
      · have hrun := ite_t hrun c_
        refine V_aload_n (pc := 103) hx hb dX4_offerOf_103 rfl (lv_at hl 0 rfl) ?_
        obtain ⟨c10, hrun⟩ := gd_some hrun
        refine V_getR (pc := 104) C hH fr_X4_26 dX4_offerOf_104 c10 rfl ?_
        refine lv_iconst (v := (4 : Int32)) (pc := 107) hx hb dX4_offerOf_107 (by decide) ?_
        refine lv_iload_n (pc := 108) hx hb dX4_offerOf_108 rfl (lv_at hl 1 rfl) ?_
        refine lv_iconst (v := (1 : Int32)) (pc := 109) hx hb dX4_offerOf_109 (by decide) ?_
        refine lv_isub (pc := 110) hx hb dX4_offerOf_110 ?_
        refine lv_imul (pc := 111) hx hb dX4_offerOf_111 ?_
        refine lv_iconst (v := (1 : Int32)) (pc := 112) hx hb dX4_offerOf_112 (by decide) ?_
        refine lv_iadd (pc := 113) hx hb dX4_offerOf_113 ?_
        obtain ⟨c11, hrun⟩ := gd_some hrun
        refine V_iald (pc := 114) C hH dX4_offerOf_114 c11 ?_
        refine lv_goto (tgt := 124) (pc := 115) hx hb dX4_offerOf_115 (by decide) ?_
        exact b_X4_offerOf_124 C (jI h7 (kR h7 315 x0) ((((4 : Int32) * (x1 - (1 : Int32))) + (1 : Int32))).toNatClampNeg) h7 H locs cells slots ls hH hL (lv_sub hl [] rfl) hrun
    · have hrun := ite_f hrun c_
      refine V_aload_n (pc := 20) hx hb dX4_offerOf_20 rfl (lv_at hl 0 rfl) ?_
      obtain ⟨c12, hrun⟩ := gd_some hrun
      refine V_getR (pc := 21) C hH fr_X4_16 dX4_offerOf_21 c12 rfl ?_
      refine lv_iload (pc := 24) hx hb dX4_offerOf_24 (lv_at hl 4 rfl) ?_
      obtain ⟨c15, hrun⟩ := gd_some hrun
      refine V_bd (pc := 26) C hL rfl hrun (fun rr1 e1 => Z_runV (rest := []) C hH (m_J2_get hl9 e1) wV_X4_108 c15 rfl (by decide) rfl rfl ⟨by decide, by decide⟩ rfl (Nat.le_of_ble_eq_true rfl) hl.1 dX4_offerOf_26) (fun v13 h14 H locs cells slots hH hL hrun => ?_)
      obtain ⟨c16, hrun⟩ := gd_some hrun
      refine V_castX (pc := 29) (ci := 5) C hH rfl (by decide) q1946 dX4_offerOf_29 c16 ?_
      refine V_astore (i := 6) (lv' := [(6, rv v13), (0, rv x0), (1, .int x1), (2, .long x2), (4, .int x4), (5, .int x5)]) (pc := 32) hx hb dX4_offerOf_32 hl (by decide) rfl (fun ls hl => ?_)
      refine V_aload (pc := 34) hx hb dX4_offerOf_34 (lv_at hl 0 rfl) ?_
      obtain ⟨c17, hrun⟩ := gd_some hrun
      refine V_getI (pc := 36) C hH fr_X4_284 dX4_offerOf_36 c17 rfl ?_
      refine lv_iconst (v := (-1 : Int32)) (pc := 39) hx hb dX4_offerOf_39 (by decide) ?_
      refine lv_icmp_eq (tgt := 56) (pc := 40) hx hb dX4_offerOf_40 (by decide) (fun c_ => ?_) (fun c_ => ?_)
      · have hrun := ite_t hrun c_
        exact b_X4_offerOf_56 C ih x0 x1 x2 x4 x5 v13 h14 H locs cells slots ls hH hL (lv_sub hl [1, 2, 3, 4, 5, 0] rfl) hrun
      · have hrun := ite_f hrun c_
        refine V_aload (pc := 43) hx hb dX4_offerOf_43 (lv_at hl 0 rfl) ?_
        refine V_getI (pc := 45) C hH fr_X4_287 dX4_offerOf_45 c17 rfl ?_
        refine lv_iload_n (pc := 48) hx hb dX4_offerOf_48 rfl (lv_at hl 2 rfl) ?_
        refine lv_icmp_ne (tgt := 56) (pc := 49) hx hb dX4_offerOf_49 (by decide) (fun c_ => ?_) (fun c_ => ?_)
        · have hrun := ite_f hrun c_
          exact b_X4_offerOf_56 C ih x0 x1 x2 x4 x5 v13 h14 H locs cells slots ls hH hL (lv_sub hl [1, 2, 3, 4, 5, 0] rfl) hrun
        · have hrun := ite_t hrun c_
          refine lv_iconst (v := (1 : Int32)) (pc := 52) hx hb dX4_offerOf_52 (by decide) ?_
          refine lv_goto (tgt := 57) (pc := 53) hx hb dX4_offerOf_53 (by decide) ?_
          exact b_X4_offerOf_57 C ih x0 x1 x2 x4 x5 v13 (1 : Int32) h14 H locs cells slots ls hH hL (lv_sub hl [1, 2, 3, 4, 5, 0] rfl) hrun

theorem b_X4_offerOf {rr : (Int32 ⊕ Ex) × Hp}  (C : CX p l R s m args meth c D Hs cX4_offerOf "MassclaimModel" 8 (some .int) [] 4 64)  : ∀ (x0 : Nat) (x1 : Int32) (h : Hp) (H : Heap) (locs : List Loc) (cells slots : Nat) (ls : Array Slot), HP D Hs h H → LO Hs locs → lv_has ls 8 [(0, rv x0), (1, .int x1)] → f_X4_offerOf x0 x1 h = some rr → W p l e R s m args below meth c H locs cells slots (ZM D Hs iI rr below args s) (F0 m 0 ls []) := by
  obtain ⟨⟨hx, hb, hml, hown, hts⟩, -⟩ := id C
  have hl9 := C.2.1.2.2.1
  intro x0 x1 h H locs cells slots ls hH hL hl hrun
  unfold f_X4_offerOf at hrun
  refine lv_lconst (v := (0 : Int64)) (pc := 0) hx hb dX4_offerOf_0 (by decide) ?_
  refine lv_lstore_n (i := 2) (lv' := [(2, .long (0 : Int64)), (0, rv x0), (1, .int x1)]) (pc := 1) hx hb dX4_offerOf_1 rfl hl (by decide) rfl (fun ls hl => ?_)
  refine lv_iconst (v := (0 : Int32)) (pc := 2) hx hb dX4_offerOf_2 (by decide) ?_
  refine lv_istore (i := 4) (lv' := [(4, .int (0 : Int32)), (2, .long (0 : Int64)), (0, rv x0), (1, .int x1)]) (pc := 3) hx hb dX4_offerOf_3 hl (by decide) rfl (fun ls hl => ?_)
  refine lv_iconst (v := (0 : Int32)) (pc := 5) hx hb dX4_offerOf_5 (by decide) ?_
  refine lv_istore (i := 5) (lv' := [(5, .int (0 : Int32)), (4, .int (0 : Int32)), (2, .long (0 : Int64)), (0, rv x0), (1, .int x1)]) (pc := 6) hx hb dX4_offerOf_6 hl (by decide) rfl (fun ls hl => ?_)
  exact b_X4_offerOf_8 C FU x0 x1 (0 : Int64) (0 : Int32) (0 : Int32) h H locs cells slots ls hH hL (lv_sub hl [3, 4, 2, 1, 0] rfl) hrun

theorem m_X4_offerOf {l : Launch} {D : va_G} {Hs : Heap} {h : Hp} {rr : (Int32 ⊕ Ex) × Hp} (hl9 : l.stackTraces = false) {x0 : Nat} {x1 : Int32} (hrun : f_X4_offerOf x0 x1 h = some rr) : CM l yX4_offerOf (ws_ yX4_offerOf cX4_offerOf 8 (some .int)) 4 64 iI [rv x0, .int x1] D Hs h rr := by
  refine CM.of (lv := [(0, rv x0), (1, .int x1)]) (plainFor_of_name (by decide)) hl9 (by simp [lv_args, rv_cat, cat_i, cat_l, cat_f, cat_d]) (by simp [lg_sl, rv_cat, cat_i, cat_l, cat_f, cat_d]) ?_
  intro p e R s m args below meth c H ls C hH hl hin
  exact b_X4_offerOf C x0 x1 _ H [] _ _ ls hH (fun _ q => nomatch q) (lv_sub hl [0, 1] rfl) hrun

/-! MassclaimModel.verdict(II)I -/
def f_X4_verdict_30  (h : Hp) : Rt Int32 :=
  some (.inl (0 : Int32), h)
def f_X4_verdict_72  (x0 : Nat) (x2 : Int32) (x3 : Nat) (y0 : Nat) (y1 : Int32) (h : Hp) : Rt Int32 :=
  gd (kC h y0 = 4) <| bd (f_X4_isGood y0 y1 (3 : Int32) h) fun v1 h2 => if v1 = 0 then
  (some (.inl (0 : Int32), h2))
  else
  (gd (kC h2 x3 = 6) <| vl (sI h2 513 x3 x2) fun h5 => gd (kC h5 x3 = 6) <| vl (sI h5 514 x3 (kI h5 504 x3)) fun h7 => gd (kC h7 x3 = 6) <| gd (kC h7 x0 = 4) <| bd (f_X4_offerOf x0 (kI h7 504 x3) h7) fun v9 h10 => some (.inl v9, h10))
def f_X4_verdict_71  (x0 : Nat) (x2 : Int32) (x3 : Nat) (y0 : Nat) (h : Hp) : Rt Int32 :=
  f_X4_verdict_72 x0 x2 x3 y0 (0 : Int32) h
def f_X4_verdict  (x0 : Nat) (x1 : Int32) (x2 : Int32) (h : Hp) : Rt Int32 :=
  gd (kC h x0 = 4) <| bd (f_X4_isPerson x0 x1 h) fun v12 h13 => gd (kC h13 x0 = 4) <| bd (f_X4_isGood x0 v12 (1 : Int32) h13) fun v15 h16 => if v15 = 0 then
  (f_X4_verdict_30  h16)
  else
  (bd (f_X4_isWithin (x2.toInt64) (0 : Int64) (10000000 : Int64) h16) fun v18 h19 => gd (kC h19 x0 = 4) <| bd (f_X4_isGood x0 v18 (2 : Int32) h19) fun v20 h21 => if v20 = 0 then
  (f_X4_verdict_30  h21)
  else
  (gd (kC h21 x0 = 4) <| gd (kC h21 (kR h21 302 x0) = 18) <| bd (f_J2_get (kR h21 302 x0) x1 h21) fun v24 h25 => gd (v24 = 0 ∨ kC h25 v24 = 6) <| gd (kC h25 v24 = 6) <| if (kI h25 512 v24) = 0 then
  (f_X4_verdict_71 x0 x2 v24 x0 h25)
  else
  (if (kI h25 513 v24) = (-1 : Int32) then
  (if (kI h25 504 v24) ≤ 0 then
  (f_X4_verdict_71 x0 x2 v24 x0 h25)
  else
  (f_X4_verdict_72 x0 x2 v24 x0 (1 : Int32) h25))
  else
  (f_X4_verdict_71 x0 x2 v24 x0 h25))))
theorem b_X4_verdict_30 {rr : (Int32 ⊕ Ex) × Hp}  (C : CX p l R s m args meth c D Hs cX4_verdict "MassclaimModel" 4 (some .int) [] 5 91)  : ∀ (h : Hp) (H : Heap) (locs : List Loc) (cells slots : Nat) (ls : Array Slot), HP D Hs h H → LO Hs locs → lv_has ls 4 [] → f_X4_verdict_30 h = some rr → W p l e R s m args below meth c H locs cells slots (ZM D Hs iI rr below args s) (F0 m 30 ls []) := by
  obtain ⟨⟨hx, hb, hml, hown, hts⟩, -⟩ := id C
  have hl9 := C.2.1.2.2.1
  intro h H locs cells slots ls hH hL hl hrun
  unfold f_X4_verdict_30 at hrun
  refine lv_iconst (v := (0 : Int32)) (pc := 30) hx hb dX4_verdict_30 (by decide) ?_
  exact V_iret (pc := 31) C hH hL hrun dX4_verdict_31

theorem b_X4_verdict_72 {rr : (Int32 ⊕ Ex) × Hp}  (C : CX p l R s m args meth c D Hs cX4_verdict "MassclaimModel" 4 (some .int) [] 5 91)  : ∀ (x0 : Nat) (x2 : Int32) (x3 : Nat) (y0 : Nat) (y1 : Int32) (h : Hp) (H : Heap) (locs : List Loc) (cells slots : Nat) (ls : Array Slot), HP D Hs h H → LO Hs locs → lv_has ls 4 [(0, rv x0), (2, .int x2), (3, rv x3)] → f_X4_verdict_72 x0 x2 x3 y0 y1 h = some rr → W p l e R s m args below meth c H locs cells slots (ZM D Hs iI rr below args s) (F0 m 72 ls [.int y1, rv y0]) := by
  obtain ⟨⟨hx, hb, hml, hown, hts⟩, -⟩ := id C
  have hl9 := C.2.1.2.2.1
  intro x0 x2 x3 y0 y1 h H locs cells slots ls hH hL hl hrun
  unfold f_X4_verdict_72 at hrun
  refine lv_iconst (v := (3 : Int32)) (pc := 72) hx hb dX4_verdict_72 (by decide) ?_
  obtain ⟨c3, hrun⟩ := gd_some hrun
  refine V_bd (pc := 73) C hL rfl hrun (fun rr1 e1 => Z_runV (rest := []) C hH (m_X4_isGood hl9 e1) wV_X4_104 c3 rfl (by decide) rfl rfl ⟨by decide, by decide⟩ rfl (Nat.le_of_ble_eq_true rfl) hl.1 dX4_verdict_73) (fun v1 h2 H locs cells slots hH hL hrun => ?_)
  refine lv_if_ne (tgt := 81) (pc := 76) hx hb dX4_verdict_76 (by decide) (fun c_ => ?_) (fun c_ => ?_)
  · have hrun := ite_f hrun c_
    refine V_aload_n (pc := 81) hx hb dX4_verdict_81 rfl (lv_at hl 2 rfl) ?_
    refine lv_iload_n (pc := 82) hx hb dX4_verdict_82 rfl (lv_at hl 1 rfl) ?_
    obtain ⟨c4, hrun⟩ := gd_some hrun
    refine V_putI (pc := 83) C hH hL fl_X4_284 dX4_verdict_83 c4 (fok_i _) rfl (fun q => Bool.noConfusion q) hrun (fun h5 H locs hH hL hrun => ?_)
    refine V_aload_n (pc := 86) hx hb dX4_verdict_86 rfl (lv_at hl 2 rfl) ?_
    refine V_aload_n (pc := 87) hx hb dX4_verdict_87 rfl (lv_at hl 2 rfl) ?_
    obtain ⟨c6, hrun⟩ := gd_some hrun
    refine V_getI (pc := 88) C hH fr_X4_117 dX4_verdict_88 c6 rfl ?_
    refine V_putI (pc := 91) C hH hL fl_X4_287 dX4_verdict_91 c6 (fok_i _) rfl (fun q => Bool.noConfusion q) hrun (fun h7 H locs hH hL hrun => ?_)
    refine V_aload_n (pc := 94) hx hb dX4_verdict_94 rfl (lv_at hl 0 rfl) ?_
    refine V_aload_n (pc := 95) hx hb dX4_verdict_95 rfl (lv_at hl 2 rfl) ?_
    obtain ⟨c8, hrun⟩ := gd_some hrun
    refine V_getI (pc := 96) C hH fr_X4_117 dX4_verdict_96 c8 rfl ?_
    obtain ⟨c11, hrun⟩ := gd_some hrun
    refine V_bd (pc := 99) C hL rfl hrun (fun rr1 e1 => Z_runV (rest := []) C hH (m_X4_offerOf hl9 e1) wV_X4_292 c11 rfl (by decide) rfl rfl ⟨by decide, by decide⟩ rfl (Nat.le_of_ble_eq_true rfl) hl.1 dX4_verdict_99) (fun v9 h10 H locs cells slots hH hL hrun => ?_)
    exact V_iret (pc := 102) C hH hL hrun dX4_verdict_102
  · have hrun := ite_t hrun c_
    refine lv_iconst (v := (0 : Int32)) (pc := 79) hx hb dX4_verdict_79 (by decide) ?_
    exact V_iret (pc := 80) C hH hL hrun dX4_verdict_80

theorem b_X4_verdict_71 {rr : (Int32 ⊕ Ex) × Hp}  (C : CX p l R s m args meth c D Hs cX4_verdict "MassclaimModel" 4 (some .int) [] 5 91)  : ∀ (x0 : Nat) (x2 : Int32) (x3 : Nat) (y0 : Nat) (h : Hp) (H : Heap) (locs : List Loc) (cells slots : Nat) (ls : Array Slot), HP D Hs h H → LO Hs locs → lv_has ls 4 [(0, rv x0), (2, .int x2), (3, rv x3)] → f_X4_verdict_71 x0 x2 x3 y0 h = some rr → W p l e R s m args below meth c H locs cells slots (ZM D Hs iI rr below args s) (F0 m 71 ls [rv y0]) := by
  obtain ⟨⟨hx, hb, hml, hown, hts⟩, -⟩ := id C
  have hl9 := C.2.1.2.2.1
  intro x0 x2 x3 y0 h H locs cells slots ls hH hL hl hrun
  unfold f_X4_verdict_71 at hrun
  refine lv_iconst (v := (0 : Int32)) (pc := 71) hx hb dX4_verdict_71 (by decide) ?_
  exact b_X4_verdict_72 C x0 x2 x3 y0 (0 : Int32) h H locs cells slots ls hH hL (lv_sub hl [0, 1, 2] rfl) hrun

theorem b_X4_verdict {rr : (Int32 ⊕ Ex) × Hp}  (C : CX p l R s m args meth c D Hs cX4_verdict "MassclaimModel" 4 (some .int) [] 5 91)  : ∀ (x0 : Nat) (x1 : Int32) (x2 : Int32) (h : Hp) (H : Heap) (locs : List Loc) (cells slots : Nat) (ls : Array Slot), HP D Hs h H → LO Hs locs → lv_has ls 4 [(0, rv x0), (1, .int x1), (2, .int x2)] → f_X4_verdict x0 x1 x2 h = some rr → W p l e R s m args below meth c H locs cells slots (ZM D Hs iI rr below args s) (F0 m 0 ls []) := by
  obtain ⟨⟨hx, hb, hml, hown, hts⟩, -⟩ := id C
  have hl9 := C.2.1.2.2.1
  intro x0 x1 x2 h H locs cells slots ls hH hL hl hrun
  unfold f_X4_verdict at hrun
  refine V_aload_n (pc := 0) hx hb dX4_verdict_0 rfl (lv_at hl 0 rfl) ?_
  refine V_aload_n (pc := 1) hx hb dX4_verdict_1 rfl (lv_at hl 0 rfl) ?_
  refine lv_iload_n (pc := 2) hx hb dX4_verdict_2 rfl (lv_at hl 1 rfl) ?_
  obtain ⟨c14, hrun⟩ := gd_some hrun
  refine V_bd (pc := 3) C hL rfl hrun (fun rr1 e1 => Z_runV (rest := [rv x0]) C hH (m_X4_isPerson hl9 e1) wV_X4_190 c14 rfl (by decide) rfl rfl ⟨by decide, by decide⟩ rfl (by simp [csum, rv_cat, cat_i, cat_l, cat_f, cat_d]) hl.1 dX4_verdict_3) (fun v12 h13 H locs cells slots hH hL hrun => ?_)
  refine lv_iconst (v := (1 : Int32)) (pc := 6) hx hb dX4_verdict_6 (by decide) ?_
  obtain ⟨c17, hrun⟩ := gd_some hrun
  refine V_bd (pc := 7) C hL rfl hrun (fun rr1 e1 => Z_runV (rest := []) C hH (m_X4_isGood hl9 e1) wV_X4_104 c17 rfl (by decide) rfl rfl ⟨by decide, by decide⟩ rfl (Nat.le_of_ble_eq_true rfl) hl.1 dX4_verdict_7) (fun v15 h16 H locs cells slots hH hL hrun => ?_)
  refine lv_if_eq (tgt := 30) (pc := 10) hx hb dX4_verdict_10 (by decide) (fun c_ => ?_) (fun c_ => ?_)
  · have hrun := ite_t hrun c_
    exact b_X4_verdict_30 C h16 H locs cells slots ls hH hL (lv_sub hl [] rfl) hrun
  · have hrun := ite_f hrun c_
    refine V_aload_n (pc := 13) hx hb dX4_verdict_13 rfl (lv_at hl 0 rfl) ?_
    refine lv_iload_n (pc := 14) hx hb dX4_verdict_14 rfl (lv_at hl 2 rfl) ?_
    refine lv_i2l (pc := 15) hx hb dX4_verdict_15 rfl ?_
    refine lv_lconst (v := (0 : Int64)) (pc := 16) hx hb dX4_verdict_16 (by decide) ?_
    refine lv_ldc2 (pc := 17) hx hb hown (hts _ q2192) dX4_verdict_17 ?_
    refine V_bd (pc := 20) C hL rfl hrun (fun rr1 e1 => Z_runS (rest := [rv x0]) C hH (m_X4_isWithin hl9 e1) wS_X4_100 rfl ⟨by decide, by decide⟩ rfl (by simp [csum, rv_cat, cat_i, cat_l, cat_f, cat_d]) hl.1 dX4_verdict_20) (fun v18 h19 H locs cells slots hH hL hrun => ?_)
    refine lv_iconst (v := (2 : Int32)) (pc := 23) hx hb dX4_verdict_23 (by decide) ?_
    obtain ⟨c22, hrun⟩ := gd_some hrun
    refine V_bd (pc := 24) C hL rfl hrun (fun rr1 e1 => Z_runV (rest := []) C hH (m_X4_isGood hl9 e1) wV_X4_104 c22 rfl (by decide) rfl rfl ⟨by decide, by decide⟩ rfl (Nat.le_of_ble_eq_true rfl) hl.1 dX4_verdict_24) (fun v20 h21 H locs cells slots hH hL hrun => ?_)
    refine lv_if_ne (tgt := 32) (pc := 27) hx hb dX4_verdict_27 (by decide) (fun c_ => ?_) (fun c_ => ?_)
    · have hrun := ite_f hrun c_
      refine V_aload_n (pc := 32) hx hb dX4_verdict_32 rfl (lv_at hl 0 rfl) ?_
      obtain ⟨c23, hrun⟩ := gd_some hrun
      refine V_getR (pc := 33) C hH fr_X4_16 dX4_verdict_33 c23 rfl ?_
      refine lv_iload_n (pc := 36) hx hb dX4_verdict_36 rfl (lv_at hl 1 rfl) ?_
      obtain ⟨c26, hrun⟩ := gd_some hrun
      refine V_bd (pc := 37) C hL rfl hrun (fun rr1 e1 => Z_runV (rest := []) C hH (m_J2_get hl9 e1) wV_X4_108 c26 rfl (by decide) rfl rfl ⟨by decide, by decide⟩ rfl (Nat.le_of_ble_eq_true rfl) hl.1 dX4_verdict_37) (fun v24 h25 H locs cells slots hH hL hrun => ?_)
      obtain ⟨c27, hrun⟩ := gd_some hrun
      refine V_castX (pc := 40) (ci := 5) C hH rfl (by decide) q1946 dX4_verdict_40 c27 ?_
      refine V_astore_n (i := 3) (lv' := [(3, rv v24), (0, rv x0), (1, .int x1), (2, .int x2)]) (pc := 43) hx hb dX4_verdict_43 rfl hl (by decide) rfl (fun ls hl => ?_)
      refine V_aload_n (pc := 44) hx hb dX4_verdict_44 rfl (lv_at hl 1 rfl) ?_
      refine V_aload_n (pc := 45) hx hb dX4_verdict_45 rfl (lv_at hl 0 rfl) ?_
      obtain ⟨c28, hrun⟩ := gd_some hrun
      refine V_getI (pc := 46) C hH fr_X4_278 dX4_verdict_46 c28 rfl ?_
      refine lv_if_eq (tgt := 71) (pc := 49) hx hb dX4_verdict_49 (by decide) (fun c_ => ?_) (fun c_ => ?_)
      · have hrun := ite_t hrun c_
        exact b_X4_verdict_71 C x0 x2 v24 x0 h25 H locs cells slots ls hH hL (lv_sub hl [1, 3, 0] rfl) hrun
      · have hrun := ite_f hrun c_
        refine V_aload_n (pc := 52) hx hb dX4_verdict_52 rfl (lv_at hl 0 rfl) ?_
        refine V_getI (pc := 53) C hH fr_X4_284 dX4_verdict_53 c28 rfl ?_
        refine lv_iconst (v := (-1 : Int32)) (pc := 56) hx hb dX4_verdict_56 (by decide) ?_
        refine lv_icmp_ne (tgt := 71) (pc := 57) hx hb dX4_verdict_57 (by decide) (fun c_ => ?_) (fun c_ => ?_)
        · have hrun := ite_f hrun c_
          exact b_X4_verdict_71 C x0 x2 v24 x0 h25 H locs cells slots ls hH hL (lv_sub hl [1, 3, 0] rfl) hrun
        · have hrun := ite_t hrun c_
          refine V_aload_n (pc := 60) hx hb dX4_verdict_60 rfl (lv_at hl 0 rfl) ?_
          refine V_getI (pc := 61) C hH fr_X4_117 dX4_verdict_61 c28 rfl ?_
          refine lv_if_le (tgt := 71) (pc := 64) hx hb dX4_verdict_64 (by decide) (fun c_ => ?_) (fun c_ => ?_)
          · have hrun := ite_t hrun c_
            exact b_X4_verdict_71 C x0 x2 v24 x0 h25 H locs cells slots ls hH hL (lv_sub hl [1, 3, 0] rfl) hrun
          · have hrun := ite_f hrun c_
            refine lv_iconst (v := (1 : Int32)) (pc := 67) hx hb dX4_verdict_67 (by decide) ?_
            refine lv_goto (tgt := 72) (pc := 68) hx hb dX4_verdict_68 (by decide) ?_
            exact b_X4_verdict_72 C x0 x2 v24 x0 (1 : Int32) h25 H locs cells slots ls hH hL (lv_sub hl [1, 3, 0] rfl) hrun
    · have hrun := ite_t hrun c_
      exact b_X4_verdict_30 C h21 H locs cells slots ls hH hL (lv_sub hl [] rfl) hrun

theorem m_X4_verdict {l : Launch} {D : va_G} {Hs : Heap} {h : Hp} {rr : (Int32 ⊕ Ex) × Hp} (hl9 : l.stackTraces = false) {x0 : Nat} {x1 : Int32} {x2 : Int32} (hrun : f_X4_verdict x0 x1 x2 h = some rr) : CM l yX4_verdict (ws_ yX4_verdict cX4_verdict 4 (some .int)) 5 91 iI [rv x0, .int x1, .int x2] D Hs h rr := by
  refine CM.of (lv := [(0, rv x0), (1, .int x1), (2, .int x2)]) (plainFor_of_name (by decide)) hl9 (by simp [lv_args, rv_cat, cat_i, cat_l, cat_f, cat_d]) (by simp [lg_sl, rv_cat, cat_i, cat_l, cat_f, cat_d]) ?_
  intro p e R s m args below meth c H ls C hH hl hin
  exact b_X4_verdict C x0 x1 x2 _ H [] _ _ ls hH (fun _ q => nomatch q) (lv_sub hl [0, 1, 2] rfl) hrun

/-! Massclaim.requireLevel(I)V -/
def f_X1_requireLevel  (x0 : Int32) (h : Hp) : Rt Unit :=
  bd (f_X1_isIn (x0.toInt64) (1 : Int64) (5 : Int64) h) fun v1 h2 => bd (f_X1_requireIndex v1 h2) fun _ h4 => some (.inl (), h4)
theorem b_X1_requireLevel {rr : (Unit ⊕ Ex) × Hp}  (C : CX p l R s m args meth c D Hs cX1_requireLevel "Massclaim" 1 none [] 7 110)  : ∀ (x0 : Int32) (h : Hp) (H : Heap) (locs : List Loc) (cells slots : Nat) (ls : Array Slot), HP D Hs h H → LO Hs locs → lv_has ls 1 [(0, .int x0)] → f_X1_requireLevel x0 h = some rr → W p l e R s m args below meth c H locs cells slots (ZM D Hs iV rr below args s) (F0 m 0 ls []) := by
  obtain ⟨⟨hx, hb, hml, hown, hts⟩, -⟩ := id C
  have hl9 := C.2.1.2.2.1
  intro x0 h H locs cells slots ls hH hL hl hrun
  unfold f_X1_requireLevel at hrun
  refine lv_iload_n (pc := 0) hx hb dX1_requireLevel_0 rfl (lv_at hl 0 rfl) ?_
  refine lv_i2l (pc := 1) hx hb dX1_requireLevel_1 rfl ?_
  refine lv_lconst (v := (1 : Int64)) (pc := 2) hx hb dX1_requireLevel_2 (by decide) ?_
  refine lv_ldc2 (pc := 3) hx hb hown (hts _ q866) dX1_requireLevel_3 ?_
  refine V_bd (pc := 6) C hL rfl hrun (fun rr1 e1 => Z_runS (rest := []) C hH (m_X1_isIn hl9 e1) wS_X1_127 rfl ⟨by decide, by decide⟩ rfl (Nat.le_of_ble_eq_true rfl) hl.1 dX1_requireLevel_6) (fun v1 h2 H locs cells slots hH hL hrun => ?_)
  refine V_bd (pc := 9) C hL rfl hrun (fun rr1 e1 => Z_runS (rest := []) C hH (m_X1_requireIndex hl9 e1) wS_X1_275 rfl ⟨by decide, by decide⟩ rfl (Nat.le_of_ble_eq_true rfl) hl.1 dX1_requireLevel_9) (fun _ h4 H locs cells slots hH hL hrun => ?_)
  exact V_vret (pc := 12) C hH hL hrun dX1_requireLevel_12

theorem m_X1_requireLevel {l : Launch} {D : va_G} {Hs : Heap} {h : Hp} {rr : (Unit ⊕ Ex) × Hp} (hl9 : l.stackTraces = false) {x0 : Int32} (hrun : f_X1_requireLevel x0 h = some rr) : CM l yX1_requireLevel (ws_ yX1_requireLevel cX1_requireLevel 1 none) 7 110 iV [.int x0] D Hs h rr := by
  refine CM.of (lv := [(0, .int x0)]) (plainFor_of_name (by decide)) hl9 (by simp [lv_args, rv_cat, cat_i, cat_l, cat_f, cat_d]) (by simp [lg_sl, rv_cat, cat_i, cat_l, cat_f, cat_d]) ?_
  intro p e R s m args below meth c H ls C hH hl hin
  exact b_X1_requireLevel C x0 _ H [] _ _ ls hH (fun _ q => nomatch q) (lv_sub hl [0] rfl) hrun

/-! Massclaim.offer(I)I -/
def f_X1_offer  (x0 : Nat) (x1 : Int32) (h : Hp) : Rt Int32 :=
  bd (f_X1_requireLevel x1 h) fun _ h2 => gd (kC h2 x0 = 1) <| bd (f_X1_offered x0 x1 h2) fun v3 h4 => some (.inl v3, h4)
theorem b_X1_offer {rr : (Int32 ⊕ Ex) × Hp}  (C : CX p l R s m args meth c D Hs cX1_offer "Massclaim" 2 (some .int) [] 8 130)  : ∀ (x0 : Nat) (x1 : Int32) (h : Hp) (H : Heap) (locs : List Loc) (cells slots : Nat) (ls : Array Slot), HP D Hs h H → LO Hs locs → lv_has ls 2 [(0, rv x0), (1, .int x1)] → f_X1_offer x0 x1 h = some rr → W p l e R s m args below meth c H locs cells slots (ZM D Hs iI rr below args s) (F0 m 0 ls []) := by
  obtain ⟨⟨hx, hb, hml, hown, hts⟩, -⟩ := id C
  have hl9 := C.2.1.2.2.1
  intro x0 x1 h H locs cells slots ls hH hL hl hrun
  unfold f_X1_offer at hrun
  refine lv_iload_n (pc := 0) hx hb dX1_offer_0 rfl (lv_at hl 1 rfl) ?_
  refine V_bd (pc := 1) C hL rfl hrun (fun rr1 e1 => Z_runS (rest := []) C hH (m_X1_requireLevel hl9 e1) wS_X1_308 rfl ⟨by decide, by decide⟩ rfl (Nat.le_of_ble_eq_true rfl) hl.1 dX1_offer_1) (fun _ h2 H locs cells slots hH hL hrun => ?_)
  refine V_aload_n (pc := 4) hx hb dX1_offer_4 rfl (lv_at hl 0 rfl) ?_
  refine lv_iload_n (pc := 5) hx hb dX1_offer_5 rfl (lv_at hl 1 rfl) ?_
  obtain ⟨c5, hrun⟩ := gd_some hrun
  refine V_bd (pc := 6) C hL rfl hrun (fun rr1 e1 => Z_runV (rest := []) C hH (m_X1_offered hl9 e1) wV_X1_305 c5 rfl (by decide) rfl rfl ⟨by decide, by decide⟩ rfl (Nat.le_of_ble_eq_true rfl) hl.1 dX1_offer_6) (fun v3 h4 H locs cells slots hH hL hrun => ?_)
  exact V_iret (pc := 9) C hH hL hrun dX1_offer_9

theorem m_X1_offer {l : Launch} {D : va_G} {Hs : Heap} {h : Hp} {rr : (Int32 ⊕ Ex) × Hp} (hl9 : l.stackTraces = false) {x0 : Nat} {x1 : Int32} (hrun : f_X1_offer x0 x1 h = some rr) : CM l yX1_offer (ws_ yX1_offer cX1_offer 2 (some .int)) 8 130 iI [rv x0, .int x1] D Hs h rr := by
  refine CM.of (lv := [(0, rv x0), (1, .int x1)]) (plainFor_of_name (by decide)) hl9 (by simp [lv_args, rv_cat, cat_i, cat_l, cat_f, cat_d]) (by simp [lg_sl, rv_cat, cat_i, cat_l, cat_f, cat_d]) ?_
  intro p e R s m args below meth c H ls C hH hl hin
  exact b_X1_offer C x0 x1 _ H [] _ _ ls hH (fun _ q => nomatch q) (lv_sub hl [0, 1] rfl) hrun

/-! MassclaimLaw.offer(LMassclaim;I[J)I -/
def f_X0_offer_12  (y0 : Nat) (h : Hp) : Rt Int32 :=
  some (.inl (1 : Int32), h)
def f_X0_offer  (x0 : Nat) (x1 : Int32) (x2 : Nat) (h : Hp) : Rt Int32 :=
  gd (kC h x0 = 1) <| bdH (f_X1_offer x0 x1 h)
  (fun v1 h2 => gd (kC h2 x2 = 102 ∧ ixo (0 : Int32) (kN h2 x2)) <| vl (tL h2 x2 ((0 : Int32)).toNatClampNeg (v1.toInt64)) fun h5 => some (.inl (0 : Int32), h5))
  (fun ex6 h7 => if ex6.1 = 901 then
  (f_X0_offer_12 ex6.2 h7)
  else
  none)
theorem b_X0_offer_12 {rr : (Int32 ⊕ Ex) × Hp}  (C : CX p l R s m args meth c D Hs cX0_offer "MassclaimLaw" 4 (some .int) [(0, 9, 12, 25)] 9 151)  : ∀ (y0 : Nat) (h : Hp) (H : Heap) (locs : List Loc) (cells slots : Nat) (ls : Array Slot), HP D Hs h H → LO Hs locs → lv_has ls 4 [] → f_X0_offer_12 y0 h = some rr → W p l e R s m args below meth c H locs cells slots (ZM D Hs iI rr below args s) (F0 m 12 ls [rv y0]) := by
  obtain ⟨⟨hx, hb, hml, hown, hts⟩, -⟩ := id C
  have hl9 := C.2.1.2.2.1
  intro y0 h H locs cells slots ls hH hL hl hrun
  unfold f_X0_offer_12 at hrun
  refine V_astore_n (i := 3) (lv' := [(3, rv y0)]) (pc := 12) hx hb dX0_offer_12 rfl hl (by decide) rfl (fun ls hl => ?_)
  refine lv_iconst (v := (1 : Int32)) (pc := 13) hx hb dX0_offer_13 (by decide) ?_
  exact V_iret (pc := 14) C hH hL hrun dX0_offer_14

theorem b_X0_offer {rr : (Int32 ⊕ Ex) × Hp}  (C : CX p l R s m args meth c D Hs cX0_offer "MassclaimLaw" 4 (some .int) [(0, 9, 12, 25)] 9 151)  : ∀ (x0 : Nat) (x1 : Int32) (x2 : Nat) (h : Hp) (H : Heap) (locs : List Loc) (cells slots : Nat) (ls : Array Slot), HP D Hs h H → LO Hs locs → lv_has ls 4 [(0, rv x0), (1, .int x1), (2, rv x2)] → f_X0_offer x0 x1 x2 h = some rr → W p l e R s m args below meth c H locs cells slots (ZM D Hs iI rr below args s) (F0 m 0 ls []) := by
  obtain ⟨⟨hx, hb, hml, hown, hts⟩, -⟩ := id C
  have hl9 := C.2.1.2.2.1
  intro x0 x1 x2 h H locs cells slots ls hH hL hl hrun
  unfold f_X0_offer at hrun
  refine V_aload_n (pc := 0) hx hb dX0_offer_0 rfl (lv_at hl 2 rfl) ?_
  refine lv_iconst (v := (0 : Int32)) (pc := 1) hx hb dX0_offer_1 (by decide) ?_
  refine V_aload_n (pc := 2) hx hb dX0_offer_2 rfl (lv_at hl 0 rfl) ?_
  refine lv_iload_n (pc := 3) hx hb dX0_offer_3 rfl (lv_at hl 1 rfl) ?_
  obtain ⟨c3, hrun⟩ := gd_some hrun
  refine V_bdH (pc := 4) hL hrun (fun rr1 e1 => Z_runV (rest := [.int (0 : Int32), rv x2]) C hH (m_X1_offer hl9 e1) wV_X0_68 c3 rfl (by decide) rfl rfl ⟨by decide, by decide⟩ rfl (by simp [csum, rv_cat, cat_i, cat_l, cat_f, cat_d]) hl.1 dX0_offer_4) (fun v1 h2 H locs cells slots hH hL hrun => ?_) (fun x_ q_ ce_ h7 H locs cells slots hH hL hrun hc_ hv_ hcl_ => ?_)
  · refine lv_i2l (pc := 7) hx hb dX0_offer_7 rfl ?_
    obtain ⟨c4, hrun⟩ := gd_some hrun
    refine V_last (pc := 8) C hH hL dX0_offer_8 c4 hrun (fun h5 H locs hH hL hrun => ?_)
    refine lv_goto (tgt := 15) (pc := 9) hx hb dX0_offer_9 (by decide) ?_
    refine lv_iconst (v := (0 : Int32)) (pc := 15) hx hb dX0_offer_15 (by decide) ?_
    exact V_iret (pc := 16) C hH hL hrun dX0_offer_16
  · by_cases n901 : x_ = 901
    · subst n901
      have hrun := ite_t hrun rfl
      refine vx_catch (E := "java/lang/IndexOutOfBoundsException") (name := "java/lang/IndexOutOfBoundsException") hown (tableOf []) ⟨0, 9, 12, 25⟩ (tableOf []) (by rw [C.2.1.2.2.2.2]; rfl) (fun z hz => nomatch hz) (by decide) (by decide) (hts _ q829) (va_Nw.use rfl (C.2.1.2.2.2.1.2.1 _ q537 rfl)) hc_ hv_ hcl_ ?_
      exact b_X0_offer_12 C (q_ + 1) h7 H locs cells slots ls hH hL (lv_sub hl [] rfl) hrun
    have hrun := ite_f hrun n901
    cases hrun

theorem m_X0_offer {l : Launch} {D : va_G} {Hs : Heap} {h : Hp} {rr : (Int32 ⊕ Ex) × Hp} (hl9 : l.stackTraces = false) {x0 : Nat} {x1 : Int32} {x2 : Nat} (hrun : f_X0_offer x0 x1 x2 h = some rr) : CM l yX0_offer (wsW_ yX0_offer cX0_offer 4 (some .int) [(0, 9, 12, 25)]) 9 151 iI [rv x0, .int x1, rv x2] D Hs h rr := by
  refine CM.ofH (lv := [(0, rv x0), (1, .int x1), (2, rv x2)]) (plainFor_of_name (by decide)) hl9 (by simp [lv_args, rv_cat, cat_i, cat_l, cat_f, cat_d]) (by simp [lg_sl, rv_cat, cat_i, cat_l, cat_f, cat_d]) ?_
  intro p e R s m args below meth c H ls C hH hl hin
  exact b_X0_offer C x0 x1 x2 _ H [] _ _ ls hH (fun _ q => nomatch q) (lv_sub hl [0, 1, 2] rfl) hrun

/-! MassclaimModel.offer(I)I -/
def f_X4_offer_26  (y0 : Int32) (h : Hp) : Rt Int32 :=
  some (.inl y0, h)
def f_X4_offer  (x0 : Nat) (x1 : Int32) (h : Hp) : Rt Int32 :=
  bd (f_X4_isWithin (x1.toInt64) (1 : Int64) (5 : Int64) h) fun v1 h2 => gd (kC h2 x0 = 4) <| bd (f_X4_isGood x0 v1 (1 : Int32) h2) fun v3 h4 => if v3 = 0 then
  (f_X4_offer_26 (0 : Int32) h4)
  else
  (gd (kC h4 x0 = 4) <| bd (f_X4_offerOf x0 x1 h4) fun v6 h7 => f_X4_offer_26 v6 h7)
theorem b_X4_offer_26 {rr : (Int32 ⊕ Ex) × Hp}  (C : CX p l R s m args meth c D Hs cX4_offer "MassclaimModel" 2 (some .int) [] 5 91)  : ∀ (y0 : Int32) (h : Hp) (H : Heap) (locs : List Loc) (cells slots : Nat) (ls : Array Slot), HP D Hs h H → LO Hs locs → lv_has ls 2 [] → f_X4_offer_26 y0 h = some rr → W p l e R s m args below meth c H locs cells slots (ZM D Hs iI rr below args s) (F0 m 26 ls [.int y0]) := by
  obtain ⟨⟨hx, hb, hml, hown, hts⟩, -⟩ := id C
  have hl9 := C.2.1.2.2.1
  intro y0 h H locs cells slots ls hH hL hl hrun
  unfold f_X4_offer_26 at hrun
  exact V_iret (pc := 26) C hH hL hrun dX4_offer_26

theorem b_X4_offer {rr : (Int32 ⊕ Ex) × Hp}  (C : CX p l R s m args meth c D Hs cX4_offer "MassclaimModel" 2 (some .int) [] 5 91)  : ∀ (x0 : Nat) (x1 : Int32) (h : Hp) (H : Heap) (locs : List Loc) (cells slots : Nat) (ls : Array Slot), HP D Hs h H → LO Hs locs → lv_has ls 2 [(0, rv x0), (1, .int x1)] → f_X4_offer x0 x1 h = some rr → W p l e R s m args below meth c H locs cells slots (ZM D Hs iI rr below args s) (F0 m 0 ls []) := by
  obtain ⟨⟨hx, hb, hml, hown, hts⟩, -⟩ := id C
  have hl9 := C.2.1.2.2.1
  intro x0 x1 h H locs cells slots ls hH hL hl hrun
  unfold f_X4_offer at hrun
  refine V_aload_n (pc := 0) hx hb dX4_offer_0 rfl (lv_at hl 0 rfl) ?_
  refine lv_iload_n (pc := 1) hx hb dX4_offer_1 rfl (lv_at hl 1 rfl) ?_
  refine lv_i2l (pc := 2) hx hb dX4_offer_2 rfl ?_
  refine lv_lconst (v := (1 : Int64)) (pc := 3) hx hb dX4_offer_3 (by decide) ?_
  refine lv_ldc2 (pc := 4) hx hb hown (hts _ q2071) dX4_offer_4 ?_
  refine V_bd (pc := 7) C hL rfl hrun (fun rr1 e1 => Z_runS (rest := [rv x0]) C hH (m_X4_isWithin hl9 e1) wS_X4_100 rfl ⟨by decide, by decide⟩ rfl (by simp [csum, rv_cat, cat_i, cat_l, cat_f, cat_d]) hl.1 dX4_offer_7) (fun v1 h2 H locs cells slots hH hL hrun => ?_)
  refine lv_iconst (v := (1 : Int32)) (pc := 10) hx hb dX4_offer_10 (by decide) ?_
  obtain ⟨c5, hrun⟩ := gd_some hrun
  refine V_bd (pc := 11) C hL rfl hrun (fun rr1 e1 => Z_runV (rest := []) C hH (m_X4_isGood hl9 e1) wV_X4_104 c5 rfl (by decide) rfl rfl ⟨by decide, by decide⟩ rfl (Nat.le_of_ble_eq_true rfl) hl.1 dX4_offer_11) (fun v3 h4 H locs cells slots hH hL hrun => ?_)
  refine lv_if_eq (tgt := 25) (pc := 14) hx hb dX4_offer_14 (by decide) (fun c_ => ?_) (fun c_ => ?_)
  · have hrun := ite_t hrun c_
    refine lv_iconst (v := (0 : Int32)) (pc := 25) hx hb dX4_offer_25 (by decide) ?_
    exact b_X4_offer_26 C (0 : Int32) h4 H locs cells slots ls hH hL (lv_sub hl [] rfl) hrun
  · have hrun := ite_f hrun c_
    refine V_aload_n (pc := 17) hx hb dX4_offer_17 rfl (lv_at hl 0 rfl) ?_
    refine lv_iload_n (pc := 18) hx hb dX4_offer_18 rfl (lv_at hl 1 rfl) ?_
    obtain ⟨c8, hrun⟩ := gd_some hrun
    refine V_bd (pc := 19) C hL rfl hrun (fun rr1 e1 => Z_runV (rest := []) C hH (m_X4_offerOf hl9 e1) wV_X4_292 c8 rfl (by decide) rfl rfl ⟨by decide, by decide⟩ rfl (Nat.le_of_ble_eq_true rfl) hl.1 dX4_offer_19) (fun v6 h7 H locs cells slots hH hL hrun => ?_)
    refine lv_goto (tgt := 26) (pc := 22) hx hb dX4_offer_22 (by decide) ?_
    exact b_X4_offer_26 C v6 h7 H locs cells slots ls hH hL (lv_sub hl [] rfl) hrun

theorem m_X4_offer {l : Launch} {D : va_G} {Hs : Heap} {h : Hp} {rr : (Int32 ⊕ Ex) × Hp} (hl9 : l.stackTraces = false) {x0 : Nat} {x1 : Int32} (hrun : f_X4_offer x0 x1 h = some rr) : CM l yX4_offer (ws_ yX4_offer cX4_offer 2 (some .int)) 5 91 iI [rv x0, .int x1] D Hs h rr := by
  refine CM.of (lv := [(0, rv x0), (1, .int x1)]) (plainFor_of_name (by decide)) hl9 (by simp [lv_args, rv_cat, cat_i, cat_l, cat_f, cat_d]) (by simp [lg_sl, rv_cat, cat_i, cat_l, cat_f, cat_d]) ?_
  intro p e R s m args below meth c H ls C hH hl hin
  exact b_X4_offer C x0 x1 _ H [] _ _ ls hH (fun _ q => nomatch q) (lv_sub hl [0, 1] rfl) hrun

/-! Massclaim.shares()I -/
def f_X1_shares_10  : Nat → Int32 → Nat → Hp → Rt Int32
  | 0, _, _, _ => none
  | n + 1, x1, x2, h => gd (kC h x2 = 19) <| bd (f_J16_hasNext x2 h) fun v1 h2 => if v1 = 0 then
  (some (.inl x1, h2))
  else
  (gd (kC h2 x2 = 19) <| bd (f_J16_next x2 h2) fun v4 h5 => gd (v4 = 0 ∨ kC h5 v4 = 8) <| gd (kC h5 v4 = 8) <| vl (x1 + (kI h5 701 v4)) fun v9 => f_X1_shares_10 n v9 x2 h5)
def f_X1_shares  (x0 : Nat) (h : Hp) : Rt Int32 :=
  gd (kC h x0 = 1) <| gd (kC h (kR h 2 x0) = 2) <| bd (f_X2_iterator (kR h 2 x0) h) fun v11 h12 => f_X1_shares_10 FU (0 : Int32) v11 h12
theorem b_X1_shares_10 {rr : (Int32 ⊕ Ex) × Hp}  (C : CX p l R s m args meth c D Hs cX1_shares "Massclaim" 4 (some .int) [] 4 81)  : ∀ (n : Nat) (x1 : Int32) (x2 : Nat) (h : Hp) (H : Heap) (locs : List Loc) (cells slots : Nat) (ls : Array Slot), HP D Hs h H → LO Hs locs → lv_has ls 4 [(1, .int x1), (2, rv x2)] → f_X1_shares_10 n x1 x2 h = some rr → W p l e R s m args below meth c H locs cells slots (ZM D Hs iI rr below args s) (F0 m 10 ls []) := by
  obtain ⟨⟨hx, hb, hml, hown, hts⟩, -⟩ := id C
  have hl9 := C.2.1.2.2.1
  intro n
  induction n with
  | zero =>
    intro x1 x2 h H locs cells slots ls hH hL hl hrun
    cases (show (none : Option _) = some rr from hrun)
  | succ n ih =>
    intro x1 x2 h H locs cells slots ls hH hL hl hrun
    rw [f_X1_shares_10] at hrun
    refine V_aload_n (pc := 10) hx hb dX1_shares_10 rfl (lv_at hl 1 rfl) ?_
    obtain ⟨c3, hrun⟩ := gd_some hrun
    refine V_bd5 (pc := 11) C hL rfl hrun (fun rr1 e1 => Z_runF (rest := []) C hH (m_J16_hasNext hl9 e1) rfl wF_X1_212_J16 c3 (by decide) rfl ⟨by decide, by decide⟩ rfl (Nat.le_of_ble_eq_true rfl) hl.1 dX1_shares_11) (fun v1 h2 H locs cells slots hH hL hrun => ?_)
    refine lv_if_eq (tgt := 39) (pc := 16) hx hb dX1_shares_16 (by decide) (fun c_ => ?_) (fun c_ => ?_)
    · have hrun := ite_t hrun c_
      refine lv_iload_n (pc := 39) hx hb dX1_shares_39 rfl (lv_at hl 0 rfl) ?_
      exact V_iret (pc := 40) C hH hL hrun dX1_shares_40
    · have hrun := ite_f hrun c_
      refine V_aload_n (pc := 19) hx hb dX1_shares_19 rfl (lv_at hl 1 rfl) ?_
      obtain ⟨c6, hrun⟩ := gd_some hrun
      refine V_bd5 (pc := 20) C hL rfl hrun (fun rr1 e1 => Z_runF (rest := []) C hH (m_J16_next hl9 e1) rfl wF_X1_217_J16 c6 (by decide) rfl ⟨by decide, by decide⟩ rfl (Nat.le_of_ble_eq_true rfl) hl.1 dX1_shares_20) (fun v4 h5 H locs cells slots hH hL hrun => ?_)
      obtain ⟨c7, hrun⟩ := gd_some hrun
      refine V_castX (pc := 25) (ci := 7) C hH rfl (by decide) q363 dX1_shares_25 c7 ?_
      refine V_astore_n (i := 3) (lv' := [(3, rv v4), (1, .int x1), (2, rv x2)]) (pc := 28) hx hb dX1_shares_28 rfl hl (by decide) (by simp [rv_cat, cat_i, cat_l, cat_f, cat_d]) (fun ls hl => ?_)
      refine lv_iload_n (pc := 29) hx hb dX1_shares_29 rfl (lv_at hl 1 rfl) ?_
      refine V_aload_n (pc := 30) hx hb dX1_shares_30 rfl (lv_at hl 0 rfl) ?_
      obtain ⟨c8, hrun⟩ := gd_some hrun
      refine V_getNI (pc := 31) C hH fn_X1_313 dX1_shares_31 c8 rfl ?_
      refine lv_iadd (pc := 34) hx hb dX1_shares_34 ?_
      refine lv_topi (fun v9 ev9 => ?_)
      have hrun := vl_at hrun v9 ev9
      refine lv_istore_n (i := 1) (lv' := [(1, .int v9), (3, rv v4), (2, rv x2)]) (pc := 35) hx hb dX1_shares_35 rfl hl (by decide) rfl (fun ls hl => ?_)
      refine lv_goto (tgt := 10) (pc := 36) hx hb dX1_shares_36 (by decide) ?_
      exact ih v9 x2 h5 H locs cells slots ls hH hL (lv_sub hl [0, 2] rfl) hrun

theorem b_X1_shares {rr : (Int32 ⊕ Ex) × Hp}  (C : CX p l R s m args meth c D Hs cX1_shares "Massclaim" 4 (some .int) [] 4 81)  : ∀ (x0 : Nat) (h : Hp) (H : Heap) (locs : List Loc) (cells slots : Nat) (ls : Array Slot), HP D Hs h H → LO Hs locs → lv_has ls 4 [(0, rv x0)] → f_X1_shares x0 h = some rr → W p l e R s m args below meth c H locs cells slots (ZM D Hs iI rr below args s) (F0 m 0 ls []) := by
  obtain ⟨⟨hx, hb, hml, hown, hts⟩, -⟩ := id C
  have hl9 := C.2.1.2.2.1
  intro x0 h H locs cells slots ls hH hL hl hrun
  unfold f_X1_shares at hrun
  refine lv_iconst (v := (0 : Int32)) (pc := 0) hx hb dX1_shares_0 (by decide) ?_
  refine lv_istore_n (i := 1) (lv' := [(1, .int (0 : Int32)), (0, rv x0)]) (pc := 1) hx hb dX1_shares_1 rfl hl (by decide) (by simp [rv_cat, cat_i, cat_l, cat_f, cat_d]) (fun ls hl => ?_)
  refine V_aload_n (pc := 2) hx hb dX1_shares_2 rfl (lv_at hl 1 rfl) ?_
  obtain ⟨c10, hrun⟩ := gd_some hrun
  refine V_getR (pc := 3) C hH fr_X1_49 dX1_shares_3 c10 rfl ?_
  obtain ⟨c13, hrun⟩ := gd_some hrun
  refine V_bd (pc := 6) C hL rfl hrun (fun rr1 e1 => Z_runV (rest := []) C hH (m_X2_iterator hl9 e1) wV_X1_208 c13 rfl (by decide) rfl rfl ⟨by decide, by decide⟩ rfl (Nat.le_of_ble_eq_true rfl) hl.1 dX1_shares_6) (fun v11 h12 H locs cells slots hH hL hrun => ?_)
  refine V_astore_n (i := 2) (lv' := [(2, rv v11), (1, .int (0 : Int32)), (0, rv x0)]) (pc := 9) hx hb dX1_shares_9 rfl hl (by decide) rfl (fun ls hl => ?_)
  exact b_X1_shares_10 C FU (0 : Int32) v11 h12 H locs cells slots ls hH hL (lv_sub hl [1, 0] rfl) hrun

theorem m_X1_shares {l : Launch} {D : va_G} {Hs : Heap} {h : Hp} {rr : (Int32 ⊕ Ex) × Hp} (hl9 : l.stackTraces = false) {x0 : Nat} (hrun : f_X1_shares x0 h = some rr) : CM l yX1_shares (ws_ yX1_shares cX1_shares 4 (some .int)) 4 81 iI [rv x0] D Hs h rr := by
  refine CM.of (lv := [(0, rv x0)]) (plainFor_of_name (by decide)) hl9 (by simp [lv_args, rv_cat, cat_i, cat_l, cat_f, cat_d]) (by simp [lg_sl, rv_cat, cat_i, cat_l, cat_f, cat_d]) ?_
  intro p e R s m args below meth c H ls C hH hl hin
  exact b_X1_shares C x0 _ H [] _ _ ls hH (fun _ q => nomatch q) (lv_sub hl [0] rfl) hrun

/-! Massclaim$Defendant.<init>(III)V -/
def f_X8_init  (x0 : Nat) (x1 : Int32) (x2 : Int32) (x3 : Int32) (h : Hp) : Rt Unit :=
  gd (kC h x0 = 8) <| vl (sI h 700 x0 x1) fun h2 => gd (kC h2 x0 = 8) <| vl (sI h2 701 x0 x2) fun h4 => gd (kC h4 x0 = 8) <| vl (sI h4 702 x0 x3) fun h6 => some (.inl (), h6)
theorem b_X8_init {rr : (Unit ⊕ Ex) × Hp}  (C : CX p l R s m args meth c D Hs cX8_init "Massclaim$Defendant" 4 none [] 1 20) (hin : meth.name = "<init>")  : ∀ (x0 : Nat) (x1 : Int32) (x2 : Int32) (x3 : Int32) (h : Hp) (H : Heap) (locs : List Loc) (cells slots : Nat) (ls : Array Slot), HP D Hs h H → LO Hs locs → lv_has ls 4 [(0, rv x0), (1, .int x1), (2, .int x2), (3, .int x3)] → f_X8_init x0 x1 x2 x3 h = some rr → W p l e R s m args below meth c H locs cells slots (ZM D Hs iV rr below args s) (F0 m 0 ls []) := by
  obtain ⟨⟨hx, hb, hml, hown, hts⟩, -⟩ := id C
  have hl9 := C.2.1.2.2.1
  intro x0 x1 x2 x3 h H locs cells slots ls hH hL hl hrun
  unfold f_X8_init at hrun
  refine V_aload_n (pc := 0) hx hb dX8_init_0 rfl (lv_at hl 0 rfl) ?_
  obtain ⟨c1, hrun⟩ := gd_some hrun
  refine V_objInit (pc := 1) C q1333 q113 q114 (hH.pos c1) dX8_init_1 (by decide) (by simp [csum, rv_cat, cat_i, cat_l, cat_f, cat_d]) hl.1 ?_
  refine V_aload_n (pc := 4) hx hb dX8_init_4 rfl (lv_at hl 0 rfl) ?_
  refine lv_iload_n (pc := 5) hx hb dX8_init_5 rfl (lv_at hl 1 rfl) ?_
  refine V_putI (pc := 6) C hH hL fl_X8_7 dX8_init_6 c1 (fok_i _) rfl (fun _ => hin) hrun (fun h2 H locs hH hL hrun => ?_)
  refine V_aload_n (pc := 9) hx hb dX8_init_9 rfl (lv_at hl 0 rfl) ?_
  refine lv_iload_n (pc := 10) hx hb dX8_init_10 rfl (lv_at hl 2 rfl) ?_
  obtain ⟨c3, hrun⟩ := gd_some hrun
  refine V_putI (pc := 11) C hH hL fl_X8_13 dX8_init_11 c3 (fok_i _) rfl (fun _ => hin) hrun (fun h4 H locs hH hL hrun => ?_)
  refine V_aload_n (pc := 14) hx hb dX8_init_14 rfl (lv_at hl 0 rfl) ?_
  refine lv_iload_n (pc := 15) hx hb dX8_init_15 rfl (lv_at hl 3 rfl) ?_
  obtain ⟨c5, hrun⟩ := gd_some hrun
  refine V_putI (pc := 16) C hH hL fl_X8_16 dX8_init_16 c5 (fok_i _) rfl (fun q => Bool.noConfusion q) hrun (fun h6 H locs hH hL hrun => ?_)
  exact V_vret (pc := 19) C hH hL hrun dX8_init_19

theorem m_X8_init {l : Launch} {D : va_G} {Hs : Heap} {h : Hp} {rr : (Unit ⊕ Ex) × Hp} (hl9 : l.stackTraces = false) {x0 : Nat} {x1 : Int32} {x2 : Int32} {x3 : Int32} (hrun : f_X8_init x0 x1 x2 x3 h = some rr) : CM l yX8_init (ws_ yX8_init cX8_init 4 none) 1 20 iV [rv x0, .int x1, .int x2, .int x3] D Hs h rr := by
  refine CM.of (lv := [(0, rv x0), (1, .int x1), (2, .int x2), (3, .int x3)]) (plainFor_of_name (by decide)) hl9 (by simp [lv_args, rv_cat, cat_i, cat_l, cat_f, cat_d]) (by simp [lg_sl, rv_cat, cat_i, cat_l, cat_f, cat_d]) ?_
  intro p e R s m args below meth c H ls C hH hl hin
  exact b_X8_init C hin x0 x1 x2 x3 _ H [] _ _ ls hH (fun _ q => nomatch q) (lv_sub hl [0, 1, 2, 3] rfl) hrun

/-! Massclaim.defendant(II)I -/
def f_X1_defendant_55  (x0 : Nat) (x1 : Int32) (x2 : Int32) (y0 : Int32) (h : Hp) : Rt Int32 :=
  bd (f_X1_requireState y0 h) fun _ h2 => gd (kC h2 x0 = 1) <| nw h2 8 6 fun q4 h5 => gd (kC h5 x0 = 1) <| gd (kC h5 (kR h5 2 x0) = 2) <| bd (f_X2_size (kR h5 2 x0) h5) fun v7 h8 => gd (kC h8 q4 = 8) <| bd (f_X8_init q4 v7 x1 x2 h8) fun _ h11 => gd (kC h11 (kR h2 2 x0) = 2) <| bd (f_X2_add (kR h2 2 x0) q4 h11) fun v13 h14 => some (.inl v13, h14)
def f_X1_defendant_40  (x0 : Nat) (x1 : Int32) (x2 : Int32) (y0 : Int32) (h : Hp) : Rt Int32 :=
  bd (f_X1_requireArgument y0 h) fun _ h17 => gd (kC h17 x0 = 1) <| bd (f_X1_isDone x0 h17) fun v18 h19 => if v18 = 0 then
  (f_X1_defendant_55 x0 x1 x2 (1 : Int32) h19)
  else
  (f_X1_defendant_55 x0 x1 x2 (0 : Int32) h19)
def f_X1_defendant_39  (x0 : Nat) (x1 : Int32) (x2 : Int32) (h : Hp) : Rt Int32 :=
  f_X1_defendant_40 x0 x1 x2 (0 : Int32) h
def f_X1_defendant  (x0 : Nat) (x1 : Int32) (x2 : Int32) (h : Hp) : Rt Int32 :=
  bd (f_X1_isIn (x1.toInt64) (1 : Int64) (100 : Int64) h) fun v21 h22 => if v21 = 0 then
  (f_X1_defendant_39 x0 x1 x2 h22)
  else
  (gd (kC h22 x0 = 1) <| bd (f_X1_shares x0 h22) fun v23 h24 => if (100 : Int32) < (x1 + v23) then
  (f_X1_defendant_39 x0 x1 x2 h24)
  else
  (bd (f_X1_isIn (x2.toInt64) (0 : Int64) (1000000000 : Int64) h24) fun v26 h27 => if v26 = 0 then
  (f_X1_defendant_39 x0 x1 x2 h27)
  else
  (f_X1_defendant_40 x0 x1 x2 (1 : Int32) h27)))
theorem b_X1_defendant_55 {rr : (Int32 ⊕ Ex) × Hp}  (C : CX p l R s m args meth c D Hs cX1_defendant "Massclaim" 3 (some .int) [] 9 353)  : ∀ (x0 : Nat) (x1 : Int32) (x2 : Int32) (y0 : Int32) (h : Hp) (H : Heap) (locs : List Loc) (cells slots : Nat) (ls : Array Slot), HP D Hs h H → LO Hs locs → lv_has ls 3 [(0, rv x0), (1, .int x1), (2, .int x2)] → f_X1_defendant_55 x0 x1 x2 y0 h = some rr → W p l e R s m args below meth c H locs cells slots (ZM D Hs iI rr below args s) (F0 m 55 ls [.int y0]) := by
  obtain ⟨⟨hx, hb, hml, hown, hts⟩, -⟩ := id C
  have hl9 := C.2.1.2.2.1
  intro x0 x1 x2 y0 h H locs cells slots ls hH hL hl hrun
  unfold f_X1_defendant_55 at hrun
  refine V_bd (pc := 55) C hL rfl hrun (fun rr1 e1 => Z_runS (rest := []) C hH (m_X1_requireState hl9 e1) wS_X1_182 rfl ⟨by decide, by decide⟩ rfl (Nat.le_of_ble_eq_true rfl) hl.1 dX1_defendant_55) (fun _ h2 H locs cells slots hH hL hrun => ?_)
  refine V_aload_n (pc := 58) hx hb dX1_defendant_58 rfl (lv_at hl 0 rfl) ?_
  obtain ⟨c3, hrun⟩ := gd_some hrun
  refine V_getR (pc := 59) C hH fr_X1_49 dX1_defendant_59 c3 rfl ?_
  refine V_new (pc := 62) C hH nl_X1_311 dX1_defendant_62 hrun (fun q4 h5 H cells slots hH hrun => ?_)
  refine lv_dup (pc := 65) hx hb dX1_defendant_65 (rv_cat _) ?_
  refine V_aload_n (pc := 66) hx hb dX1_defendant_66 rfl (lv_at hl 0 rfl) ?_
  obtain ⟨c6, hrun⟩ := gd_some hrun
  refine V_getR (pc := 67) C hH fr_X1_49 dX1_defendant_67 c6 rfl ?_
  obtain ⟨c9, hrun⟩ := gd_some hrun
  refine V_bd (pc := 70) C hL rfl hrun (fun rr1 e1 => Z_runV (rest := [rv q4, rv q4, rv (kR h2 2 x0)]) C hH (m_X2_size hl9 e1) wV_X1_135 c9 rfl (by decide) rfl rfl ⟨by decide, by decide⟩ rfl (by simp [csum, rv_cat, cat_i, cat_l, cat_f, cat_d]) hl.1 dX1_defendant_70) (fun v7 h8 H locs cells slots hH hL hrun => ?_)
  refine lv_iload_n (pc := 73) hx hb dX1_defendant_73 rfl (lv_at hl 1 rfl) ?_
  refine lv_iload_n (pc := 74) hx hb dX1_defendant_74 rfl (lv_at hl 2 rfl) ?_
  obtain ⟨c12, hrun⟩ := gd_some hrun
  refine V_bd (pc := 75) C hL rfl hrun (fun rr1 e1 => Z_runI (rest := [rv q4, rv (kR h2 2 x0)]) C hH (m_X8_init hl9 e1) wI_X1_323 (hH.pos c12) rfl ⟨by decide, by decide⟩ rfl (by simp [csum, rv_cat, cat_i, cat_l, cat_f, cat_d]) hl.1 dX1_defendant_75) (fun _ h11 H locs cells slots hH hL hrun => ?_)
  obtain ⟨c15, hrun⟩ := gd_some hrun
  refine V_bd (pc := 78) C hL rfl hrun (fun rr1 e1 => Z_runV (rest := []) C hH (m_X2_add hl9 e1) wV_X1_174 c15 rfl (by decide) rfl rfl ⟨by decide, by decide⟩ rfl (Nat.le_of_ble_eq_true rfl) hl.1 dX1_defendant_78) (fun v13 h14 H locs cells slots hH hL hrun => ?_)
  exact V_iret (pc := 81) C hH hL hrun dX1_defendant_81

theorem b_X1_defendant_40 {rr : (Int32 ⊕ Ex) × Hp}  (C : CX p l R s m args meth c D Hs cX1_defendant "Massclaim" 3 (some .int) [] 9 353)  : ∀ (x0 : Nat) (x1 : Int32) (x2 : Int32) (y0 : Int32) (h : Hp) (H : Heap) (locs : List Loc) (cells slots : Nat) (ls : Array Slot), HP D Hs h H → LO Hs locs → lv_has ls 3 [(0, rv x0), (1, .int x1), (2, .int x2)] → f_X1_defendant_40 x0 x1 x2 y0 h = some rr → W p l e R s m args below meth c H locs cells slots (ZM D Hs iI rr below args s) (F0 m 40 ls [.int y0]) := by
  obtain ⟨⟨hx, hb, hml, hown, hts⟩, -⟩ := id C
  have hl9 := C.2.1.2.2.1
  intro x0 x1 x2 y0 h H locs cells slots ls hH hL hl hrun
  unfold f_X1_defendant_40 at hrun
  refine V_bd (pc := 40) C hL rfl hrun (fun rr1 e1 => Z_runS (rest := []) C hH (m_X1_requireArgument hl9 e1) wS_X1_131 rfl ⟨by decide, by decide⟩ rfl (Nat.le_of_ble_eq_true rfl) hl.1 dX1_defendant_40) (fun _ h17 H locs cells slots hH hL hrun => ?_)
  refine V_aload_n (pc := 43) hx hb dX1_defendant_43 rfl (lv_at hl 0 rfl) ?_
  obtain ⟨c20, hrun⟩ := gd_some hrun
  refine V_bd (pc := 44) C hL rfl hrun (fun rr1 e1 => Z_runV (rest := []) C hH (m_X1_isDone hl9 e1) wV_X1_225 c20 rfl (by decide) rfl rfl ⟨by decide, by decide⟩ rfl (Nat.le_of_ble_eq_true rfl) hl.1 dX1_defendant_44) (fun v18 h19 H locs cells slots hH hL hrun => ?_)
  refine lv_if_ne (tgt := 54) (pc := 47) hx hb dX1_defendant_47 (by decide) (fun c_ => ?_) (fun c_ => ?_)
  · have hrun := ite_f hrun c_
    refine lv_iconst (v := (0 : Int32)) (pc := 54) hx hb dX1_defendant_54 (by decide) ?_
    exact b_X1_defendant_55 C x0 x1 x2 (0 : Int32) h19 H locs cells slots ls hH hL (lv_sub hl [0, 1, 2] rfl) hrun
  · have hrun := ite_t hrun c_
    refine lv_iconst (v := (1 : Int32)) (pc := 50) hx hb dX1_defendant_50 (by decide) ?_
    refine lv_goto (tgt := 55) (pc := 51) hx hb dX1_defendant_51 (by decide) ?_
    exact b_X1_defendant_55 C x0 x1 x2 (1 : Int32) h19 H locs cells slots ls hH hL (lv_sub hl [0, 1, 2] rfl) hrun

theorem b_X1_defendant_39 {rr : (Int32 ⊕ Ex) × Hp}  (C : CX p l R s m args meth c D Hs cX1_defendant "Massclaim" 3 (some .int) [] 9 353)  : ∀ (x0 : Nat) (x1 : Int32) (x2 : Int32) (h : Hp) (H : Heap) (locs : List Loc) (cells slots : Nat) (ls : Array Slot), HP D Hs h H → LO Hs locs → lv_has ls 3 [(0, rv x0), (1, .int x1), (2, .int x2)] → f_X1_defendant_39 x0 x1 x2 h = some rr → W p l e R s m args below meth c H locs cells slots (ZM D Hs iI rr below args s) (F0 m 39 ls []) := by
  obtain ⟨⟨hx, hb, hml, hown, hts⟩, -⟩ := id C
  have hl9 := C.2.1.2.2.1
  intro x0 x1 x2 h H locs cells slots ls hH hL hl hrun
  unfold f_X1_defendant_39 at hrun
  refine lv_iconst (v := (0 : Int32)) (pc := 39) hx hb dX1_defendant_39 (by decide) ?_
  exact b_X1_defendant_40 C x0 x1 x2 (0 : Int32) h H locs cells slots ls hH hL (lv_sub hl [0, 1, 2] rfl) hrun

theorem b_X1_defendant {rr : (Int32 ⊕ Ex) × Hp}  (C : CX p l R s m args meth c D Hs cX1_defendant "Massclaim" 3 (some .int) [] 9 353)  : ∀ (x0 : Nat) (x1 : Int32) (x2 : Int32) (h : Hp) (H : Heap) (locs : List Loc) (cells slots : Nat) (ls : Array Slot), HP D Hs h H → LO Hs locs → lv_has ls 3 [(0, rv x0), (1, .int x1), (2, .int x2)] → f_X1_defendant x0 x1 x2 h = some rr → W p l e R s m args below meth c H locs cells slots (ZM D Hs iI rr below args s) (F0 m 0 ls []) := by
  obtain ⟨⟨hx, hb, hml, hown, hts⟩, -⟩ := id C
  have hl9 := C.2.1.2.2.1
  intro x0 x1 x2 h H locs cells slots ls hH hL hl hrun
  unfold f_X1_defendant at hrun
  refine lv_iload_n (pc := 0) hx hb dX1_defendant_0 rfl (lv_at hl 1 rfl) ?_
  refine lv_i2l (pc := 1) hx hb dX1_defendant_1 rfl ?_
  refine lv_lconst (v := (1 : Int64)) (pc := 2) hx hb dX1_defendant_2 (by decide) ?_
  refine lv_ldc2 (pc := 3) hx hb hown (hts _ q404) dX1_defendant_3 ?_
  refine V_bd (pc := 6) C hL rfl hrun (fun rr1 e1 => Z_runS (rest := []) C hH (m_X1_isIn hl9 e1) wS_X1_127 rfl ⟨by decide, by decide⟩ rfl (Nat.le_of_ble_eq_true rfl) hl.1 dX1_defendant_6) (fun v21 h22 H locs cells slots hH hL hrun => ?_)
  refine lv_if_eq (tgt := 39) (pc := 9) hx hb dX1_defendant_9 (by decide) (fun c_ => ?_) (fun c_ => ?_)
  · have hrun := ite_t hrun c_
    exact b_X1_defendant_39 C x0 x1 x2 h22 H locs cells slots ls hH hL (lv_sub hl [0, 1, 2] rfl) hrun
  · have hrun := ite_f hrun c_
    refine lv_iload_n (pc := 12) hx hb dX1_defendant_12 rfl (lv_at hl 1 rfl) ?_
    refine V_aload_n (pc := 13) hx hb dX1_defendant_13 rfl (lv_at hl 0 rfl) ?_
    obtain ⟨c25, hrun⟩ := gd_some hrun
    refine V_bd (pc := 14) C hL rfl hrun (fun rr1 e1 => Z_runV (rest := [.int x1]) C hH (m_X1_shares hl9 e1) wV_X1_318 c25 rfl (by decide) rfl rfl ⟨by decide, by decide⟩ rfl (Nat.le_of_ble_eq_true rfl) hl.1 dX1_defendant_14) (fun v23 h24 H locs cells slots hH hL hrun => ?_)
    refine lv_iadd (pc := 17) hx hb dX1_defendant_17 ?_
    refine lv_bipush (v := (100 : Int32)) (pc := 18) hx hb dX1_defendant_18 (by decide) ?_
    refine lv_icmp_gt (tgt := 39) (pc := 20) hx hb dX1_defendant_20 (by decide) (fun c_ => ?_) (fun c_ => ?_)
    · have hrun := ite_t hrun c_
      exact b_X1_defendant_39 C x0 x1 x2 h24 H locs cells slots ls hH hL (lv_sub hl [0, 1, 2] rfl) hrun
    · have hrun := ite_f hrun c_
      refine lv_iload_n (pc := 23) hx hb dX1_defendant_23 rfl (lv_at hl 2 rfl) ?_
      refine lv_i2l (pc := 24) hx hb dX1_defendant_24 rfl ?_
      refine lv_lconst (v := (0 : Int64)) (pc := 25) hx hb dX1_defendant_25 (by decide) ?_
      refine lv_ldc2 (pc := 26) hx hb hown (hts _ q1328) dX1_defendant_26 ?_
      refine V_bd (pc := 29) C hL rfl hrun (fun rr1 e1 => Z_runS (rest := []) C hH (m_X1_isIn hl9 e1) wS_X1_127 rfl ⟨by decide, by decide⟩ rfl (Nat.le_of_ble_eq_true rfl) hl.1 dX1_defendant_29) (fun v26 h27 H locs cells slots hH hL hrun => ?_)
      refine lv_if_eq (tgt := 39) (pc := 32) hx hb dX1_defendant_32 (by decide) (fun c_ => ?_) (fun c_ => ?_)
      · have hrun := ite_t hrun c_
        exact b_X1_defendant_39 C x0 x1 x2 h27 H locs cells slots ls hH hL (lv_sub hl [0, 1, 2] rfl) hrun
      · have hrun := ite_f hrun c_
        refine lv_iconst (v := (1 : Int32)) (pc := 35) hx hb dX1_defendant_35 (by decide) ?_
        refine lv_goto (tgt := 40) (pc := 36) hx hb dX1_defendant_36 (by decide) ?_
        exact b_X1_defendant_40 C x0 x1 x2 (1 : Int32) h27 H locs cells slots ls hH hL (lv_sub hl [0, 1, 2] rfl) hrun

theorem m_X1_defendant {l : Launch} {D : va_G} {Hs : Heap} {h : Hp} {rr : (Int32 ⊕ Ex) × Hp} (hl9 : l.stackTraces = false) {x0 : Nat} {x1 : Int32} {x2 : Int32} (hrun : f_X1_defendant x0 x1 x2 h = some rr) : CM l yX1_defendant (ws_ yX1_defendant cX1_defendant 3 (some .int)) 9 353 iI [rv x0, .int x1, .int x2] D Hs h rr := by
  refine CM.of (lv := [(0, rv x0), (1, .int x1), (2, .int x2)]) (plainFor_of_name (by decide)) hl9 (by simp [lv_args, rv_cat, cat_i, cat_l, cat_f, cat_d]) (by simp [lg_sl, rv_cat, cat_i, cat_l, cat_f, cat_d]) ?_
  intro p e R s m args below meth c H ls C hH hl hin
  exact b_X1_defendant C x0 x1 x2 _ H [] _ _ ls hH (fun _ q => nomatch q) (lv_sub hl [0, 1, 2] rfl) hrun

/-! MassclaimLaw.defendant(LMassclaim;II[J)I -/
def f_X0_defendant_13  (y0 : Nat) (h : Hp) : Rt Int32 :=
  some (.inl (1 : Int32), h)
def f_X0_defendant_17  (y0 : Nat) (h : Hp) : Rt Int32 :=
  some (.inl (2 : Int32), h)
def f_X0_defendant  (x0 : Nat) (x1 : Int32) (x2 : Int32) (x3 : Nat) (h : Hp) : Rt Int32 :=
  gd (kC h x0 = 1) <| bdH (f_X1_defendant x0 x1 x2 h)
  (fun v1 h2 => gd (kC h2 x3 = 102 ∧ ixo (0 : Int32) (kN h2 x3)) <| vl (tL h2 x3 ((0 : Int32)).toNatClampNeg (v1.toInt64)) fun h5 => some (.inl (0 : Int32), h5))
  (fun ex6 h7 => if ex6.1 = 902 then
  (f_X0_defendant_13 ex6.2 h7)
  else
  if ex6.1 = 903 then
  (f_X0_defendant_17 ex6.2 h7)
  else
  none)
theorem b_X0_defendant_13 {rr : (Int32 ⊕ Ex) × Hp}  (C : CX p l R s m args meth c D Hs cX0_defendant "MassclaimLaw" 5 (some .int) [(0, 10, 13, 13), (0, 10, 17, 19)] 10 375)  : ∀ (y0 : Nat) (h : Hp) (H : Heap) (locs : List Loc) (cells slots : Nat) (ls : Array Slot), HP D Hs h H → LO Hs locs → lv_has ls 5 [] → f_X0_defendant_13 y0 h = some rr → W p l e R s m args below meth c H locs cells slots (ZM D Hs iI rr below args s) (F0 m 13 ls [rv y0]) := by
  obtain ⟨⟨hx, hb, hml, hown, hts⟩, -⟩ := id C
  have hl9 := C.2.1.2.2.1
  intro y0 h H locs cells slots ls hH hL hl hrun
  unfold f_X0_defendant_13 at hrun
  refine V_astore (i := 4) (lv' := [(4, rv y0)]) (pc := 13) hx hb dX0_defendant_13 hl (by decide) rfl (fun ls hl => ?_)
  refine lv_iconst (v := (1 : Int32)) (pc := 15) hx hb dX0_defendant_15 (by decide) ?_
  exact V_iret (pc := 16) C hH hL hrun dX0_defendant_16

theorem b_X0_defendant_17 {rr : (Int32 ⊕ Ex) × Hp}  (C : CX p l R s m args meth c D Hs cX0_defendant "MassclaimLaw" 5 (some .int) [(0, 10, 13, 13), (0, 10, 17, 19)] 10 375)  : ∀ (y0 : Nat) (h : Hp) (H : Heap) (locs : List Loc) (cells slots : Nat) (ls : Array Slot), HP D Hs h H → LO Hs locs → lv_has ls 5 [] → f_X0_defendant_17 y0 h = some rr → W p l e R s m args below meth c H locs cells slots (ZM D Hs iI rr below args s) (F0 m 17 ls [rv y0]) := by
  obtain ⟨⟨hx, hb, hml, hown, hts⟩, -⟩ := id C
  have hl9 := C.2.1.2.2.1
  intro y0 h H locs cells slots ls hH hL hl hrun
  unfold f_X0_defendant_17 at hrun
  refine V_astore (i := 4) (lv' := [(4, rv y0)]) (pc := 17) hx hb dX0_defendant_17 hl (by decide) rfl (fun ls hl => ?_)
  refine lv_iconst (v := (2 : Int32)) (pc := 19) hx hb dX0_defendant_19 (by decide) ?_
  exact V_iret (pc := 20) C hH hL hrun dX0_defendant_20

theorem b_X0_defendant {rr : (Int32 ⊕ Ex) × Hp}  (C : CX p l R s m args meth c D Hs cX0_defendant "MassclaimLaw" 5 (some .int) [(0, 10, 13, 13), (0, 10, 17, 19)] 10 375)  : ∀ (x0 : Nat) (x1 : Int32) (x2 : Int32) (x3 : Nat) (h : Hp) (H : Heap) (locs : List Loc) (cells slots : Nat) (ls : Array Slot), HP D Hs h H → LO Hs locs → lv_has ls 5 [(0, rv x0), (1, .int x1), (2, .int x2), (3, rv x3)] → f_X0_defendant x0 x1 x2 x3 h = some rr → W p l e R s m args below meth c H locs cells slots (ZM D Hs iI rr below args s) (F0 m 0 ls []) := by
  obtain ⟨⟨hx, hb, hml, hown, hts⟩, -⟩ := id C
  have hl9 := C.2.1.2.2.1
  intro x0 x1 x2 x3 h H locs cells slots ls hH hL hl hrun
  unfold f_X0_defendant at hrun
  refine V_aload_n (pc := 0) hx hb dX0_defendant_0 rfl (lv_at hl 3 rfl) ?_
  refine lv_iconst (v := (0 : Int32)) (pc := 1) hx hb dX0_defendant_1 (by decide) ?_
  refine V_aload_n (pc := 2) hx hb dX0_defendant_2 rfl (lv_at hl 0 rfl) ?_
  refine lv_iload_n (pc := 3) hx hb dX0_defendant_3 rfl (lv_at hl 1 rfl) ?_
  refine lv_iload_n (pc := 4) hx hb dX0_defendant_4 rfl (lv_at hl 2 rfl) ?_
  obtain ⟨c3, hrun⟩ := gd_some hrun
  refine V_bdH (pc := 5) hL hrun (fun rr1 e1 => Z_runV (rest := [.int (0 : Int32), rv x3]) C hH (m_X1_defendant hl9 e1) wV_X0_71 c3 rfl (by decide) rfl rfl ⟨by decide, by decide⟩ rfl (by simp [csum, rv_cat, cat_i, cat_l, cat_f, cat_d]) hl.1 dX0_defendant_5) (fun v1 h2 H locs cells slots hH hL hrun => ?_) (fun x_ q_ ce_ h7 H locs cells slots hH hL hrun hc_ hv_ hcl_ => ?_)
  · refine lv_i2l (pc := 8) hx hb dX0_defendant_8 rfl ?_
    obtain ⟨c4, hrun⟩ := gd_some hrun
    refine V_last (pc := 9) C hH hL dX0_defendant_9 c4 hrun (fun h5 H locs hH hL hrun => ?_)
    refine lv_goto (tgt := 21) (pc := 10) hx hb dX0_defendant_10 (by decide) ?_
    refine lv_iconst (v := (0 : Int32)) (pc := 21) hx hb dX0_defendant_21 (by decide) ?_
    exact V_iret (pc := 22) C hH hL hrun dX0_defendant_22
  · by_cases n902 : x_ = 902
    · subst n902
      have hrun := ite_t hrun rfl
      refine vx_catch (E := "java/lang/IllegalArgumentException") (name := "java/lang/IllegalArgumentException") hown (tableOf []) ⟨0, 10, 13, 13⟩ (tableOf [(0, 10, 17, 19)]) (by rw [C.2.1.2.2.2.2]; rfl) (fun z hz => nomatch hz) (by decide) (by decide) (hts _ q449) (va_Nw.use rfl (C.2.1.2.2.2.1.2.1 _ q463 rfl)) hc_ hv_ hcl_ ?_
      exact b_X0_defendant_13 C (q_ + 1) h7 H locs cells slots ls hH hL (lv_sub hl [] rfl) hrun
    have hrun := ite_f hrun n902
    by_cases n903 : x_ = 903
    · subst n903
      have hrun := ite_t hrun rfl
      refine vx_catch (E := "java/lang/IllegalStateException") (name := "java/lang/IllegalStateException") hown (tableOf [(0, 10, 13, 13)]) ⟨0, 10, 17, 19⟩ (tableOf []) (by rw [C.2.1.2.2.2.2]; rfl) (fun z hz => by simp only [tableOf, List.map, List.mem_cons, List.not_mem_nil, or_false] at hz; rcases hz with rfl <;> first | exact Or.inr ⟨by decide, "java/lang/IllegalArgumentException", hts _ q449, nc_at C (by decide)⟩) (by decide) (by decide) (hts _ q585) (va_Nw.use rfl (C.2.1.2.2.2.1.2.1 _ q702 rfl)) hc_ hv_ hcl_ ?_
      exact b_X0_defendant_17 C (q_ + 1) h7 H locs cells slots ls hH hL (lv_sub hl [] rfl) hrun
    have hrun := ite_f hrun n903
    cases hrun

theorem m_X0_defendant {l : Launch} {D : va_G} {Hs : Heap} {h : Hp} {rr : (Int32 ⊕ Ex) × Hp} (hl9 : l.stackTraces = false) {x0 : Nat} {x1 : Int32} {x2 : Int32} {x3 : Nat} (hrun : f_X0_defendant x0 x1 x2 x3 h = some rr) : CM l yX0_defendant (wsW_ yX0_defendant cX0_defendant 5 (some .int) [(0, 10, 13, 13), (0, 10, 17, 19)]) 10 375 iI [rv x0, .int x1, .int x2, rv x3] D Hs h rr := by
  refine CM.ofH (lv := [(0, rv x0), (1, .int x1), (2, .int x2), (3, rv x3)]) (plainFor_of_name (by decide)) hl9 (by simp [lv_args, rv_cat, cat_i, cat_l, cat_f, cat_d]) (by simp [lg_sl, rv_cat, cat_i, cat_l, cat_f, cat_d]) ?_
  intro p e R s m args below meth c H ls C hH hl hin
  exact b_X0_defendant C x0 x1 x2 x3 _ H [] _ _ ls hH (fun _ q => nomatch q) (lv_sub hl [0, 1, 2, 3] rfl) hrun

/-! MassclaimModel.shares()I -/
def f_X4_shares_4  : Nat → Nat → Int32 → Int32 → Hp → Rt Int32
  | 0, _, _, _, _ => none
  | n + 1, x0, x1, x2, h => gd (kC h x0 = 4) <| gd (kC h (kR h 308 x0) = 18) <| bd (f_J2_size (kR h 308 x0) h) fun v2 h3 => if v2 ≤ x2 then
  (some (.inl x1, h3))
  else
  (gd (kC h3 x0 = 4) <| gd (kC h3 (kR h3 308 x0) = 18) <| bd (f_J2_get (kR h3 308 x0) x2 h3) fun v6 h7 => gd (v6 = 0 ∨ kC h7 v6 = 9) <| gd (kC h7 v6 = 9) <| vl (x1 + (kI h7 800 v6)) fun v11 => vl (x2 + (1 : Int32)) fun v12 => f_X4_shares_4 n x0 v11 v12 h7)
def f_X4_shares  (x0 : Nat) (h : Hp) : Rt Int32 :=
  f_X4_shares_4 FU x0 (0 : Int32) (0 : Int32) h
theorem b_X4_shares_4 {rr : (Int32 ⊕ Ex) × Hp}  (C : CX p l R s m args meth c D Hs cX4_shares "MassclaimModel" 3 (some .int) [] 4 64)  : ∀ (n : Nat) (x0 : Nat) (x1 : Int32) (x2 : Int32) (h : Hp) (H : Heap) (locs : List Loc) (cells slots : Nat) (ls : Array Slot), HP D Hs h H → LO Hs locs → lv_has ls 3 [(0, rv x0), (1, .int x1), (2, .int x2)] → f_X4_shares_4 n x0 x1 x2 h = some rr → W p l e R s m args below meth c H locs cells slots (ZM D Hs iI rr below args s) (F0 m 4 ls []) := by
  obtain ⟨⟨hx, hb, hml, hown, hts⟩, -⟩ := id C
  have hl9 := C.2.1.2.2.1
  intro n
  induction n with
  | zero =>
    intro x0 x1 x2 h H locs cells slots ls hH hL hl hrun
    cases (show (none : Option _) = some rr from hrun)
  | succ n ih =>
    intro x0 x1 x2 h H locs cells slots ls hH hL hl hrun
    rw [f_X4_shares_4] at hrun
    refine lv_iload_n (pc := 4) hx hb dX4_shares_4 rfl (lv_at hl 2 rfl) ?_
    refine V_aload_n (pc := 5) hx hb dX4_shares_5 rfl (lv_at hl 0 rfl) ?_
    obtain ⟨c1, hrun⟩ := gd_some hrun
    refine V_getR (pc := 6) C hH fr_X4_23 dX4_shares_6 c1 rfl ?_
    obtain ⟨c4, hrun⟩ := gd_some hrun
    refine V_bd (pc := 9) C hL rfl hrun (fun rr1 e1 => Z_runV (rest := [.int x2]) C hH (m_J2_size hl9 e1) wV_X4_94 c4 rfl (by decide) rfl rfl ⟨by decide, by decide⟩ rfl (Nat.le_of_ble_eq_true rfl) hl.1 dX4_shares_9) (fun v2 h3 H locs cells slots hH hL hrun => ?_)
    refine lv_icmp_ge (tgt := 38) (pc := 12) hx hb dX4_shares_12 (by decide) (fun c_ => ?_) (fun c_ => ?_)
    · have hrun := ite_t hrun c_
      refine lv_iload_n (pc := 38) hx hb dX4_shares_38 rfl (lv_at hl 1 rfl) ?_
      exact V_iret (pc := 39) C hH hL hrun dX4_shares_39
    · have hrun := ite_f hrun c_
      refine lv_iload_n (pc := 15) hx hb dX4_shares_15 rfl (lv_at hl 1 rfl) ?_
      refine V_aload_n (pc := 16) hx hb dX4_shares_16 rfl (lv_at hl 0 rfl) ?_
      obtain ⟨c5, hrun⟩ := gd_some hrun
      refine V_getR (pc := 17) C hH fr_X4_23 dX4_shares_17 c5 rfl ?_
      refine lv_iload_n (pc := 20) hx hb dX4_shares_20 rfl (lv_at hl 2 rfl) ?_
      obtain ⟨c8, hrun⟩ := gd_some hrun
      refine V_bd (pc := 21) C hL rfl hrun (fun rr1 e1 => Z_runV (rest := [.int x1]) C hH (m_J2_get hl9 e1) wV_X4_108 c8 rfl (by decide) rfl rfl ⟨by decide, by decide⟩ rfl (Nat.le_of_ble_eq_true rfl) hl.1 dX4_shares_21) (fun v6 h7 H locs cells slots hH hL hrun => ?_)
      obtain ⟨c9, hrun⟩ := gd_some hrun
      refine V_castX (pc := 24) (ci := 8) C hH rfl (by decide) q2211 dX4_shares_24 c9 ?_
      obtain ⟨c10, hrun⟩ := gd_some hrun
      refine V_getI (pc := 27) C hH fr_X4_297 dX4_shares_27 c10 rfl ?_
      refine lv_iadd (pc := 30) hx hb dX4_shares_30 ?_
      refine lv_topi (fun v11 ev11 => ?_)
      have hrun := vl_at hrun v11 ev11
      refine lv_istore_n (i := 1) (lv' := [(1, .int v11), (0, rv x0), (2, .int x2)]) (pc := 31) hx hb dX4_shares_31 rfl hl (by decide) (by simp [rv_cat, cat_i, cat_l, cat_f, cat_d]) (fun ls hl => ?_)
      obtain ⟨v12, ev12⟩ : ∃ y : Int32, y = x2 + (1 : Int32) := ⟨_, rfl⟩
      have hrun := vl_at hrun v12 ev12
      refine lv_iinc (v := v12) (lv' := [(2, .int v12), (1, .int v11), (0, rv x0)]) (pc := 32) hx hb dX4_shares_32 hl (k := 2) rfl (by rw [ev12]; rfl) (by decide) (by first | rfl | simp [rv_cat, cat_i, cat_l, cat_f, cat_d]) (fun ls hl => ?_)
      refine lv_goto (tgt := 4) (pc := 35) hx hb dX4_shares_35 (by decide) ?_
      exact ih x0 v11 v12 h7 H locs cells slots ls hH hL (lv_sub hl [2, 1, 0] rfl) hrun

theorem b_X4_shares {rr : (Int32 ⊕ Ex) × Hp}  (C : CX p l R s m args meth c D Hs cX4_shares "MassclaimModel" 3 (some .int) [] 4 64)  : ∀ (x0 : Nat) (h : Hp) (H : Heap) (locs : List Loc) (cells slots : Nat) (ls : Array Slot), HP D Hs h H → LO Hs locs → lv_has ls 3 [(0, rv x0)] → f_X4_shares x0 h = some rr → W p l e R s m args below meth c H locs cells slots (ZM D Hs iI rr below args s) (F0 m 0 ls []) := by
  obtain ⟨⟨hx, hb, hml, hown, hts⟩, -⟩ := id C
  have hl9 := C.2.1.2.2.1
  intro x0 h H locs cells slots ls hH hL hl hrun
  unfold f_X4_shares at hrun
  refine lv_iconst (v := (0 : Int32)) (pc := 0) hx hb dX4_shares_0 (by decide) ?_
  refine lv_istore_n (i := 1) (lv' := [(1, .int (0 : Int32)), (0, rv x0)]) (pc := 1) hx hb dX4_shares_1 rfl hl (by decide) (by simp [rv_cat, cat_i, cat_l, cat_f, cat_d]) (fun ls hl => ?_)
  refine lv_iconst (v := (0 : Int32)) (pc := 2) hx hb dX4_shares_2 (by decide) ?_
  refine lv_istore_n (i := 2) (lv' := [(2, .int (0 : Int32)), (1, .int (0 : Int32)), (0, rv x0)]) (pc := 3) hx hb dX4_shares_3 rfl hl (by decide) rfl (fun ls hl => ?_)
  exact b_X4_shares_4 C FU x0 (0 : Int32) (0 : Int32) h H locs cells slots ls hH hL (lv_sub hl [2, 1, 0] rfl) hrun

theorem m_X4_shares {l : Launch} {D : va_G} {Hs : Heap} {h : Hp} {rr : (Int32 ⊕ Ex) × Hp} (hl9 : l.stackTraces = false) {x0 : Nat} (hrun : f_X4_shares x0 h = some rr) : CM l yX4_shares (ws_ yX4_shares cX4_shares 3 (some .int)) 4 64 iI [rv x0] D Hs h rr := by
  refine CM.of (lv := [(0, rv x0)]) (plainFor_of_name (by decide)) hl9 (by simp [lv_args, rv_cat, cat_i, cat_l, cat_f, cat_d]) (by simp [lg_sl, rv_cat, cat_i, cat_l, cat_f, cat_d]) ?_
  intro p e R s m args below meth c H ls C hH hl hin
  exact b_X4_shares C x0 _ H [] _ _ ls hH (fun _ q => nomatch q) (lv_sub hl [0] rfl) hrun

/-! MassclaimModel$Defendant.<init>()V -/
def f_X9_init  (x0 : Nat) (h : Hp) : Rt Unit :=
  gd (kC h x0 = 9) <| some (.inl (), h)
theorem b_X9_init {rr : (Unit ⊕ Ex) × Hp}  (C : CX p l R s m args meth c D Hs cX9_init "MassclaimModel$Defendant" 1 none [] 1 20) (hin : meth.name = "<init>")  : ∀ (x0 : Nat) (h : Hp) (H : Heap) (locs : List Loc) (cells slots : Nat) (ls : Array Slot), HP D Hs h H → LO Hs locs → lv_has ls 1 [(0, rv x0)] → f_X9_init x0 h = some rr → W p l e R s m args below meth c H locs cells slots (ZM D Hs iV rr below args s) (F0 m 0 ls []) := by
  obtain ⟨⟨hx, hb, hml, hown, hts⟩, -⟩ := id C
  have hl9 := C.2.1.2.2.1
  intro x0 h H locs cells slots ls hH hL hl hrun
  unfold f_X9_init at hrun
  refine V_aload_n (pc := 0) hx hb dX9_init_0 rfl (lv_at hl 0 rfl) ?_
  obtain ⟨c1, hrun⟩ := gd_some hrun
  refine V_objInit (pc := 1) C q2216 q113 q114 (hH.pos c1) dX9_init_1 (by decide) (by simp [csum, rv_cat, cat_i, cat_l, cat_f, cat_d]) hl.1 ?_
  exact V_vret (pc := 4) C hH hL hrun dX9_init_4

theorem m_X9_init {l : Launch} {D : va_G} {Hs : Heap} {h : Hp} {rr : (Unit ⊕ Ex) × Hp} (hl9 : l.stackTraces = false) {x0 : Nat} (hrun : f_X9_init x0 h = some rr) : CM l yX9_init (ws_ yX9_init cX9_init 1 none) 1 20 iV [rv x0] D Hs h rr := by
  refine CM.of (lv := [(0, rv x0)]) (plainFor_of_name (by decide)) hl9 (by simp [lv_args, rv_cat, cat_i, cat_l, cat_f, cat_d]) (by simp [lg_sl, rv_cat, cat_i, cat_l, cat_f, cat_d]) ?_
  intro p e R s m args below meth c H ls C hH hl hin
  exact b_X9_init C hin x0 _ H [] _ _ ls hH (fun _ q => nomatch q) (lv_sub hl [0] rfl) hrun
end WK6

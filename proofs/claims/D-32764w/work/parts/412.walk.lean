section WK12
variable {p : Program} {l : Launch} {e : Env} {R : Room} {s : State} {m : MethodId} {args : Array Value} {below : List Frame} {meth : Method} {c : Code} {D : va_G} {Hs : Heap} {F X : Nat}
/-! MassclaimModel.claim(IIII)I -/
def f_X4_claim_67  (h : Hp) : Rt Int32 :=
  some (.inl (0 : Int32), h)
def f_X4_claim_156  (x0 : Nat) (x2 : Int32) (x3 : Int32) (x4 : Int32) (x6 : Nat) (y0 : Nat) (y1 : Int32) (h : Hp) : Rt Int32 :=
  gd (kC h y0 = 4) <| bd (f_X4_isGood y0 y1 (3 : Int32) h) fun v1 h2 => if v1 = 0 then
  (some (.inl (0 : Int32), h2))
  else
  (nw h2 13 10 fun q4 h5 => gd (kC h5 q4 = 13) <| bd (f_X13_init q4 h5) fun _ h7 => gd (kC h7 q4 = 13) <| vl (sR h7 1200 q4 x6) fun h10 => gd (kC h10 q4 = 13) <| vl (sI h10 1201 q4 x2) fun h12 => bd (f_J10_min_2 x4 (33 : Int32) h12) fun v13 h14 => gd (kC h14 q4 = 13) <| vl (sI h14 1202 q4 v13) fun h16 => gd (kC h16 q4 = 13) <| na h16 101 (2 : Int32) fun q18 h19 => gd (kC h19 q18 = 101 ∧ ixo (0 : Int32) (kN h19 q18)) <| vl (tI h19 q18 ((0 : Int32)).toNatClampNeg x3) fun h21 => gd (kC h21 x0 = 4) <| gd (kC h21 q18 = 101 ∧ ixo (1 : Int32) (kN h21 q18)) <| vl (tI h21 q18 ((1 : Int32)).toNatClampNeg (kI h21 301 x0)) fun h24 => gd (kC h24 (kR h16 1209 q4) = 18) <| bd (f_J2_add (kR h16 1209 q4) q18 h24) fun v25 h26 => gd (kC h26 x6 = 6) <| vl (sR h26 517 x6 q4) fun h29 => gd (kC h29 x0 = 4) <| gd (kC h29 (kR h29 320 x0) = 18) <| bd (f_J2_add (kR h29 320 x0) q4 h29) fun v31 h32 => gd (kC h32 x0 = 4) <| bd (f_X4_ring x0 q4 h32) fun _ h35 => gd (kC h35 x0 = 4) <| gd (kC h35 (kR h35 320 x0) = 18) <| bd (f_J2_size (kR h35 320 x0) h35) fun v38 h39 => some (.inl (v38 - (1 : Int32)), h39))
def f_X4_claim_155  (x0 : Nat) (x2 : Int32) (x3 : Int32) (x4 : Int32) (x6 : Nat) (y0 : Nat) (h : Hp) : Rt Int32 :=
  f_X4_claim_156 x0 x2 x3 x4 x6 y0 (0 : Int32) h
def f_X4_claim_131  (x0 : Nat) (x2 : Int32) (x3 : Int32) (x4 : Int32) (x6 : Nat) (y0 : Int32) (h : Hp) : Rt Int32 :=
  if y0 = 0 then
  (f_X4_claim_155 x0 x2 x3 x4 x6 x0 h)
  else
  (gd (kC h x0 = 4) <| gd (kC h (kR h 320 x0) = 18) <| bd (f_J2_size (kR h 320 x0) h) fun v42 h43 => if (50 : Int32) ≤ v42 then
  (f_X4_claim_155 x0 x2 x3 x4 x6 x0 h43)
  else
  (f_X4_claim_156 x0 x2 x3 x4 x6 x0 (1 : Int32) h43))
def f_X4_claim_130  (x0 : Nat) (x2 : Int32) (x3 : Int32) (x4 : Int32) (x6 : Nat) (h : Hp) : Rt Int32 :=
  f_X4_claim_131 x0 x2 x3 x4 x6 (0 : Int32) h
def f_X4_claim_42  (x0 : Nat) (x1 : Int32) (x2 : Int32) (x3 : Int32) (x4 : Int32) (y0 : Int32) (h : Hp) : Rt Int32 :=
  gd (kC h x0 = 4) <| bd (f_X4_isPerson x0 x1 h) fun v45 h46 => gd (kC h46 x0 = 4) <| bd (f_X4_isGood x0 v45 (1 : Int32) h46) fun v48 h49 => if v48 = 0 then
  (f_X4_claim_67  h49)
  else
  (gd (kC h49 x0 = 4) <| bd (f_X4_isGood x0 y0 (2 : Int32) h49) fun v51 h52 => if v51 = 0 then
  (f_X4_claim_67  h52)
  else
  (gd (kC h52 x0 = 4) <| gd (kC h52 (kR h52 302 x0) = 18) <| bd (f_J2_get (kR h52 302 x0) x1 h52) fun v55 h56 => gd (v55 = 0 ∨ kC h56 v55 = 6) <| gd (kC h56 x0 = 4) <| if (kI h56 309 x0) = (3 : Int32) then
  (bd (f_X4_isIn x0 v55 h56) fun v60 h61 => if v60 = 0 then
  (f_X4_claim_130 x0 x2 x3 x4 v55 h61)
  else
  (gd (kC h61 v55 = 6) <| if (kI h61 504 v55) ≤ 0 then
  (f_X4_claim_130 x0 x2 x3 x4 v55 h61)
  else
  (if (1080 : Int32) ≤ (kI h61 511 v55) then
  (f_X4_claim_130 x0 x2 x3 x4 v55 h61)
  else
  (if (kR h61 517 v55) = 0 then
  (f_X4_claim_131 x0 x2 x3 x4 v55 (1 : Int32) h61)
  else
  (f_X4_claim_130 x0 x2 x3 x4 v55 h61)))))
  else
  (f_X4_claim_130 x0 x2 x3 x4 v55 h56)))
def f_X4_claim_41  (x0 : Nat) (x1 : Int32) (x2 : Int32) (x3 : Int32) (x4 : Int32) (h : Hp) : Rt Int32 :=
  f_X4_claim_42 x0 x1 x2 x3 x4 (0 : Int32) h
def f_X4_claim  (x0 : Nat) (x1 : Int32) (x2 : Int32) (x3 : Int32) (x4 : Int32) (h : Hp) : Rt Int32 :=
  bd (f_X4_isWithin (x2.toInt64) (0 : Int64) (3 : Int64) h) fun v63 h64 => if v63 = 0 then
  (f_X4_claim_41 x0 x1 x2 x3 x4 h64)
  else
  (bd (f_X4_isWithin (x3.toInt64) (0 : Int64) (5 : Int64) h64) fun v65 h66 => if v65 = 0 then
  (f_X4_claim_41 x0 x1 x2 x3 x4 h66)
  else
  (bd (f_X4_isWithin (x4.toInt64) (0 : Int64) (50 : Int64) h66) fun v67 h68 => if v67 = 0 then
  (f_X4_claim_41 x0 x1 x2 x3 x4 h68)
  else
  (f_X4_claim_42 x0 x1 x2 x3 x4 (1 : Int32) h68)))
theorem b_X4_claim_67 {rr : (Int32 ⊕ Ex) × Hp}  (C : CX p l R s m args meth c D Hs cX4_claim "MassclaimModel" 9 (some .int) [] 8 331)  : ∀ (h : Hp) (H : Heap) (locs : List Loc) (cells slots : Nat) (ls : Array Slot), HP D Hs h H → LO Hs locs → lv_has ls 9 [] → f_X4_claim_67 h = some rr → W p l e R s m args below meth c H locs cells slots (ZM D Hs iI rr below args s) (F0 m 67 ls []) := by
  obtain ⟨⟨hx, hb, hml, hown, hts⟩, -⟩ := id C
  have hl9 := C.2.1.2.2.1
  intro h H locs cells slots ls hH hL hl hrun
  unfold f_X4_claim_67 at hrun
  refine lv_iconst (v := (0 : Int32)) (pc := 67) hx hb dX4_claim_67 (by decide) ?_
  exact V_iret (pc := 68) C hH hL hrun dX4_claim_68

theorem b_X4_claim_156 {rr : (Int32 ⊕ Ex) × Hp}  (C : CX p l R s m args meth c D Hs cX4_claim "MassclaimModel" 9 (some .int) [] 8 331)  : ∀ (x0 : Nat) (x2 : Int32) (x3 : Int32) (x4 : Int32) (x6 : Nat) (y0 : Nat) (y1 : Int32) (h : Hp) (H : Heap) (locs : List Loc) (cells slots : Nat) (ls : Array Slot), HP D Hs h H → LO Hs locs → lv_has ls 9 [(0, rv x0), (2, .int x2), (3, .int x3), (4, .int x4), (6, rv x6)] → f_X4_claim_156 x0 x2 x3 x4 x6 y0 y1 h = some rr → W p l e R s m args below meth c H locs cells slots (ZM D Hs iI rr below args s) (F0 m 156 ls [.int y1, rv y0]) := by
  obtain ⟨⟨hx, hb, hml, hown, hts⟩, -⟩ := id C
  have hl9 := C.2.1.2.2.1
  intro x0 x2 x3 x4 x6 y0 y1 h H locs cells slots ls hH hL hl hrun
  unfold f_X4_claim_156 at hrun
  refine lv_iconst (v := (3 : Int32)) (pc := 156) hx hb dX4_claim_156 (by decide) ?_
  obtain ⟨c3, hrun⟩ := gd_some hrun
  refine V_bd (pc := 157) C hL rfl hrun (fun rr1 e1 => Z_runV (rest := []) C hH (m_X4_isGood hl9 e1) wV_X4_104 c3 rfl (by decide) rfl rfl ⟨by decide, by decide⟩ rfl (Nat.le_of_ble_eq_true rfl) hl.1 dX4_claim_157) (fun v1 h2 H locs cells slots hH hL hrun => ?_)
  refine lv_if_ne (tgt := 165) (pc := 160) hx hb dX4_claim_160 (by decide) (fun c_ => ?_) (fun c_ => ?_)
  · have hrun := ite_f hrun c_
    refine V_new (pc := 165) C hH nl_X4_124 dX4_claim_165 hrun (fun q4 h5 H cells slots hH hrun => ?_)
    refine lv_dup (pc := 168) hx hb dX4_claim_168 (rv_cat _) ?_
    obtain ⟨c8, hrun⟩ := gd_some hrun
    refine V_bd (pc := 169) C hL rfl hrun (fun rr1 e1 => Z_runIN (rest := [rv q4]) C hH (m_X13_init hl9 e1) wIN_X4_379 (hH.pos c8) rfl ⟨by decide, by decide⟩ rfl (by simp [csum, rv_cat, cat_i, cat_l, cat_f, cat_d]) hl.1 dX4_claim_169) (fun _ h7 H locs cells slots hH hL hrun => ?_)
    refine V_astore (i := 8) (lv' := [(8, rv q4), (0, rv x0), (2, .int x2), (3, .int x3), (4, .int x4), (6, rv x6)]) (pc := 172) hx hb dX4_claim_172 hl (by decide) rfl (fun ls hl => ?_)
    refine V_aload (pc := 174) hx hb dX4_claim_174 (lv_at hl 0 rfl) ?_
    refine V_aload (pc := 176) hx hb dX4_claim_176 (lv_at hl 5 rfl) ?_
    obtain ⟨c9, hrun⟩ := gd_some hrun
    refine V_putR (pc := 178) C hH hL fl_X4_368 dX4_claim_178 c9 (fok_o _ _) rfl (fun q => Bool.noConfusion q) hrun (fun h10 H locs hH hL hrun => ?_)
    refine V_aload (pc := 181) hx hb dX4_claim_181 (lv_at hl 0 rfl) ?_
    refine lv_iload_n (pc := 183) hx hb dX4_claim_183 rfl (lv_at hl 2 rfl) ?_
    obtain ⟨c11, hrun⟩ := gd_some hrun
    refine V_putI (pc := 184) C hH hL fl_X4_373 dX4_claim_184 c11 (fok_i _) rfl (fun q => Bool.noConfusion q) hrun (fun h12 H locs hH hL hrun => ?_)
    refine V_aload (pc := 187) hx hb dX4_claim_187 (lv_at hl 0 rfl) ?_
    refine lv_iload (pc := 189) hx hb dX4_claim_189 (lv_at hl 4 rfl) ?_
    refine lv_bipush (v := (33 : Int32)) (pc := 191) hx hb dX4_claim_191 (by decide) ?_
    refine V_bd (pc := 193) C hL rfl hrun (fun rr1 e1 => Z_runS (rest := [rv q4]) C hH (m_J10_min_2 hl9 e1) wS_X4_380 rfl ⟨by decide, by decide⟩ rfl (by simp [csum, rv_cat, cat_i, cat_l, cat_f, cat_d]) hl.1 dX4_claim_193) (fun v13 h14 H locs cells slots hH hL hrun => ?_)
    obtain ⟨c15, hrun⟩ := gd_some hrun
    refine V_putI (pc := 196) C hH hL fl_X4_383 dX4_claim_196 c15 (fok_i _) rfl (fun q => Bool.noConfusion q) hrun (fun h16 H locs hH hL hrun => ?_)
    refine V_aload (pc := 199) hx hb dX4_claim_199 (lv_at hl 0 rfl) ?_
    obtain ⟨c17, hrun⟩ := gd_some hrun
    refine V_getR (pc := 201) C hH fr_X4_386 dX4_claim_201 c17 rfl ?_
    refine lv_iconst (v := (2 : Int32)) (pc := 204) hx hb dX4_claim_204 (by decide) ?_
    refine V_newa (at_ := .int) (pc := 205) C hH (Or.inl ⟨rfl, rfl⟩) q194 dX4_claim_205 hrun (fun q18 h19 H cells slots hH hrun => ?_)
    refine lv_dup (pc := 207) hx hb dX4_claim_207 (rv_cat _) ?_
    refine lv_iconst (v := (0 : Int32)) (pc := 208) hx hb dX4_claim_208 (by decide) ?_
    refine lv_iload_n (pc := 209) hx hb dX4_claim_209 rfl (lv_at hl 3 rfl) ?_
    obtain ⟨c20, hrun⟩ := gd_some hrun
    refine V_iast (pc := 210) C hH hL dX4_claim_210 c20 hrun (fun h21 H locs hH hL hrun => ?_)
    refine lv_dup (pc := 211) hx hb dX4_claim_211 (rv_cat _) ?_
    refine lv_iconst (v := (1 : Int32)) (pc := 212) hx hb dX4_claim_212 (by decide) ?_
    refine V_aload_n (pc := 213) hx hb dX4_claim_213 rfl (lv_at hl 1 rfl) ?_
    obtain ⟨c22, hrun⟩ := gd_some hrun
    refine V_getI (pc := 214) C hH fr_X4_43 dX4_claim_214 c22 rfl ?_
    obtain ⟨c23, hrun⟩ := gd_some hrun
    refine V_iast (pc := 217) C hH hL dX4_claim_217 c23 hrun (fun h24 H locs hH hL hrun => ?_)
    obtain ⟨c27, hrun⟩ := gd_some hrun
    refine V_bd (pc := 218) C hL rfl hrun (fun rr1 e1 => Z_runV (rest := []) C hH (m_J2_add hl9 e1) wV_X4_186 c27 rfl (by decide) rfl rfl ⟨by decide, by decide⟩ rfl (Nat.le_of_ble_eq_true rfl) hl.1 dX4_claim_218) (fun v25 h26 H locs cells slots hH hL hrun => ?_)
    refine lv_pop (pc := 221) hx hb dX4_claim_221 rfl ?_
    refine V_aload (pc := 222) hx hb dX4_claim_222 (lv_at hl 5 rfl) ?_
    refine V_aload (pc := 224) hx hb dX4_claim_224 (lv_at hl 0 rfl) ?_
    obtain ⟨c28, hrun⟩ := gd_some hrun
    refine V_putR (pc := 226) C hH hL fl_X4_248 dX4_claim_226 c28 (fok_o _ _) rfl (fun q => Bool.noConfusion q) hrun (fun h29 H locs hH hL hrun => ?_)
    refine V_aload_n (pc := 229) hx hb dX4_claim_229 rfl (lv_at hl 1 rfl) ?_
    obtain ⟨c30, hrun⟩ := gd_some hrun
    refine V_getR (pc := 230) C hH fr_X4_30 dX4_claim_230 c30 rfl ?_
    refine V_aload (pc := 233) hx hb dX4_claim_233 (lv_at hl 0 rfl) ?_
    obtain ⟨c33, hrun⟩ := gd_some hrun
    refine V_bd (pc := 235) C hL rfl hrun (fun rr1 e1 => Z_runV (rest := []) C hH (m_J2_add hl9 e1) wV_X4_186 c33 rfl (by decide) rfl rfl ⟨by decide, by decide⟩ rfl (Nat.le_of_ble_eq_true rfl) hl.1 dX4_claim_235) (fun v31 h32 H locs cells slots hH hL hrun => ?_)
    refine lv_pop (pc := 238) hx hb dX4_claim_238 rfl ?_
    refine V_aload_n (pc := 239) hx hb dX4_claim_239 rfl (lv_at hl 1 rfl) ?_
    refine V_aload (pc := 240) hx hb dX4_claim_240 (lv_at hl 0 rfl) ?_
    obtain ⟨c36, hrun⟩ := gd_some hrun
    refine V_bd (pc := 242) C hL rfl hrun (fun rr1 e1 => Z_runV (rest := []) C hH (m_X4_ring hl9 e1) wV_X4_388 c36 rfl (by decide) rfl rfl ⟨by decide, by decide⟩ rfl (Nat.le_of_ble_eq_true rfl) hl.1 dX4_claim_242) (fun _ h35 H locs cells slots hH hL hrun => ?_)
    refine V_aload_n (pc := 245) hx hb dX4_claim_245 rfl (lv_at hl 1 rfl) ?_
    obtain ⟨c37, hrun⟩ := gd_some hrun
    refine V_getR (pc := 246) C hH fr_X4_30 dX4_claim_246 c37 rfl ?_
    obtain ⟨c40, hrun⟩ := gd_some hrun
    refine V_bd (pc := 249) C hL rfl hrun (fun rr1 e1 => Z_runV (rest := []) C hH (m_J2_size hl9 e1) wV_X4_94 c40 rfl (by decide) rfl rfl ⟨by decide, by decide⟩ rfl (Nat.le_of_ble_eq_true rfl) hl.1 dX4_claim_249) (fun v38 h39 H locs cells slots hH hL hrun => ?_)
    refine lv_iconst (v := (1 : Int32)) (pc := 252) hx hb dX4_claim_252 (by decide) ?_
    refine lv_isub (pc := 253) hx hb dX4_claim_253 ?_
    exact V_iret (pc := 254) C hH hL hrun dX4_claim_254
  · have hrun := ite_t hrun c_
    refine lv_iconst (v := (0 : Int32)) (pc := 163) hx hb dX4_claim_163 (by decide) ?_
    exact V_iret (pc := 164) C hH hL hrun dX4_claim_164

theorem b_X4_claim_155 {rr : (Int32 ⊕ Ex) × Hp}  (C : CX p l R s m args meth c D Hs cX4_claim "MassclaimModel" 9 (some .int) [] 8 331)  : ∀ (x0 : Nat) (x2 : Int32) (x3 : Int32) (x4 : Int32) (x6 : Nat) (y0 : Nat) (h : Hp) (H : Heap) (locs : List Loc) (cells slots : Nat) (ls : Array Slot), HP D Hs h H → LO Hs locs → lv_has ls 9 [(0, rv x0), (2, .int x2), (3, .int x3), (4, .int x4), (6, rv x6)] → f_X4_claim_155 x0 x2 x3 x4 x6 y0 h = some rr → W p l e R s m args below meth c H locs cells slots (ZM D Hs iI rr below args s) (F0 m 155 ls [rv y0]) := by
  obtain ⟨⟨hx, hb, hml, hown, hts⟩, -⟩ := id C
  have hl9 := C.2.1.2.2.1
  intro x0 x2 x3 x4 x6 y0 h H locs cells slots ls hH hL hl hrun
  unfold f_X4_claim_155 at hrun
  refine lv_iconst (v := (0 : Int32)) (pc := 155) hx hb dX4_claim_155 (by decide) ?_
  exact b_X4_claim_156 C x0 x2 x3 x4 x6 y0 (0 : Int32) h H locs cells slots ls hH hL (lv_sub hl [0, 1, 2, 3, 4] rfl) hrun

theorem b_X4_claim_131 {rr : (Int32 ⊕ Ex) × Hp}  (C : CX p l R s m args meth c D Hs cX4_claim "MassclaimModel" 9 (some .int) [] 8 331)  : ∀ (x0 : Nat) (x2 : Int32) (x3 : Int32) (x4 : Int32) (x6 : Nat) (y0 : Int32) (h : Hp) (H : Heap) (locs : List Loc) (cells slots : Nat) (ls : Array Slot), HP D Hs h H → LO Hs locs → lv_has ls 9 [(0, rv x0), (2, .int x2), (3, .int x3), (4, .int x4), (6, rv x6)] → f_X4_claim_131 x0 x2 x3 x4 x6 y0 h = some rr → W p l e R s m args below meth c H locs cells slots (ZM D Hs iI rr below args s) (F0 m 131 ls [.int y0]) := by
  obtain ⟨⟨hx, hb, hml, hown, hts⟩, -⟩ := id C
  have hl9 := C.2.1.2.2.1
  intro x0 x2 x3 x4 x6 y0 h H locs cells slots ls hH hL hl hrun
  unfold f_X4_claim_131 at hrun
  refine lv_istore (i := 7) (lv' := [(7, .int y0), (0, rv x0), (2, .int x2), (3, .int x3), (4, .int x4), (6, rv x6)]) (pc := 131) hx hb dX4_claim_131 hl (by decide) (by simp [rv_cat, cat_i, cat_l, cat_f, cat_d]) (fun ls hl => ?_)
  refine V_aload_n (pc := 133) hx hb dX4_claim_133 rfl (lv_at hl 1 rfl) ?_
  refine lv_iload (pc := 134) hx hb dX4_claim_134 (lv_at hl 0 rfl) ?_
  refine lv_if_eq (tgt := 155) (pc := 136) hx hb dX4_claim_136 (by decide) (fun c_ => ?_) (fun c_ => ?_)
  · have hrun := ite_t hrun c_
    exact b_X4_claim_155 C x0 x2 x3 x4 x6 x0 h H locs cells slots ls hH hL (lv_sub hl [1, 2, 3, 4, 5] rfl) hrun
  · have hrun := ite_f hrun c_
    refine V_aload_n (pc := 139) hx hb dX4_claim_139 rfl (lv_at hl 1 rfl) ?_
    obtain ⟨c41, hrun⟩ := gd_some hrun
    refine V_getR (pc := 140) C hH fr_X4_30 dX4_claim_140 c41 rfl ?_
    obtain ⟨c44, hrun⟩ := gd_some hrun
    refine V_bd (pc := 143) C hL rfl hrun (fun rr1 e1 => Z_runV (rest := [rv x0]) C hH (m_J2_size hl9 e1) wV_X4_94 c44 rfl (by decide) rfl rfl ⟨by decide, by decide⟩ rfl (by simp [csum, rv_cat, cat_i, cat_l, cat_f, cat_d]) hl.1 dX4_claim_143) (fun v42 h43 H locs cells slots hH hL hrun => ?_)
    refine lv_bipush (v := (50 : Int32)) (pc := 146) hx hb dX4_claim_146 (by decide) ?_
    refine lv_icmp_ge (tgt := 155) (pc := 148) hx hb dX4_claim_148 (by decide) (fun c_ => ?_) (fun c_ => ?_)
    · have hrun := ite_t hrun c_
      exact b_X4_claim_155 C x0 x2 x3 x4 x6 x0 h43 H locs cells slots ls hH hL (lv_sub hl [1, 2, 3, 4, 5] rfl) hrun
    · have hrun := ite_f hrun c_
      refine lv_iconst (v := (1 : Int32)) (pc := 151) hx hb dX4_claim_151 (by decide) ?_
      refine lv_goto (tgt := 156) (pc := 152) hx hb dX4_claim_152 (by decide) ?_
      exact b_X4_claim_156 C x0 x2 x3 x4 x6 x0 (1 : Int32) h43 H locs cells slots ls hH hL (lv_sub hl [1, 2, 3, 4, 5] rfl) hrun

theorem b_X4_claim_130 {rr : (Int32 ⊕ Ex) × Hp}  (C : CX p l R s m args meth c D Hs cX4_claim "MassclaimModel" 9 (some .int) [] 8 331)  : ∀ (x0 : Nat) (x2 : Int32) (x3 : Int32) (x4 : Int32) (x6 : Nat) (h : Hp) (H : Heap) (locs : List Loc) (cells slots : Nat) (ls : Array Slot), HP D Hs h H → LO Hs locs → lv_has ls 9 [(0, rv x0), (2, .int x2), (3, .int x3), (4, .int x4), (6, rv x6)] → f_X4_claim_130 x0 x2 x3 x4 x6 h = some rr → W p l e R s m args below meth c H locs cells slots (ZM D Hs iI rr below args s) (F0 m 130 ls []) := by
  obtain ⟨⟨hx, hb, hml, hown, hts⟩, -⟩ := id C
  have hl9 := C.2.1.2.2.1
  intro x0 x2 x3 x4 x6 h H locs cells slots ls hH hL hl hrun
  unfold f_X4_claim_130 at hrun
  refine lv_iconst (v := (0 : Int32)) (pc := 130) hx hb dX4_claim_130 (by decide) ?_
  exact b_X4_claim_131 C x0 x2 x3 x4 x6 (0 : Int32) h H locs cells slots ls hH hL (lv_sub hl [0, 1, 2, 3, 4] rfl) hrun

theorem b_X4_claim_42 {rr : (Int32 ⊕ Ex) × Hp}  (C : CX p l R s m args meth c D Hs cX4_claim "MassclaimModel" 9 (some .int) [] 8 331)  : ∀ (x0 : Nat) (x1 : Int32) (x2 : Int32) (x3 : Int32) (x4 : Int32) (y0 : Int32) (h : Hp) (H : Heap) (locs : List Loc) (cells slots : Nat) (ls : Array Slot), HP D Hs h H → LO Hs locs → lv_has ls 9 [(0, rv x0), (1, .int x1), (2, .int x2), (3, .int x3), (4, .int x4)] → f_X4_claim_42 x0 x1 x2 x3 x4 y0 h = some rr → W p l e R s m args below meth c H locs cells slots (ZM D Hs iI rr below args s) (F0 m 42 ls [.int y0]) := by
  obtain ⟨⟨hx, hb, hml, hown, hts⟩, -⟩ := id C
  have hl9 := C.2.1.2.2.1
  intro x0 x1 x2 x3 x4 y0 h H locs cells slots ls hH hL hl hrun
  unfold f_X4_claim_42 at hrun
  refine lv_istore (i := 5) (lv' := [(5, .int y0), (0, rv x0), (1, .int x1), (2, .int x2), (3, .int x3), (4, .int x4)]) (pc := 42) hx hb dX4_claim_42 hl (by decide) rfl (fun ls hl => ?_)
  refine V_aload_n (pc := 44) hx hb dX4_claim_44 rfl (lv_at hl 1 rfl) ?_
  refine V_aload_n (pc := 45) hx hb dX4_claim_45 rfl (lv_at hl 1 rfl) ?_
  refine lv_iload_n (pc := 46) hx hb dX4_claim_46 rfl (lv_at hl 2 rfl) ?_
  obtain ⟨c47, hrun⟩ := gd_some hrun
  refine V_bd (pc := 47) C hL rfl hrun (fun rr1 e1 => Z_runV (rest := [rv x0]) C hH (m_X4_isPerson hl9 e1) wV_X4_190 c47 rfl (by decide) rfl rfl ⟨by decide, by decide⟩ rfl (by simp [csum, rv_cat, cat_i, cat_l, cat_f, cat_d]) hl.1 dX4_claim_47) (fun v45 h46 H locs cells slots hH hL hrun => ?_)
  refine lv_iconst (v := (1 : Int32)) (pc := 50) hx hb dX4_claim_50 (by decide) ?_
  obtain ⟨c50, hrun⟩ := gd_some hrun
  refine V_bd (pc := 51) C hL rfl hrun (fun rr1 e1 => Z_runV (rest := []) C hH (m_X4_isGood hl9 e1) wV_X4_104 c50 rfl (by decide) rfl rfl ⟨by decide, by decide⟩ rfl (Nat.le_of_ble_eq_true rfl) hl.1 dX4_claim_51) (fun v48 h49 H locs cells slots hH hL hrun => ?_)
  refine lv_if_eq (tgt := 67) (pc := 54) hx hb dX4_claim_54 (by decide) (fun c_ => ?_) (fun c_ => ?_)
  · have hrun := ite_t hrun c_
    exact b_X4_claim_67 C h49 H locs cells slots ls hH hL (lv_sub hl [] rfl) hrun
  · have hrun := ite_f hrun c_
    refine V_aload_n (pc := 57) hx hb dX4_claim_57 rfl (lv_at hl 1 rfl) ?_
    refine lv_iload (pc := 58) hx hb dX4_claim_58 (lv_at hl 0 rfl) ?_
    refine lv_iconst (v := (2 : Int32)) (pc := 60) hx hb dX4_claim_60 (by decide) ?_
    obtain ⟨c53, hrun⟩ := gd_some hrun
    refine V_bd (pc := 61) C hL rfl hrun (fun rr1 e1 => Z_runV (rest := []) C hH (m_X4_isGood hl9 e1) wV_X4_104 c53 rfl (by decide) rfl rfl ⟨by decide, by decide⟩ rfl (Nat.le_of_ble_eq_true rfl) hl.1 dX4_claim_61) (fun v51 h52 H locs cells slots hH hL hrun => ?_)
    refine lv_if_ne (tgt := 69) (pc := 64) hx hb dX4_claim_64 (by decide) (fun c_ => ?_) (fun c_ => ?_)
    · have hrun := ite_f hrun c_
      refine V_aload_n (pc := 69) hx hb dX4_claim_69 rfl (lv_at hl 1 rfl) ?_
      obtain ⟨c54, hrun⟩ := gd_some hrun
      refine V_getR (pc := 70) C hH fr_X4_16 dX4_claim_70 c54 rfl ?_
      refine lv_iload_n (pc := 73) hx hb dX4_claim_73 rfl (lv_at hl 2 rfl) ?_
      obtain ⟨c57, hrun⟩ := gd_some hrun
      refine V_bd (pc := 74) C hL rfl hrun (fun rr1 e1 => Z_runV (rest := []) C hH (m_J2_get hl9 e1) wV_X4_108 c57 rfl (by decide) rfl rfl ⟨by decide, by decide⟩ rfl (Nat.le_of_ble_eq_true rfl) hl.1 dX4_claim_74) (fun v55 h56 H locs cells slots hH hL hrun => ?_)
      obtain ⟨c58, hrun⟩ := gd_some hrun
      refine V_castX (pc := 77) (ci := 5) C hH rfl (by decide) q1946 dX4_claim_77 c58 ?_
      refine V_astore (i := 6) (lv' := [(6, rv v55), (5, .int y0), (0, rv x0), (1, .int x1), (2, .int x2), (3, .int x3), (4, .int x4)]) (pc := 80) hx hb dX4_claim_80 hl (by decide) rfl (fun ls hl => ?_)
      refine V_aload_n (pc := 82) hx hb dX4_claim_82 rfl (lv_at hl 2 rfl) ?_
      obtain ⟨c59, hrun⟩ := gd_some hrun
      refine V_getI (pc := 83) C hH fr_X4_53 dX4_claim_83 c59 rfl ?_
      refine lv_iconst (v := (3 : Int32)) (pc := 86) hx hb dX4_claim_86 (by decide) ?_
      refine lv_icmp_ne (tgt := 130) (pc := 87) hx hb dX4_claim_87 (by decide) (fun c_ => ?_) (fun c_ => ?_)
      · have hrun := ite_f hrun c_
        exact b_X4_claim_130 C x0 x2 x3 x4 v55 h56 H locs cells slots ls hH hL (lv_sub hl [2, 4, 5, 6, 0] rfl) hrun
      · have hrun := ite_t hrun c_
        refine V_aload_n (pc := 90) hx hb dX4_claim_90 rfl (lv_at hl 2 rfl) ?_
        refine V_aload (pc := 91) hx hb dX4_claim_91 (lv_at hl 0 rfl) ?_
        refine V_bd (pc := 93) C hL rfl hrun (fun rr1 e1 => Z_runV (rest := []) C hH (m_X4_isIn hl9 e1) wV_X4_120 c59 rfl (by decide) rfl rfl ⟨by decide, by decide⟩ rfl (Nat.le_of_ble_eq_true rfl) hl.1 dX4_claim_93) (fun v60 h61 H locs cells slots hH hL hrun => ?_)
        refine lv_if_eq (tgt := 130) (pc := 96) hx hb dX4_claim_96 (by decide) (fun c_ => ?_) (fun c_ => ?_)
        · have hrun := ite_t hrun c_
          exact b_X4_claim_130 C x0 x2 x3 x4 v55 h61 H locs cells slots ls hH hL (lv_sub hl [2, 4, 5, 6, 0] rfl) hrun
        · have hrun := ite_f hrun c_
          refine V_aload (pc := 99) hx hb dX4_claim_99 (lv_at hl 0 rfl) ?_
          obtain ⟨c62, hrun⟩ := gd_some hrun
          refine V_getI (pc := 101) C hH fr_X4_117 dX4_claim_101 c62 rfl ?_
          refine lv_if_le (tgt := 130) (pc := 104) hx hb dX4_claim_104 (by decide) (fun c_ => ?_) (fun c_ => ?_)
          · have hrun := ite_t hrun c_
            exact b_X4_claim_130 C x0 x2 x3 x4 v55 h61 H locs cells slots ls hH hL (lv_sub hl [2, 4, 5, 6, 0] rfl) hrun
          · have hrun := ite_f hrun c_
            refine V_aload (pc := 107) hx hb dX4_claim_107 (lv_at hl 0 rfl) ?_
            refine V_getI (pc := 109) C hH fr_X4_114 dX4_claim_109 c62 rfl ?_
            refine lv_sipush (v := (1080 : Int32)) (pc := 112) hx hb dX4_claim_112 (by decide) ?_
            refine lv_icmp_ge (tgt := 130) (pc := 115) hx hb dX4_claim_115 (by decide) (fun c_ => ?_) (fun c_ => ?_)
            · have hrun := ite_t hrun c_
              exact b_X4_claim_130 C x0 x2 x3 x4 v55 h61 H locs cells slots ls hH hL (lv_sub hl [2, 4, 5, 6, 0] rfl) hrun
            · have hrun := ite_f hrun c_
              refine V_aload (pc := 118) hx hb dX4_claim_118 (lv_at hl 0 rfl) ?_
              refine V_getR (pc := 120) C hH fr_X4_248 dX4_claim_120 c62 rfl ?_
              refine V_ifnonnull (tgt := 130) (pc := 123) hx hb dX4_claim_123 (by decide) hrun (fun c_ hrun => ?_) (fun c_ hrun => ?_)
              · exact b_X4_claim_130 C x0 x2 x3 x4 v55 h61 H locs cells slots ls hH hL (lv_sub hl [2, 4, 5, 6, 0] rfl) hrun
              · refine lv_iconst (v := (1 : Int32)) (pc := 126) hx hb dX4_claim_126 (by decide) ?_
                refine lv_goto (tgt := 131) (pc := 127) hx hb dX4_claim_127 (by decide) ?_
                exact b_X4_claim_131 C x0 x2 x3 x4 v55 (1 : Int32) h61 H locs cells slots ls hH hL (lv_sub hl [2, 4, 5, 6, 0] rfl) hrun
    · have hrun := ite_t hrun c_
      exact b_X4_claim_67 C h52 H locs cells slots ls hH hL (lv_sub hl [] rfl) hrun

theorem b_X4_claim_41 {rr : (Int32 ⊕ Ex) × Hp}  (C : CX p l R s m args meth c D Hs cX4_claim "MassclaimModel" 9 (some .int) [] 8 331)  : ∀ (x0 : Nat) (x1 : Int32) (x2 : Int32) (x3 : Int32) (x4 : Int32) (h : Hp) (H : Heap) (locs : List Loc) (cells slots : Nat) (ls : Array Slot), HP D Hs h H → LO Hs locs → lv_has ls 9 [(0, rv x0), (1, .int x1), (2, .int x2), (3, .int x3), (4, .int x4)] → f_X4_claim_41 x0 x1 x2 x3 x4 h = some rr → W p l e R s m args below meth c H locs cells slots (ZM D Hs iI rr below args s) (F0 m 41 ls []) := by
  obtain ⟨⟨hx, hb, hml, hown, hts⟩, -⟩ := id C
  have hl9 := C.2.1.2.2.1
  intro x0 x1 x2 x3 x4 h H locs cells slots ls hH hL hl hrun
  unfold f_X4_claim_41 at hrun
  refine lv_iconst (v := (0 : Int32)) (pc := 41) hx hb dX4_claim_41 (by decide) ?_
  exact b_X4_claim_42 C x0 x1 x2 x3 x4 (0 : Int32) h H locs cells slots ls hH hL (lv_sub hl [0, 1, 2, 3, 4] rfl) hrun

theorem b_X4_claim {rr : (Int32 ⊕ Ex) × Hp}  (C : CX p l R s m args meth c D Hs cX4_claim "MassclaimModel" 9 (some .int) [] 8 331)  : ∀ (x0 : Nat) (x1 : Int32) (x2 : Int32) (x3 : Int32) (x4 : Int32) (h : Hp) (H : Heap) (locs : List Loc) (cells slots : Nat) (ls : Array Slot), HP D Hs h H → LO Hs locs → lv_has ls 9 [(0, rv x0), (1, .int x1), (2, .int x2), (3, .int x3), (4, .int x4)] → f_X4_claim x0 x1 x2 x3 x4 h = some rr → W p l e R s m args below meth c H locs cells slots (ZM D Hs iI rr below args s) (F0 m 0 ls []) := by
  obtain ⟨⟨hx, hb, hml, hown, hts⟩, -⟩ := id C
  have hl9 := C.2.1.2.2.1
  intro x0 x1 x2 x3 x4 h H locs cells slots ls hH hL hl hrun
  unfold f_X4_claim at hrun
  refine lv_iload_n (pc := 0) hx hb dX4_claim_0 rfl (lv_at hl 2 rfl) ?_
  refine lv_i2l (pc := 1) hx hb dX4_claim_1 rfl ?_
  refine lv_lconst (v := (0 : Int64)) (pc := 2) hx hb dX4_claim_2 (by decide) ?_
  refine lv_ldc2 (pc := 3) hx hb hown (hts _ q1978) dX4_claim_3 ?_
  refine V_bd (pc := 6) C hL rfl hrun (fun rr1 e1 => Z_runS (rest := []) C hH (m_X4_isWithin hl9 e1) wS_X4_100 rfl ⟨by decide, by decide⟩ rfl (Nat.le_of_ble_eq_true rfl) hl.1 dX4_claim_6) (fun v63 h64 H locs cells slots hH hL hrun => ?_)
  refine lv_if_eq (tgt := 41) (pc := 9) hx hb dX4_claim_9 (by decide) (fun c_ => ?_) (fun c_ => ?_)
  · have hrun := ite_t hrun c_
    exact b_X4_claim_41 C x0 x1 x2 x3 x4 h64 H locs cells slots ls hH hL (lv_sub hl [0, 1, 2, 3, 4] rfl) hrun
  · have hrun := ite_f hrun c_
    refine lv_iload_n (pc := 12) hx hb dX4_claim_12 rfl (lv_at hl 3 rfl) ?_
    refine lv_i2l (pc := 13) hx hb dX4_claim_13 rfl ?_
    refine lv_lconst (v := (0 : Int64)) (pc := 14) hx hb dX4_claim_14 (by decide) ?_
    refine lv_ldc2 (pc := 15) hx hb hown (hts _ q2071) dX4_claim_15 ?_
    refine V_bd (pc := 18) C hL rfl hrun (fun rr1 e1 => Z_runS (rest := []) C hH (m_X4_isWithin hl9 e1) wS_X4_100 rfl ⟨by decide, by decide⟩ rfl (Nat.le_of_ble_eq_true rfl) hl.1 dX4_claim_18) (fun v65 h66 H locs cells slots hH hL hrun => ?_)
    refine lv_if_eq (tgt := 41) (pc := 21) hx hb dX4_claim_21 (by decide) (fun c_ => ?_) (fun c_ => ?_)
    · have hrun := ite_t hrun c_
      exact b_X4_claim_41 C x0 x1 x2 x3 x4 h66 H locs cells slots ls hH hL (lv_sub hl [0, 1, 2, 3, 4] rfl) hrun
    · have hrun := ite_f hrun c_
      refine lv_iload (pc := 24) hx hb dX4_claim_24 (lv_at hl 4 rfl) ?_
      refine lv_i2l (pc := 26) hx hb dX4_claim_26 rfl ?_
      refine lv_lconst (v := (0 : Int64)) (pc := 27) hx hb dX4_claim_27 (by decide) ?_
      refine lv_ldc2 (pc := 28) hx hb hown (hts _ q2258) dX4_claim_28 ?_
      refine V_bd (pc := 31) C hL rfl hrun (fun rr1 e1 => Z_runS (rest := []) C hH (m_X4_isWithin hl9 e1) wS_X4_100 rfl ⟨by decide, by decide⟩ rfl (Nat.le_of_ble_eq_true rfl) hl.1 dX4_claim_31) (fun v67 h68 H locs cells slots hH hL hrun => ?_)
      refine lv_if_eq (tgt := 41) (pc := 34) hx hb dX4_claim_34 (by decide) (fun c_ => ?_) (fun c_ => ?_)
      · have hrun := ite_t hrun c_
        exact b_X4_claim_41 C x0 x1 x2 x3 x4 h68 H locs cells slots ls hH hL (lv_sub hl [0, 1, 2, 3, 4] rfl) hrun
      · have hrun := ite_f hrun c_
        refine lv_iconst (v := (1 : Int32)) (pc := 37) hx hb dX4_claim_37 (by decide) ?_
        refine lv_goto (tgt := 42) (pc := 38) hx hb dX4_claim_38 (by decide) ?_
        exact b_X4_claim_42 C x0 x1 x2 x3 x4 (1 : Int32) h68 H locs cells slots ls hH hL (lv_sub hl [0, 1, 2, 3, 4] rfl) hrun

theorem m_X4_claim {l : Launch} {D : va_G} {Hs : Heap} {h : Hp} {rr : (Int32 ⊕ Ex) × Hp} (hl9 : l.stackTraces = false) {x0 : Nat} {x1 : Int32} {x2 : Int32} {x3 : Int32} {x4 : Int32} (hrun : f_X4_claim x0 x1 x2 x3 x4 h = some rr) : CM l yX4_claim (ws_ yX4_claim cX4_claim 9 (some .int)) 8 331 iI [rv x0, .int x1, .int x2, .int x3, .int x4] D Hs h rr := by
  refine CM.of (lv := [(0, rv x0), (1, .int x1), (2, .int x2), (3, .int x3), (4, .int x4)]) (plainFor_of_name (by decide)) hl9 (by simp [lv_args, rv_cat, cat_i, cat_l, cat_f, cat_d]) (by simp [lg_sl, rv_cat, cat_i, cat_l, cat_f, cat_d]) ?_
  intro p e R s m args below meth c H ls C hH hl hin
  exact b_X4_claim C x0 x1 x2 x3 x4 _ H [] _ _ ls hH (fun _ q => nomatch q) (lv_sub hl [0, 1, 2, 3, 4] rfl) hrun

/-! Massclaim.band(I)I -/
def f_X1_band_31  (y0 : Int32) (h : Hp) : Rt Int32 :=
  some (.inl y0, h)
def f_X1_band  (x0 : Int32) (h : Hp) : Rt Int32 :=
  if (30 : Int32) ≤ x0 then
  (if (50 : Int32) ≤ x0 then
  (if (65 : Int32) ≤ x0 then
  (f_X1_band_31 (3 : Int32) h)
  else
  (f_X1_band_31 (2 : Int32) h))
  else
  (f_X1_band_31 (1 : Int32) h))
  else
  (f_X1_band_31 (0 : Int32) h)
theorem b_X1_band_31 {rr : (Int32 ⊕ Ex) × Hp}  (C : CX p l R s m args meth c D Hs cX1_band "Massclaim" 1 (some .int) [] 1 0)  : ∀ (y0 : Int32) (h : Hp) (H : Heap) (locs : List Loc) (cells slots : Nat) (ls : Array Slot), HP D Hs h H → LO Hs locs → lv_has ls 1 [] → f_X1_band_31 y0 h = some rr → W p l e R s m args below meth c H locs cells slots (ZM D Hs iI rr below args s) (F0 m 31 ls [.int y0]) := by
  obtain ⟨⟨hx, hb, hml, hown, hts⟩, -⟩ := id C
  have hl9 := C.2.1.2.2.1
  intro y0 h H locs cells slots ls hH hL hl hrun
  unfold f_X1_band_31 at hrun
  exact V_iret (pc := 31) C hH hL hrun dX1_band_31

theorem b_X1_band {rr : (Int32 ⊕ Ex) × Hp}  (C : CX p l R s m args meth c D Hs cX1_band "Massclaim" 1 (some .int) [] 1 0)  : ∀ (x0 : Int32) (h : Hp) (H : Heap) (locs : List Loc) (cells slots : Nat) (ls : Array Slot), HP D Hs h H → LO Hs locs → lv_has ls 1 [(0, .int x0)] → f_X1_band x0 h = some rr → W p l e R s m args below meth c H locs cells slots (ZM D Hs iI rr below args s) (F0 m 0 ls []) := by
  obtain ⟨⟨hx, hb, hml, hown, hts⟩, -⟩ := id C
  have hl9 := C.2.1.2.2.1
  intro x0 h H locs cells slots ls hH hL hl hrun
  unfold f_X1_band at hrun
  refine lv_iload_n (pc := 0) hx hb dX1_band_0 rfl (lv_at hl 0 rfl) ?_
  refine lv_bipush (v := (30 : Int32)) (pc := 1) hx hb dX1_band_1 (by decide) ?_
  refine lv_icmp_ge (tgt := 10) (pc := 3) hx hb dX1_band_3 (by decide) (fun c_ => ?_) (fun c_ => ?_)
  · have hrun := ite_t hrun c_
    refine lv_iload_n (pc := 10) hx hb dX1_band_10 rfl (lv_at hl 0 rfl) ?_
    refine lv_bipush (v := (50 : Int32)) (pc := 11) hx hb dX1_band_11 (by decide) ?_
    refine lv_icmp_ge (tgt := 20) (pc := 13) hx hb dX1_band_13 (by decide) (fun c_ => ?_) (fun c_ => ?_)
    · have hrun := ite_t hrun c_
      refine lv_iload_n (pc := 20) hx hb dX1_band_20 rfl (lv_at hl 0 rfl) ?_
      refine lv_bipush (v := (65 : Int32)) (pc := 21) hx hb dX1_band_21 (by decide) ?_
      refine lv_icmp_ge (tgt := 30) (pc := 23) hx hb dX1_band_23 (by decide) (fun c_ => ?_) (fun c_ => ?_)
      · have hrun := ite_t hrun c_
        refine lv_iconst (v := (3 : Int32)) (pc := 30) hx hb dX1_band_30 (by decide) ?_
        exact b_X1_band_31 C (3 : Int32) h H locs cells slots ls hH hL (lv_sub hl [] rfl) hrun
      · have hrun := ite_f hrun c_
        refine lv_iconst (v := (2 : Int32)) (pc := 26) hx hb dX1_band_26 (by decide) ?_
        refine lv_goto (tgt := 31) (pc := 27) hx hb dX1_band_27 (by decide) ?_
        exact b_X1_band_31 C (2 : Int32) h H locs cells slots ls hH hL (lv_sub hl [] rfl) hrun
    · have hrun := ite_f hrun c_
      refine lv_iconst (v := (1 : Int32)) (pc := 16) hx hb dX1_band_16 (by decide) ?_
      refine lv_goto (tgt := 31) (pc := 17) hx hb dX1_band_17 (by decide) ?_
      exact b_X1_band_31 C (1 : Int32) h H locs cells slots ls hH hL (lv_sub hl [] rfl) hrun
  · have hrun := ite_f hrun c_
    refine lv_iconst (v := (0 : Int32)) (pc := 6) hx hb dX1_band_6 (by decide) ?_
    refine lv_goto (tgt := 31) (pc := 7) hx hb dX1_band_7 (by decide) ?_
    exact b_X1_band_31 C (0 : Int32) h H locs cells slots ls hH hL (lv_sub hl [] rfl) hrun

theorem m_X1_band {l : Launch} {D : va_G} {Hs : Heap} {h : Hp} {rr : (Int32 ⊕ Ex) × Hp} (hl9 : l.stackTraces = false) {x0 : Int32} (hrun : f_X1_band x0 h = some rr) : CM l yX1_band (ws_ yX1_band cX1_band 1 (some .int)) 1 0 iI [.int x0] D Hs h rr := by
  refine CM.of (lv := [(0, .int x0)]) (plainFor_of_name (by decide)) hl9 (by simp [lv_args, rv_cat, cat_i, cat_l, cat_f, cat_d]) (by simp [lg_sl, rv_cat, cat_i, cat_l, cat_f, cat_d]) ?_
  intro p e R s m args below meth c H ls C hH hl hin
  exact b_X1_band C x0 _ H [] _ _ ls hH (fun _ q => nomatch q) (lv_sub hl [0] rfl) hrun

/-! Massclaim$Claim.value()I -/
def f_X12_value_119  (x0 : Nat) (x2 : Int32) (y0 : Int32) (h : Hp) : Rt Int32 :=
  gd (kC h x0 = 12) <| gd (kC h (kR h 1112 x0) = 1) <| gd (kC h (kR h 1101 x0) = 5) <| gd (kC h (kR h 5 (kR h 1112 x0)) = 104 ∧ ixo ((kI h 405 (kR h 1101 x0)) - (1 : Int32)) (kN h (kR h 5 (kR h 1112 x0)))) <| bd (f_X5_age (kR h 1101 x0) (kI h 406 (kR h 1101 x0)) h) fun v5 h6 => bd (f_X1_band v5 h6) fun v7 h8 => gd (kC h8 (jR h (kR h 5 (kR h 1112 x0)) (((kI h 405 (kR h 1101 x0)) - (1 : Int32))).toNatClampNeg) = 101 ∧ ixo v7 (kN h8 (jR h (kR h 5 (kR h 1112 x0)) (((kI h 405 (kR h 1101 x0)) - (1 : Int32))).toNatClampNeg))) <| bd (f_X1_part ((jI h8 (jR h (kR h 5 (kR h 1112 x0)) (((kI h 405 (kR h 1101 x0)) - (1 : Int32))).toNatClampNeg) (v7).toNatClampNeg).toInt64) (y0.toInt64) (100 : Int64) h8) fun v10 h11 => bd (f_X1_part v10 (x2.toInt64) (100 : Int64) h11) fun v12 h13 => gd (kC h13 x0 = 12) <| gd (kC h13 (kR h13 1112 x0) = 1) <| bd (f_J10_min ((kI h13 13 (kR h13 1112 x0)).toInt64) v12 h13) fun v16 h17 => some (.inl (v16.toInt32), h17)
def f_X12_value_64  (x0 : Nat) (y0 : Int32) (h : Hp) : Rt Int32 :=
  gd (kC h x0 = 12) <| gd (kC h (kR h 1101 x0) = 5) <| if (12 : Int32) ≤ (kI h 404 (kR h 1101 x0)) then
  (if (60 : Int32) ≤ (kI h 404 (kR h 1101 x0)) then
  (if (240 : Int32) ≤ (kI h 404 (kR h 1101 x0)) then
  (f_X12_value_119 x0 y0 (120 : Int32) h)
  else
  (f_X12_value_119 x0 y0 (100 : Int32) h))
  else
  (f_X12_value_119 x0 y0 (75 : Int32) h))
  else
  (f_X12_value_119 x0 y0 (50 : Int32) h)
def f_X12_value_33  (x0 : Nat) (y0 : Int32) (h : Hp) : Rt Int32 :=
  if y0 = 0 then
  (f_X12_value_64 x0 (100 : Int32) h)
  else
  (if y0 = (1 : Int32) then
  (f_X12_value_64 x0 (75 : Int32) h)
  else
  (if y0 = (2 : Int32) then
  (f_X12_value_64 x0 (50 : Int32) h)
  else
  (f_X12_value_64 x0 (0 : Int32) h)))
def f_X12_value_29  (x0 : Nat) (h : Hp) : Rt Int32 :=
  gd (kC h x0 = 12) <| f_X12_value_33 x0 (kI h 1102 x0) h
def f_X12_value  (x0 : Nat) (h : Hp) : Rt Int32 :=
  gd (kC h x0 = 12) <| gd (kC h (kR h 1101 x0) = 5) <| if (kI h 404 (kR h 1101 x0)) < (120 : Int32) then
  (f_X12_value_29 x0 h)
  else
  (if (kI h 1102 x0) ≤ (1 : Int32) then
  (f_X12_value_29 x0 h)
  else
  (f_X12_value_33 x0 ((kI h 1102 x0) - (1 : Int32)) h))
theorem b_X12_value_119 {rr : (Int32 ⊕ Ex) × Hp}  (C : CX p l R s m args meth c D Hs cX12_value "Massclaim$Claim" 6 (some .int) [] 2 25)  : ∀ (x0 : Nat) (x2 : Int32) (y0 : Int32) (h : Hp) (H : Heap) (locs : List Loc) (cells slots : Nat) (ls : Array Slot), HP D Hs h H → LO Hs locs → lv_has ls 6 [(0, rv x0), (2, .int x2)] → f_X12_value_119 x0 x2 y0 h = some rr → W p l e R s m args below meth c H locs cells slots (ZM D Hs iI rr below args s) (F0 m 119 ls [.int y0]) := by
  obtain ⟨⟨hx, hb, hml, hown, hts⟩, -⟩ := id C
  have hl9 := C.2.1.2.2.1
  intro x0 x2 y0 h H locs cells slots ls hH hL hl hrun
  unfold f_X12_value_119 at hrun
  refine lv_istore_n (i := 3) (lv' := [(3, .int y0), (0, rv x0), (2, .int x2)]) (pc := 119) hx hb dX12_value_119 rfl hl (by decide) rfl (fun ls hl => ?_)
  refine V_aload_n (pc := 120) hx hb dX12_value_120 rfl (lv_at hl 1 rfl) ?_
  obtain ⟨c1, hrun⟩ := gd_some hrun
  refine V_getR (pc := 121) C hH fr_X12_3 dX12_value_121 c1 rfl ?_
  obtain ⟨c2, hrun⟩ := gd_some hrun
  refine V_getNR (pc := 124) C hH fn_X12_72 dX12_value_124 c2 rfl ?_
  refine V_aload_n (pc := 127) hx hb dX12_value_127 rfl (lv_at hl 1 rfl) ?_
  refine V_getR (pc := 128) C hH fr_X12_32 dX12_value_128 c1 rfl ?_
  obtain ⟨c3, hrun⟩ := gd_some hrun
  refine V_getNI (pc := 131) C hH fn_X12_76 dX12_value_131 c3 rfl ?_
  refine lv_iconst (v := (1 : Int32)) (pc := 134) hx hb dX12_value_134 (by decide) ?_
  refine lv_isub (pc := 135) hx hb dX12_value_135 ?_
  obtain ⟨c4, hrun⟩ := gd_some hrun
  refine V_aald2 (pc := 136) C hH dX12_value_136 c4 ?_
  refine V_aload_n (pc := 137) hx hb dX12_value_137 rfl (lv_at hl 1 rfl) ?_
  refine V_getR (pc := 138) C hH fr_X12_32 dX12_value_138 c1 rfl ?_
  refine V_aload_n (pc := 141) hx hb dX12_value_141 rfl (lv_at hl 1 rfl) ?_
  refine V_getR (pc := 142) C hH fr_X12_32 dX12_value_142 c1 rfl ?_
  refine V_getNI (pc := 145) C hH fn_X12_79 dX12_value_145 c3 rfl ?_
  refine V_bd (pc := 148) C hL rfl hrun (fun rr1 e1 => Z_runV (rest := [rv (jR h (kR h 5 (kR h 1112 x0)) (((kI h 405 (kR h 1101 x0)) - (1 : Int32))).toNatClampNeg)]) C hH (m_X5_age hl9 e1) wV_X12_82 c3 rfl (by decide) rfl rfl ⟨by decide, by decide⟩ rfl (by simp [csum, rv_cat, cat_i, cat_l, cat_f, cat_d]) hl.1 dX12_value_148) (fun v5 h6 H locs cells slots hH hL hrun => ?_)
  refine V_bd (pc := 151) C hL rfl hrun (fun rr1 e1 => Z_runSN (rest := [rv (jR h (kR h 5 (kR h 1112 x0)) (((kI h 405 (kR h 1101 x0)) - (1 : Int32))).toNatClampNeg)]) C hH (m_X1_band hl9 e1) wSN_X12_86 rfl ⟨by decide, by decide⟩ rfl (by simp [csum, rv_cat, cat_i, cat_l, cat_f, cat_d]) hl.1 dX12_value_151) (fun v7 h8 H locs cells slots hH hL hrun => ?_)
  obtain ⟨c9, hrun⟩ := gd_some hrun
  refine V_iald (pc := 154) C hH dX12_value_154 c9 ?_
  refine lv_i2l (pc := 155) hx hb dX12_value_155 rfl ?_
  refine lv_iload_n (pc := 156) hx hb dX12_value_156 rfl (lv_at hl 0 rfl) ?_
  refine lv_i2l (pc := 157) hx hb dX12_value_157 rfl ?_
  refine lv_ldc2 (pc := 158) hx hb hown (hts _ q423) dX12_value_158 ?_
  refine V_bd (pc := 161) C hL rfl hrun (fun rr1 e1 => Z_runSN (rest := []) C hH (m_X1_part hl9 e1) wSN_X12_91 rfl ⟨by decide, by decide⟩ rfl (Nat.le_of_ble_eq_true rfl) hl.1 dX12_value_161) (fun v10 h11 H locs cells slots hH hL hrun => ?_)
  refine lv_iload_n (pc := 164) hx hb dX12_value_164 rfl (lv_at hl 2 rfl) ?_
  refine lv_i2l (pc := 165) hx hb dX12_value_165 rfl ?_
  refine lv_ldc2 (pc := 166) hx hb hown (hts _ q423) dX12_value_166 ?_
  refine V_bd (pc := 169) C hL rfl hrun (fun rr1 e1 => Z_runSN (rest := []) C hH (m_X1_part hl9 e1) wSN_X12_91 rfl ⟨by decide, by decide⟩ rfl (Nat.le_of_ble_eq_true rfl) hl.1 dX12_value_169) (fun v12 h13 H locs cells slots hH hL hrun => ?_)
  refine lv_lstore (i := 4) (lv' := [(4, .long v12), (3, .int y0), (0, rv x0), (2, .int x2)]) (pc := 172) hx hb dX12_value_172 hl (by decide) rfl (fun ls hl => ?_)
  refine V_aload_n (pc := 174) hx hb dX12_value_174 rfl (lv_at hl 2 rfl) ?_
  obtain ⟨c14, hrun⟩ := gd_some hrun
  refine V_getR (pc := 175) C hH fr_X12_3 dX12_value_175 c14 rfl ?_
  obtain ⟨c15, hrun⟩ := gd_some hrun
  refine V_getNI (pc := 178) C hH fn_X12_95 dX12_value_178 c15 rfl ?_
  refine lv_i2l (pc := 181) hx hb dX12_value_181 rfl ?_
  refine lv_lload (pc := 182) hx hb dX12_value_182 (lv_at hl 0 rfl) ?_
  refine V_bd (pc := 184) C hL rfl hrun (fun rr1 e1 => Z_runS (rest := []) C hH (m_J10_min hl9 e1) wS_X12_98 rfl ⟨by decide, by decide⟩ rfl (Nat.le_of_ble_eq_true rfl) hl.1 dX12_value_184) (fun v16 h17 H locs cells slots hH hL hrun => ?_)
  refine lv_l2i (pc := 187) hx hb dX12_value_187 rfl ?_
  exact V_iret (pc := 188) C hH hL hrun dX12_value_188

theorem b_X12_value_64 {rr : (Int32 ⊕ Ex) × Hp}  (C : CX p l R s m args meth c D Hs cX12_value "Massclaim$Claim" 6 (some .int) [] 2 25)  : ∀ (x0 : Nat) (y0 : Int32) (h : Hp) (H : Heap) (locs : List Loc) (cells slots : Nat) (ls : Array Slot), HP D Hs h H → LO Hs locs → lv_has ls 6 [(0, rv x0)] → f_X12_value_64 x0 y0 h = some rr → W p l e R s m args below meth c H locs cells slots (ZM D Hs iI rr below args s) (F0 m 64 ls [.int y0]) := by
  obtain ⟨⟨hx, hb, hml, hown, hts⟩, -⟩ := id C
  have hl9 := C.2.1.2.2.1
  intro x0 y0 h H locs cells slots ls hH hL hl hrun
  unfold f_X12_value_64 at hrun
  refine lv_istore_n (i := 2) (lv' := [(2, .int y0), (0, rv x0)]) (pc := 64) hx hb dX12_value_64 rfl hl (by decide) rfl (fun ls hl => ?_)
  refine V_aload_n (pc := 65) hx hb dX12_value_65 rfl (lv_at hl 1 rfl) ?_
  obtain ⟨c18, hrun⟩ := gd_some hrun
  refine V_getR (pc := 66) C hH fr_X12_32 dX12_value_66 c18 rfl ?_
  obtain ⟨c19, hrun⟩ := gd_some hrun
  refine V_getNI (pc := 69) C hH fn_X12_67 dX12_value_69 c19 rfl ?_
  refine lv_bipush (v := (12 : Int32)) (pc := 72) hx hb dX12_value_72 (by decide) ?_
  refine lv_icmp_ge (tgt := 82) (pc := 74) hx hb dX12_value_74 (by decide) (fun c_ => ?_) (fun c_ => ?_)
  · have hrun := ite_t hrun c_
    refine V_aload_n (pc := 82) hx hb dX12_value_82 rfl (lv_at hl 1 rfl) ?_
    refine V_getR (pc := 83) C hH fr_X12_32 dX12_value_83 c18 rfl ?_
    refine V_getNI (pc := 86) C hH fn_X12_67 dX12_value_86 c19 rfl ?_
    refine lv_bipush (v := (60 : Int32)) (pc := 89) hx hb dX12_value_89 (by decide) ?_
    refine lv_icmp_ge (tgt := 99) (pc := 91) hx hb dX12_value_91 (by decide) (fun c_ => ?_) (fun c_ => ?_)
    · have hrun := ite_t hrun c_
      refine V_aload_n (pc := 99) hx hb dX12_value_99 rfl (lv_at hl 1 rfl) ?_
      refine V_getR (pc := 100) C hH fr_X12_32 dX12_value_100 c18 rfl ?_
      refine V_getNI (pc := 103) C hH fn_X12_67 dX12_value_103 c19 rfl ?_
      refine lv_sipush (v := (240 : Int32)) (pc := 106) hx hb dX12_value_106 (by decide) ?_
      refine lv_icmp_ge (tgt := 117) (pc := 109) hx hb dX12_value_109 (by decide) (fun c_ => ?_) (fun c_ => ?_)
      · have hrun := ite_t hrun c_
        refine lv_bipush (v := (120 : Int32)) (pc := 117) hx hb dX12_value_117 (by decide) ?_
        exact b_X12_value_119 C x0 y0 (120 : Int32) h H locs cells slots ls hH hL (lv_sub hl [1, 0] rfl) hrun
      · have hrun := ite_f hrun c_
        refine lv_bipush (v := (100 : Int32)) (pc := 112) hx hb dX12_value_112 (by decide) ?_
        refine lv_goto (tgt := 119) (pc := 114) hx hb dX12_value_114 (by decide) ?_
        exact b_X12_value_119 C x0 y0 (100 : Int32) h H locs cells slots ls hH hL (lv_sub hl [1, 0] rfl) hrun
    · have hrun := ite_f hrun c_
      refine lv_bipush (v := (75 : Int32)) (pc := 94) hx hb dX12_value_94 (by decide) ?_
      refine lv_goto (tgt := 119) (pc := 96) hx hb dX12_value_96 (by decide) ?_
      exact b_X12_value_119 C x0 y0 (75 : Int32) h H locs cells slots ls hH hL (lv_sub hl [1, 0] rfl) hrun
  · have hrun := ite_f hrun c_
    refine lv_bipush (v := (50 : Int32)) (pc := 77) hx hb dX12_value_77 (by decide) ?_
    refine lv_goto (tgt := 119) (pc := 79) hx hb dX12_value_79 (by decide) ?_
    exact b_X12_value_119 C x0 y0 (50 : Int32) h H locs cells slots ls hH hL (lv_sub hl [1, 0] rfl) hrun

theorem b_X12_value_33 {rr : (Int32 ⊕ Ex) × Hp}  (C : CX p l R s m args meth c D Hs cX12_value "Massclaim$Claim" 6 (some .int) [] 2 25)  : ∀ (x0 : Nat) (y0 : Int32) (h : Hp) (H : Heap) (locs : List Loc) (cells slots : Nat) (ls : Array Slot), HP D Hs h H → LO Hs locs → lv_has ls 6 [(0, rv x0)] → f_X12_value_33 x0 y0 h = some rr → W p l e R s m args below meth c H locs cells slots (ZM D Hs iI rr below args s) (F0 m 33 ls [.int y0]) := by
  obtain ⟨⟨hx, hb, hml, hown, hts⟩, -⟩ := id C
  have hl9 := C.2.1.2.2.1
  intro x0 y0 h H locs cells slots ls hH hL hl hrun
  unfold f_X12_value_33 at hrun
  refine lv_istore_n (i := 1) (lv' := [(1, .int y0), (0, rv x0)]) (pc := 33) hx hb dX12_value_33 rfl hl (by decide) (by simp [rv_cat, cat_i, cat_l, cat_f, cat_d]) (fun ls hl => ?_)
  refine lv_iload_n (pc := 34) hx hb dX12_value_34 rfl (lv_at hl 0 rfl) ?_
  refine lv_if_ne (tgt := 43) (pc := 35) hx hb dX12_value_35 (by decide) (fun c_ => ?_) (fun c_ => ?_)
  · have hrun := ite_f hrun c_
    refine lv_iload_n (pc := 43) hx hb dX12_value_43 rfl (lv_at hl 0 rfl) ?_
    refine lv_iconst (v := (1 : Int32)) (pc := 44) hx hb dX12_value_44 (by decide) ?_
    refine lv_icmp_ne (tgt := 53) (pc := 45) hx hb dX12_value_45 (by decide) (fun c_ => ?_) (fun c_ => ?_)
    · have hrun := ite_f hrun c_
      refine lv_iload_n (pc := 53) hx hb dX12_value_53 rfl (lv_at hl 0 rfl) ?_
      refine lv_iconst (v := (2 : Int32)) (pc := 54) hx hb dX12_value_54 (by decide) ?_
      refine lv_icmp_ne (tgt := 63) (pc := 55) hx hb dX12_value_55 (by decide) (fun c_ => ?_) (fun c_ => ?_)
      · have hrun := ite_f hrun c_
        refine lv_iconst (v := (0 : Int32)) (pc := 63) hx hb dX12_value_63 (by decide) ?_
        exact b_X12_value_64 C x0 (0 : Int32) h H locs cells slots ls hH hL (lv_sub hl [1] rfl) hrun
      · have hrun := ite_t hrun c_
        refine lv_bipush (v := (50 : Int32)) (pc := 58) hx hb dX12_value_58 (by decide) ?_
        refine lv_goto (tgt := 64) (pc := 60) hx hb dX12_value_60 (by decide) ?_
        exact b_X12_value_64 C x0 (50 : Int32) h H locs cells slots ls hH hL (lv_sub hl [1] rfl) hrun
    · have hrun := ite_t hrun c_
      refine lv_bipush (v := (75 : Int32)) (pc := 48) hx hb dX12_value_48 (by decide) ?_
      refine lv_goto (tgt := 64) (pc := 50) hx hb dX12_value_50 (by decide) ?_
      exact b_X12_value_64 C x0 (75 : Int32) h H locs cells slots ls hH hL (lv_sub hl [1] rfl) hrun
  · have hrun := ite_t hrun c_
    refine lv_bipush (v := (100 : Int32)) (pc := 38) hx hb dX12_value_38 (by decide) ?_
    refine lv_goto (tgt := 64) (pc := 40) hx hb dX12_value_40 (by decide) ?_
    exact b_X12_value_64 C x0 (100 : Int32) h H locs cells slots ls hH hL (lv_sub hl [1] rfl) hrun

theorem b_X12_value_29 {rr : (Int32 ⊕ Ex) × Hp}  (C : CX p l R s m args meth c D Hs cX12_value "Massclaim$Claim" 6 (some .int) [] 2 25)  : ∀ (x0 : Nat) (h : Hp) (H : Heap) (locs : List Loc) (cells slots : Nat) (ls : Array Slot), HP D Hs h H → LO Hs locs → lv_has ls 6 [(0, rv x0)] → f_X12_value_29 x0 h = some rr → W p l e R s m args below meth c H locs cells slots (ZM D Hs iI rr below args s) (F0 m 29 ls []) := by
  obtain ⟨⟨hx, hb, hml, hown, hts⟩, -⟩ := id C
  have hl9 := C.2.1.2.2.1
  intro x0 h H locs cells slots ls hH hL hl hrun
  unfold f_X12_value_29 at hrun
  refine V_aload_n (pc := 29) hx hb dX12_value_29 rfl (lv_at hl 0 rfl) ?_
  obtain ⟨c20, hrun⟩ := gd_some hrun
  refine V_getI (pc := 30) C hH fr_X12_36 dX12_value_30 c20 rfl ?_
  exact b_X12_value_33 C x0 (kI h 1102 x0) h H locs cells slots ls hH hL (lv_sub hl [0] rfl) hrun

theorem b_X12_value {rr : (Int32 ⊕ Ex) × Hp}  (C : CX p l R s m args meth c D Hs cX12_value "Massclaim$Claim" 6 (some .int) [] 2 25)  : ∀ (x0 : Nat) (h : Hp) (H : Heap) (locs : List Loc) (cells slots : Nat) (ls : Array Slot), HP D Hs h H → LO Hs locs → lv_has ls 6 [(0, rv x0)] → f_X12_value x0 h = some rr → W p l e R s m args below meth c H locs cells slots (ZM D Hs iI rr below args s) (F0 m 0 ls []) := by
  obtain ⟨⟨hx, hb, hml, hown, hts⟩, -⟩ := id C
  have hl9 := C.2.1.2.2.1
  intro x0 h H locs cells slots ls hH hL hl hrun
  unfold f_X12_value at hrun
  refine V_aload_n (pc := 0) hx hb dX12_value_0 rfl (lv_at hl 0 rfl) ?_
  obtain ⟨c21, hrun⟩ := gd_some hrun
  refine V_getR (pc := 1) C hH fr_X12_32 dX12_value_1 c21 rfl ?_
  obtain ⟨c22, hrun⟩ := gd_some hrun
  refine V_getNI (pc := 4) C hH fn_X12_67 dX12_value_4 c22 rfl ?_
  refine lv_bipush (v := (120 : Int32)) (pc := 7) hx hb dX12_value_7 (by decide) ?_
  refine lv_icmp_lt (tgt := 29) (pc := 9) hx hb dX12_value_9 (by decide) (fun c_ => ?_) (fun c_ => ?_)
  · have hrun := ite_t hrun c_
    exact b_X12_value_29 C x0 h H locs cells slots ls hH hL (lv_sub hl [0] rfl) hrun
  · have hrun := ite_f hrun c_
    refine V_aload_n (pc := 12) hx hb dX12_value_12 rfl (lv_at hl 0 rfl) ?_
    refine V_getI (pc := 13) C hH fr_X12_36 dX12_value_13 c21 rfl ?_
    refine lv_iconst (v := (1 : Int32)) (pc := 16) hx hb dX12_value_16 (by decide) ?_
    refine lv_icmp_le (tgt := 29) (pc := 17) hx hb dX12_value_17 (by decide) (fun c_ => ?_) (fun c_ => ?_)
    · have hrun := ite_t hrun c_
      exact b_X12_value_29 C x0 h H locs cells slots ls hH hL (lv_sub hl [0] rfl) hrun
    · have hrun := ite_f hrun c_
      refine V_aload_n (pc := 20) hx hb dX12_value_20 rfl (lv_at hl 0 rfl) ?_
      refine V_getI (pc := 21) C hH fr_X12_36 dX12_value_21 c21 rfl ?_
      refine lv_iconst (v := (1 : Int32)) (pc := 24) hx hb dX12_value_24 (by decide) ?_
      refine lv_isub (pc := 25) hx hb dX12_value_25 ?_
      refine lv_goto (tgt := 33) (pc := 26) hx hb dX12_value_26 (by decide) ?_
      exact b_X12_value_33 C x0 ((kI h 1102 x0) - (1 : Int32)) h H locs cells slots ls hH hL (lv_sub hl [0] rfl) hrun

theorem m_X12_value {l : Launch} {D : va_G} {Hs : Heap} {h : Hp} {rr : (Int32 ⊕ Ex) × Hp} (hl9 : l.stackTraces = false) {x0 : Nat} (hrun : f_X12_value x0 h = some rr) : CM l yX12_value (ws_ yX12_value cX12_value 6 (some .int)) 2 25 iI [rv x0] D Hs h rr := by
  refine CM.of (lv := [(0, rv x0)]) (plainFor_of_name (by decide)) hl9 (by simp [lv_args, rv_cat, cat_i, cat_l, cat_f, cat_d]) (by simp [lg_sl, rv_cat, cat_i, cat_l, cat_f, cat_d]) ?_
  intro p e R s m args below meth c H ls C hH hl hin
  exact b_X12_value C x0 _ H [] _ _ ls hH (fun _ q => nomatch q) (lv_sub hl [0] rfl) hrun

/-! java/lang/Math.max(JJ)J -/
def f_J10_max_2_11  (y0 : Int64) (h : Hp) : Rt Int64 :=
  some (.inl y0, h)
def f_J10_max_2  (x0 : Int64) (x2 : Int64) (h : Hp) : Rt Int64 :=
  if x0 < x2 then
  (f_J10_max_2_11 x2 h)
  else
  (f_J10_max_2_11 x0 h)
theorem b_J10_max_2_11 {rr : (Int64 ⊕ Ex) × Hp}  (C : CX p l R s m args meth c D Hs cJ10_max_2 "java/lang/Math" 4 (some .long) [] 1 0)  : ∀ (y0 : Int64) (h : Hp) (H : Heap) (locs : List Loc) (cells slots : Nat) (ls : Array Slot), HP D Hs h H → LO Hs locs → lv_has ls 4 [] → f_J10_max_2_11 y0 h = some rr → W p l e R s m args below meth c H locs cells slots (ZM D Hs iL rr below args s) (F0 m 11 ls [.long y0]) := by
  obtain ⟨⟨hx, hb, hml, hown, hts⟩, -⟩ := id C
  have hl9 := C.2.1.2.2.1
  intro y0 h H locs cells slots ls hH hL hl hrun
  unfold f_J10_max_2_11 at hrun
  exact V_lret (pc := 11) C hH hL hrun dJ10_max_2_11

theorem b_J10_max_2 {rr : (Int64 ⊕ Ex) × Hp}  (C : CX p l R s m args meth c D Hs cJ10_max_2 "java/lang/Math" 4 (some .long) [] 1 0)  : ∀ (x0 : Int64) (x2 : Int64) (h : Hp) (H : Heap) (locs : List Loc) (cells slots : Nat) (ls : Array Slot), HP D Hs h H → LO Hs locs → lv_has ls 4 [(0, .long x0), (2, .long x2)] → f_J10_max_2 x0 x2 h = some rr → W p l e R s m args below meth c H locs cells slots (ZM D Hs iL rr below args s) (F0 m 0 ls []) := by
  obtain ⟨⟨hx, hb, hml, hown, hts⟩, -⟩ := id C
  have hl9 := C.2.1.2.2.1
  intro x0 x2 h H locs cells slots ls hH hL hl hrun
  unfold f_J10_max_2 at hrun
  refine lv_lload_n (pc := 0) hx hb dJ10_max_2_0 rfl (lv_at hl 0 rfl) ?_
  refine lv_lload_n (pc := 1) hx hb dJ10_max_2_1 rfl (lv_at hl 1 rfl) ?_
  refine V_lcmp_lt (tgt := 10) (pc := 2) hx hb dJ10_max_2_2 dJ10_max_2_3 (by decide) (fun c_ => ?_) (fun c_ => ?_)
  · have hrun := ite_t hrun c_
    refine lv_lload_n (pc := 10) hx hb dJ10_max_2_10 rfl (lv_at hl 1 rfl) ?_
    exact b_J10_max_2_11 C x2 h H locs cells slots ls hH hL (lv_sub hl [] rfl) hrun
  · have hrun := ite_f hrun c_
    refine lv_lload_n (pc := 6) hx hb dJ10_max_2_6 rfl (lv_at hl 0 rfl) ?_
    refine lv_goto (tgt := 11) (pc := 7) hx hb dJ10_max_2_7 (by decide) ?_
    exact b_J10_max_2_11 C x0 h H locs cells slots ls hH hL (lv_sub hl [] rfl) hrun

theorem m_J10_max_2 {l : Launch} {D : va_G} {Hs : Heap} {h : Hp} {rr : (Int64 ⊕ Ex) × Hp} (hl9 : l.stackTraces = false) {x0 : Int64} {x2 : Int64} (hrun : f_J10_max_2 x0 x2 h = some rr) : CM l yJ10_max_2 (ws_ yJ10_max_2 cJ10_max_2 4 (some .long)) 1 0 iL [.long x0, .long x2] D Hs h rr := by
  refine CM.of (lv := [(0, .long x0), (2, .long x2)]) (by decide +kernel) hl9 (by simp [lv_args, rv_cat, cat_i, cat_l, cat_f, cat_d]) (by simp [lg_sl, rv_cat, cat_i, cat_l, cat_f, cat_d]) ?_
  intro p e R s m args below meth c H ls C hH hl hin
  exact b_J10_max_2 C x0 x2 _ H [] _ _ ls hH (fun _ q => nomatch q) (lv_sub hl [0, 1] rfl) hrun

/-! Massclaim$Claim.due(I)J -/
def f_X12_due_33  (y0 : Int64) (h : Hp) : Rt Int64 :=
  some (.inl y0, h)
def f_X12_due  (x0 : Nat) (x1 : Int32) (h : Hp) : Rt Int64 :=
  gd (kC h x0 = 12) <| if (kI h 1104 x0) = 0 then
  (bd (f_X12_value x0 h) fun v2 h3 => bd (f_X1_part (v2.toInt64) (x1.toInt64) (100 : Int64) h3) fun v4 h5 => gd (kC h5 x0 = 12) <| bd (f_J10_max_2 (0 : Int64) (v4 - (kL h5 1106 x0)) h5) fun v7 h8 => f_X12_due_33 v7 h8)
  else
  (f_X12_due_33 (0 : Int64) h)
theorem b_X12_due_33 {rr : (Int64 ⊕ Ex) × Hp}  (C : CX p l R s m args meth c D Hs cX12_due "Massclaim$Claim" 2 (some .long) [] 3 50)  : ∀ (y0 : Int64) (h : Hp) (H : Heap) (locs : List Loc) (cells slots : Nat) (ls : Array Slot), HP D Hs h H → LO Hs locs → lv_has ls 2 [] → f_X12_due_33 y0 h = some rr → W p l e R s m args below meth c H locs cells slots (ZM D Hs iL rr below args s) (F0 m 33 ls [.long y0]) := by
  obtain ⟨⟨hx, hb, hml, hown, hts⟩, -⟩ := id C
  have hl9 := C.2.1.2.2.1
  intro y0 h H locs cells slots ls hH hL hl hrun
  unfold f_X12_due_33 at hrun
  exact V_lret (pc := 33) C hH hL hrun dX12_due_33

theorem b_X12_due {rr : (Int64 ⊕ Ex) × Hp}  (C : CX p l R s m args meth c D Hs cX12_due "Massclaim$Claim" 2 (some .long) [] 3 50)  : ∀ (x0 : Nat) (x1 : Int32) (h : Hp) (H : Heap) (locs : List Loc) (cells slots : Nat) (ls : Array Slot), HP D Hs h H → LO Hs locs → lv_has ls 2 [(0, rv x0), (1, .int x1)] → f_X12_due x0 x1 h = some rr → W p l e R s m args below meth c H locs cells slots (ZM D Hs iL rr below args s) (F0 m 0 ls []) := by
  obtain ⟨⟨hx, hb, hml, hown, hts⟩, -⟩ := id C
  have hl9 := C.2.1.2.2.1
  intro x0 x1 h H locs cells slots ls hH hL hl hrun
  unfold f_X12_due at hrun
  refine V_aload_n (pc := 0) hx hb dX12_due_0 rfl (lv_at hl 0 rfl) ?_
  obtain ⟨c1, hrun⟩ := gd_some hrun
  refine V_getI (pc := 1) C hH fr_X12_15 dX12_due_1 c1 rfl ?_
  refine lv_if_ne (tgt := 32) (pc := 4) hx hb dX12_due_4 (by decide) (fun c_ => ?_) (fun c_ => ?_)
  · have hrun := ite_f hrun c_
    refine lv_lconst (v := (0 : Int64)) (pc := 32) hx hb dX12_due_32 (by decide) ?_
    exact b_X12_due_33 C (0 : Int64) h H locs cells slots ls hH hL (lv_sub hl [] rfl) hrun
  · have hrun := ite_t hrun c_
    refine lv_lconst (v := (0 : Int64)) (pc := 7) hx hb dX12_due_7 (by decide) ?_
    refine V_aload_n (pc := 8) hx hb dX12_due_8 rfl (lv_at hl 0 rfl) ?_
    refine V_bd (pc := 9) C hL rfl hrun (fun rr1 e1 => Z_runV (rest := [.long (0 : Int64)]) C hH (m_X12_value hl9 e1) wV_X12_101 c1 rfl (by decide) rfl rfl ⟨by decide, by decide⟩ rfl (Nat.le_of_ble_eq_true rfl) hl.1 dX12_due_9) (fun v2 h3 H locs cells slots hH hL hrun => ?_)
    refine lv_i2l (pc := 12) hx hb dX12_due_12 rfl ?_
    refine lv_iload_n (pc := 13) hx hb dX12_due_13 rfl (lv_at hl 1 rfl) ?_
    refine lv_i2l (pc := 14) hx hb dX12_due_14 rfl ?_
    refine lv_ldc2 (pc := 15) hx hb hown (hts _ q423) dX12_due_15 ?_
    refine V_bd (pc := 18) C hL rfl hrun (fun rr1 e1 => Z_runSN (rest := [.long (0 : Int64)]) C hH (m_X1_part hl9 e1) wSN_X12_91 rfl ⟨by decide, by decide⟩ rfl (Nat.le_of_ble_eq_true rfl) hl.1 dX12_due_18) (fun v4 h5 H locs cells slots hH hL hrun => ?_)
    refine V_aload_n (pc := 21) hx hb dX12_due_21 rfl (lv_at hl 0 rfl) ?_
    obtain ⟨c6, hrun⟩ := gd_some hrun
    refine V_getL (pc := 22) C hH fr_X12_104 dX12_due_22 c6 rfl ?_
    refine lv_lsub (pc := 25) hx hb dX12_due_25 ?_
    refine V_bd (pc := 26) C hL rfl hrun (fun rr1 e1 => Z_runS (rest := []) C hH (m_J10_max_2 hl9 e1) wS_X12_108 rfl ⟨by decide, by decide⟩ rfl (Nat.le_of_ble_eq_true rfl) hl.1 dX12_due_26) (fun v7 h8 H locs cells slots hH hL hrun => ?_)
    refine lv_goto (tgt := 33) (pc := 29) hx hb dX12_due_29 (by decide) ?_
    exact b_X12_due_33 C v7 h8 H locs cells slots ls hH hL (lv_sub hl [] rfl) hrun

theorem m_X12_due {l : Launch} {D : va_G} {Hs : Heap} {h : Hp} {rr : (Int64 ⊕ Ex) × Hp} (hl9 : l.stackTraces = false) {x0 : Nat} {x1 : Int32} (hrun : f_X12_due x0 x1 h = some rr) : CM l yX12_due (ws_ yX12_due cX12_due 2 (some .long)) 3 50 iL [rv x0, .int x1] D Hs h rr := by
  refine CM.of (lv := [(0, rv x0), (1, .int x1)]) (plainFor_of_name (by decide)) hl9 (by simp [lv_args, rv_cat, cat_i, cat_l, cat_f, cat_d]) (by simp [lg_sl, rv_cat, cat_i, cat_l, cat_f, cat_d]) ?_
  intro p e R s m args below meth c H ls C hH hl hin
  exact b_X12_due C x0 x1 _ H [] _ _ ls hH (fun _ q => nomatch q) (lv_sub hl [0, 1] rfl) hrun

/-! Massclaim.claimAt(II)I -/
def f_X1_claimAt_138  (y0 : Int32) (h : Hp) : Rt Int32 :=
  some (.inl y0, h)
def f_X1_claimAt  (x0 : Nat) (x1 : Int32) (x2 : Int32) (h : Hp) : Rt Int32 :=
  gd (kC h x0 = 1) <| gd (kC h (kR h 3 x0) = 2) <| bd (f_X2_at (kR h 3 x0) x1 h) fun v2 h3 => gd (v2 = 0 ∨ kC h3 v2 = 12) <| bd (f_X1_isIn (x2.toInt64) (0 : Int64) (7 : Int64) h3) fun v6 h7 => bd (f_X1_requireArgument v6 h7) fun _ h9 => if x2 = (0 : Int32) then
  (gd (kC h9 v2 = 12) <| f_X1_claimAt_138 (kI h9 1104 v2) h9)
  else
  if x2 = (1 : Int32) then
  (gd (kC h9 v2 = 12) <| bd (f_X12_value v2 h9) fun v11 h12 => f_X1_claimAt_138 v11 h12)
  else
  if x2 = (2 : Int32) then
  (gd (kC h9 v2 = 12) <| f_X1_claimAt_138 ((kL h9 1106 v2).toInt32) h9)
  else
  if x2 = (3 : Int32) then
  (gd (kC h9 x0 = 1) <| gd (kC h9 v2 = 12) <| bd (f_X12_due v2 (kI h9 16 x0) h9) fun v16 h17 => f_X1_claimAt_138 (v16.toInt32) h17)
  else
  if x2 = (4 : Int32) then
  (gd (kC h9 v2 = 12) <| f_X1_claimAt_138 (kI h9 1102 v2) h9)
  else
  if x2 = (5 : Int32) then
  (gd (kC h9 v2 = 12) <| if (kI h9 1109 v2) = 0 then
  (f_X1_claimAt_138 (0 : Int32) h9)
  else
  (f_X1_claimAt_138 (1 : Int32) h9))
  else
  if x2 = (6 : Int32) then
  (gd (kC h9 v2 = 12) <| bd (f_X12_lawyer v2 h9) fun v21 h22 => f_X1_claimAt_138 v21 h22)
  else
  (gd (kC h9 v2 = 12) <| gd (kC h9 (kR h9 1101 v2) = 5) <| f_X1_claimAt_138 (kI h9 400 (kR h9 1101 v2)) h9)
theorem b_X1_claimAt_138 {rr : (Int32 ⊕ Ex) × Hp}  (C : CX p l R s m args meth c D Hs cX1_claimAt "Massclaim" 4 (some .int) [] 8 131)  : ∀ (y0 : Int32) (h : Hp) (H : Heap) (locs : List Loc) (cells slots : Nat) (ls : Array Slot), HP D Hs h H → LO Hs locs → lv_has ls 4 [] → f_X1_claimAt_138 y0 h = some rr → W p l e R s m args below meth c H locs cells slots (ZM D Hs iI rr below args s) (F0 m 138 ls [.int y0]) := by
  obtain ⟨⟨hx, hb, hml, hown, hts⟩, -⟩ := id C
  have hl9 := C.2.1.2.2.1
  intro y0 h H locs cells slots ls hH hL hl hrun
  unfold f_X1_claimAt_138 at hrun
  exact V_iret (pc := 138) C hH hL hrun dX1_claimAt_138

theorem b_X1_claimAt {rr : (Int32 ⊕ Ex) × Hp}  (C : CX p l R s m args meth c D Hs cX1_claimAt "Massclaim" 4 (some .int) [] 8 131)  : ∀ (x0 : Nat) (x1 : Int32) (x2 : Int32) (h : Hp) (H : Heap) (locs : List Loc) (cells slots : Nat) (ls : Array Slot), HP D Hs h H → LO Hs locs → lv_has ls 4 [(0, rv x0), (1, .int x1), (2, .int x2)] → f_X1_claimAt x0 x1 x2 h = some rr → W p l e R s m args below meth c H locs cells slots (ZM D Hs iI rr below args s) (F0 m 0 ls []) := by
  obtain ⟨⟨hx, hb, hml, hown, hts⟩, -⟩ := id C
  have hl9 := C.2.1.2.2.1
  intro x0 x1 x2 h H locs cells slots ls hH hL hl hrun
  unfold f_X1_claimAt at hrun
  refine V_aload_n (pc := 0) hx hb dX1_claimAt_0 rfl (lv_at hl 0 rfl) ?_
  obtain ⟨c1, hrun⟩ := gd_some hrun
  refine V_getR (pc := 1) C hH fr_X1_52 dX1_claimAt_1 c1 rfl ?_
  refine lv_iload_n (pc := 4) hx hb dX1_claimAt_4 rfl (lv_at hl 1 rfl) ?_
  obtain ⟨c4, hrun⟩ := gd_some hrun
  refine V_bd (pc := 5) C hL rfl hrun (fun rr1 e1 => Z_runV (rest := []) C hH (m_X2_at hl9 e1) wV_X1_136 c4 rfl (by decide) rfl rfl ⟨by decide, by decide⟩ rfl (Nat.le_of_ble_eq_true rfl) hl.1 dX1_claimAt_5) (fun v2 h3 H locs cells slots hH hL hrun => ?_)
  obtain ⟨c5, hrun⟩ := gd_some hrun
  refine V_castX (pc := 8) (ci := 11) C hH rfl (by decide) q403 dX1_claimAt_8 c5 ?_
  refine V_astore_n (i := 3) (lv' := [(3, rv v2), (0, rv x0), (1, .int x1), (2, .int x2)]) (pc := 11) hx hb dX1_claimAt_11 rfl hl (by decide) rfl (fun ls hl => ?_)
  refine lv_iload_n (pc := 12) hx hb dX1_claimAt_12 rfl (lv_at hl 3 rfl) ?_
  refine lv_i2l (pc := 13) hx hb dX1_claimAt_13 rfl ?_
  refine lv_lconst (v := (0 : Int64)) (pc := 14) hx hb dX1_claimAt_14 (by decide) ?_
  refine lv_ldc2 (pc := 15) hx hb hown (hts _ q1617) dX1_claimAt_15 ?_
  refine V_bd (pc := 18) C hL rfl hrun (fun rr1 e1 => Z_runS (rest := []) C hH (m_X1_isIn hl9 e1) wS_X1_127 rfl ⟨by decide, by decide⟩ rfl (Nat.le_of_ble_eq_true rfl) hl.1 dX1_claimAt_18) (fun v6 h7 H locs cells slots hH hL hrun => ?_)
  refine V_bd (pc := 21) C hL rfl hrun (fun rr1 e1 => Z_runS (rest := []) C hH (m_X1_requireArgument hl9 e1) wS_X1_131 rfl ⟨by decide, by decide⟩ rfl (Nat.le_of_ble_eq_true rfl) hl.1 dX1_claimAt_21) (fun _ h9 H locs cells slots hH hL hrun => ?_)
  refine lv_iload_n (pc := 24) hx hb dX1_claimAt_24 rfl (lv_at hl 3 rfl) ?_
  by_cases n0 : x2 = (0 : Int32)
  · have hrun := ite_t hrun n0
    refine lv_tableIn (pc := 25) (off := 43) (tgt := 68) hx hb dX1_claimAt_25 (by rw [n0]; decide) (by rw [n0]; decide) (by rw [n0]; decide) (by decide) ?_
    refine V_aload_n (pc := 68) hx hb dX1_claimAt_68 rfl (lv_at hl 0 rfl) ?_
    obtain ⟨c10, hrun⟩ := gd_some hrun
    refine V_getNI (pc := 69) C hH fn_X1_157 dX1_claimAt_69 c10 rfl ?_
    refine lv_goto (tgt := 138) (pc := 72) hx hb dX1_claimAt_72 (by decide) ?_
    exact b_X1_claimAt_138 C (kI h9 1104 v2) h9 H locs cells slots ls hH hL (lv_sub hl [] rfl) hrun
  have hrun := ite_f hrun n0
  by_cases n1 : x2 = (1 : Int32)
  · have hrun := ite_t hrun n1
    refine lv_tableIn (pc := 25) (off := 50) (tgt := 75) hx hb dX1_claimAt_25 (by rw [n1]; decide) (by rw [n1]; decide) (by rw [n1]; decide) (by decide) ?_
    refine V_aload_n (pc := 75) hx hb dX1_claimAt_75 rfl (lv_at hl 0 rfl) ?_
    obtain ⟨c13, hrun⟩ := gd_some hrun
    refine V_bd (pc := 76) C hL rfl hrun (fun rr1 e1 => Z_runV (rest := []) C hH (m_X12_value hl9 e1) wV_X1_437 c13 rfl (by decide) rfl rfl ⟨by decide, by decide⟩ rfl (Nat.le_of_ble_eq_true rfl) hl.1 dX1_claimAt_76) (fun v11 h12 H locs cells slots hH hL hrun => ?_)
    refine lv_goto (tgt := 138) (pc := 79) hx hb dX1_claimAt_79 (by decide) ?_
    exact b_X1_claimAt_138 C v11 h12 H locs cells slots ls hH hL (lv_sub hl [] rfl) hrun
  have hrun := ite_f hrun n1
  by_cases n2 : x2 = (2 : Int32)
  · have hrun := ite_t hrun n2
    refine lv_tableIn (pc := 25) (off := 57) (tgt := 82) hx hb dX1_claimAt_25 (by rw [n2]; decide) (by rw [n2]; decide) (by rw [n2]; decide) (by decide) ?_
    refine V_aload_n (pc := 82) hx hb dX1_claimAt_82 rfl (lv_at hl 0 rfl) ?_
    obtain ⟨c14, hrun⟩ := gd_some hrun
    refine V_getNL (pc := 83) C hH fn_X1_440 dX1_claimAt_83 c14 rfl ?_
    refine lv_l2i (pc := 86) hx hb dX1_claimAt_86 rfl ?_
    refine lv_goto (tgt := 138) (pc := 87) hx hb dX1_claimAt_87 (by decide) ?_
    exact b_X1_claimAt_138 C ((kL h9 1106 v2).toInt32) h9 H locs cells slots ls hH hL (lv_sub hl [] rfl) hrun
  have hrun := ite_f hrun n2
  by_cases n3 : x2 = (3 : Int32)
  · have hrun := ite_t hrun n3
    refine lv_tableIn (pc := 25) (off := 65) (tgt := 90) hx hb dX1_claimAt_25 (by rw [n3]; decide) (by rw [n3]; decide) (by rw [n3]; decide) (by decide) ?_
    refine V_aload_n (pc := 90) hx hb dX1_claimAt_90 rfl (lv_at hl 0 rfl) ?_
    refine V_aload_n (pc := 91) hx hb dX1_claimAt_91 rfl (lv_at hl 1 rfl) ?_
    obtain ⟨c15, hrun⟩ := gd_some hrun
    refine V_getI (pc := 92) C hH fr_X1_108 dX1_claimAt_92 c15 rfl ?_
    obtain ⟨c18, hrun⟩ := gd_some hrun
    refine V_bd (pc := 95) C hL rfl hrun (fun rr1 e1 => Z_runV (rest := []) C hH (m_X12_due hl9 e1) wV_X1_443 c18 rfl (by decide) rfl rfl ⟨by decide, by decide⟩ rfl (Nat.le_of_ble_eq_true rfl) hl.1 dX1_claimAt_95) (fun v16 h17 H locs cells slots hH hL hrun => ?_)
    refine lv_l2i (pc := 98) hx hb dX1_claimAt_98 rfl ?_
    refine lv_goto (tgt := 138) (pc := 99) hx hb dX1_claimAt_99 (by decide) ?_
    exact b_X1_claimAt_138 C (v16.toInt32) h17 H locs cells slots ls hH hL (lv_sub hl [] rfl) hrun
  have hrun := ite_f hrun n3
  by_cases n4 : x2 = (4 : Int32)
  · have hrun := ite_t hrun n4
    refine lv_tableIn (pc := 25) (off := 77) (tgt := 102) hx hb dX1_claimAt_25 (by rw [n4]; decide) (by rw [n4]; decide) (by rw [n4]; decide) (by decide) ?_
    refine V_aload_n (pc := 102) hx hb dX1_claimAt_102 rfl (lv_at hl 0 rfl) ?_
    obtain ⟨c19, hrun⟩ := gd_some hrun
    refine V_getNI (pc := 103) C hH fn_X1_447 dX1_claimAt_103 c19 rfl ?_
    refine lv_goto (tgt := 138) (pc := 106) hx hb dX1_claimAt_106 (by decide) ?_
    exact b_X1_claimAt_138 C (kI h9 1102 v2) h9 H locs cells slots ls hH hL (lv_sub hl [] rfl) hrun
  have hrun := ite_f hrun n4
  by_cases n5 : x2 = (5 : Int32)
  · have hrun := ite_t hrun n5
    refine lv_tableIn (pc := 25) (off := 84) (tgt := 109) hx hb dX1_claimAt_25 (by rw [n5]; decide) (by rw [n5]; decide) (by rw [n5]; decide) (by decide) ?_
    refine V_aload_n (pc := 109) hx hb dX1_claimAt_109 rfl (lv_at hl 0 rfl) ?_
    obtain ⟨c20, hrun⟩ := gd_some hrun
    refine V_getNI (pc := 110) C hH fn_X1_428 dX1_claimAt_110 c20 rfl ?_
    refine lv_if_eq (tgt := 120) (pc := 113) hx hb dX1_claimAt_113 (by decide) (fun c_ => ?_) (fun c_ => ?_)
    · have hrun := ite_t hrun c_
      refine lv_iconst (v := (0 : Int32)) (pc := 120) hx hb dX1_claimAt_120 (by decide) ?_
      refine lv_goto (tgt := 138) (pc := 121) hx hb dX1_claimAt_121 (by decide) ?_
      exact b_X1_claimAt_138 C (0 : Int32) h9 H locs cells slots ls hH hL (lv_sub hl [] rfl) hrun
    · have hrun := ite_f hrun c_
      refine lv_iconst (v := (1 : Int32)) (pc := 116) hx hb dX1_claimAt_116 (by decide) ?_
      refine lv_goto (tgt := 138) (pc := 117) hx hb dX1_claimAt_117 (by decide) ?_
      exact b_X1_claimAt_138 C (1 : Int32) h9 H locs cells slots ls hH hL (lv_sub hl [] rfl) hrun
  have hrun := ite_f hrun n5
  by_cases n6 : x2 = (6 : Int32)
  · have hrun := ite_t hrun n6
    refine lv_tableIn (pc := 25) (off := 99) (tgt := 124) hx hb dX1_claimAt_25 (by rw [n6]; decide) (by rw [n6]; decide) (by rw [n6]; decide) (by decide) ?_
    refine V_aload_n (pc := 124) hx hb dX1_claimAt_124 rfl (lv_at hl 0 rfl) ?_
    obtain ⟨c23, hrun⟩ := gd_some hrun
    refine V_bd (pc := 125) C hL rfl hrun (fun rr1 e1 => Z_runV (rest := []) C hH (m_X12_lawyer hl9 e1) wV_X1_450 c23 rfl (by decide) rfl rfl ⟨by decide, by decide⟩ rfl (Nat.le_of_ble_eq_true rfl) hl.1 dX1_claimAt_125) (fun v21 h22 H locs cells slots hH hL hrun => ?_)
    refine lv_goto (tgt := 138) (pc := 128) hx hb dX1_claimAt_128 (by decide) ?_
    exact b_X1_claimAt_138 C v21 h22 H locs cells slots ls hH hL (lv_sub hl [] rfl) hrun
  have hrun := ite_f hrun n6
  refine lv_tableOut (pc := 25) (tgt := 131) hx hb dX1_claimAt_25 (sw_out [0, 1, 2, 3, 4, 5, 6] (by decide) (by decide) ⟨by decide, by decide⟩ (List.forall_mem_cons.mpr ⟨sw_ne (v := (0 : Int32)) (by decide) n0, (List.forall_mem_cons.mpr ⟨sw_ne (v := (1 : Int32)) (by decide) n1, (List.forall_mem_cons.mpr ⟨sw_ne (v := (2 : Int32)) (by decide) n2, (List.forall_mem_cons.mpr ⟨sw_ne (v := (3 : Int32)) (by decide) n3, (List.forall_mem_cons.mpr ⟨sw_ne (v := (4 : Int32)) (by decide) n4, (List.forall_mem_cons.mpr ⟨sw_ne (v := (5 : Int32)) (by decide) n5, (List.forall_mem_cons.mpr ⟨sw_ne (v := (6 : Int32)) (by decide) n6, (fun _ z => nomatch z)⟩)⟩)⟩)⟩)⟩)⟩)⟩)) (by decide) ?_
  refine V_aload_n (pc := 131) hx hb dX1_claimAt_131 rfl (lv_at hl 0 rfl) ?_
  obtain ⟨c24, hrun⟩ := gd_some hrun
  refine V_getNR (pc := 132) C hH fn_X1_453 dX1_claimAt_132 c24 rfl ?_
  obtain ⟨c25, hrun⟩ := gd_some hrun
  refine V_getNI (pc := 135) C hH fn_X1_299 dX1_claimAt_135 c25 rfl ?_
  exact b_X1_claimAt_138 C (kI h9 400 (kR h9 1101 v2)) h9 H locs cells slots ls hH hL (lv_sub hl [] rfl) hrun

theorem m_X1_claimAt {l : Launch} {D : va_G} {Hs : Heap} {h : Hp} {rr : (Int32 ⊕ Ex) × Hp} (hl9 : l.stackTraces = false) {x0 : Nat} {x1 : Int32} {x2 : Int32} (hrun : f_X1_claimAt x0 x1 x2 h = some rr) : CM l yX1_claimAt (ws_ yX1_claimAt cX1_claimAt 4 (some .int)) 8 131 iI [rv x0, .int x1, .int x2] D Hs h rr := by
  refine CM.of (lv := [(0, rv x0), (1, .int x1), (2, .int x2)]) (plainFor_of_name (by decide)) hl9 (by simp [lv_args, rv_cat, cat_i, cat_l, cat_f, cat_d]) (by simp [lg_sl, rv_cat, cat_i, cat_l, cat_f, cat_d]) ?_
  intro p e R s m args below meth c H ls C hH hl hin
  exact b_X1_claimAt C x0 x1 x2 _ H [] _ _ ls hH (fun _ q => nomatch q) (lv_sub hl [0, 1, 2] rfl) hrun

/-! MassclaimLaw.claimAt(LMassclaim;II[J)I -/
def f_X0_claimAt_13  (y0 : Nat) (h : Hp) : Rt Int32 :=
  some (.inl (1 : Int32), h)
def f_X0_claimAt_17  (y0 : Nat) (h : Hp) : Rt Int32 :=
  some (.inl (2 : Int32), h)
def f_X0_claimAt  (x0 : Nat) (x1 : Int32) (x2 : Int32) (x3 : Nat) (h : Hp) : Rt Int32 :=
  gd (kC h x0 = 1) <| bdH (f_X1_claimAt x0 x1 x2 h)
  (fun v1 h2 => gd (kC h2 x3 = 102 ∧ ixo (0 : Int32) (kN h2 x3)) <| vl (tL h2 x3 ((0 : Int32)).toNatClampNeg (v1.toInt64)) fun h5 => some (.inl (0 : Int32), h5))
  (fun ex6 h7 => if ex6.1 = 901 then
  (f_X0_claimAt_13 ex6.2 h7)
  else
  if ex6.1 = 902 then
  (f_X0_claimAt_17 ex6.2 h7)
  else
  none)
theorem b_X0_claimAt_13 {rr : (Int32 ⊕ Ex) × Hp}  (C : CX p l R s m args meth c D Hs cX0_claimAt "MassclaimLaw" 5 (some .int) [(0, 10, 13, 25), (0, 10, 17, 13)] 9 154)  : ∀ (y0 : Nat) (h : Hp) (H : Heap) (locs : List Loc) (cells slots : Nat) (ls : Array Slot), HP D Hs h H → LO Hs locs → lv_has ls 5 [] → f_X0_claimAt_13 y0 h = some rr → W p l e R s m args below meth c H locs cells slots (ZM D Hs iI rr below args s) (F0 m 13 ls [rv y0]) := by
  obtain ⟨⟨hx, hb, hml, hown, hts⟩, -⟩ := id C
  have hl9 := C.2.1.2.2.1
  intro y0 h H locs cells slots ls hH hL hl hrun
  unfold f_X0_claimAt_13 at hrun
  refine V_astore (i := 4) (lv' := [(4, rv y0)]) (pc := 13) hx hb dX0_claimAt_13 hl (by decide) rfl (fun ls hl => ?_)
  refine lv_iconst (v := (1 : Int32)) (pc := 15) hx hb dX0_claimAt_15 (by decide) ?_
  exact V_iret (pc := 16) C hH hL hrun dX0_claimAt_16

theorem b_X0_claimAt_17 {rr : (Int32 ⊕ Ex) × Hp}  (C : CX p l R s m args meth c D Hs cX0_claimAt "MassclaimLaw" 5 (some .int) [(0, 10, 13, 25), (0, 10, 17, 13)] 9 154)  : ∀ (y0 : Nat) (h : Hp) (H : Heap) (locs : List Loc) (cells slots : Nat) (ls : Array Slot), HP D Hs h H → LO Hs locs → lv_has ls 5 [] → f_X0_claimAt_17 y0 h = some rr → W p l e R s m args below meth c H locs cells slots (ZM D Hs iI rr below args s) (F0 m 17 ls [rv y0]) := by
  obtain ⟨⟨hx, hb, hml, hown, hts⟩, -⟩ := id C
  have hl9 := C.2.1.2.2.1
  intro y0 h H locs cells slots ls hH hL hl hrun
  unfold f_X0_claimAt_17 at hrun
  refine V_astore (i := 4) (lv' := [(4, rv y0)]) (pc := 17) hx hb dX0_claimAt_17 hl (by decide) rfl (fun ls hl => ?_)
  refine lv_iconst (v := (2 : Int32)) (pc := 19) hx hb dX0_claimAt_19 (by decide) ?_
  exact V_iret (pc := 20) C hH hL hrun dX0_claimAt_20

theorem b_X0_claimAt {rr : (Int32 ⊕ Ex) × Hp}  (C : CX p l R s m args meth c D Hs cX0_claimAt "MassclaimLaw" 5 (some .int) [(0, 10, 13, 25), (0, 10, 17, 13)] 9 154)  : ∀ (x0 : Nat) (x1 : Int32) (x2 : Int32) (x3 : Nat) (h : Hp) (H : Heap) (locs : List Loc) (cells slots : Nat) (ls : Array Slot), HP D Hs h H → LO Hs locs → lv_has ls 5 [(0, rv x0), (1, .int x1), (2, .int x2), (3, rv x3)] → f_X0_claimAt x0 x1 x2 x3 h = some rr → W p l e R s m args below meth c H locs cells slots (ZM D Hs iI rr below args s) (F0 m 0 ls []) := by
  obtain ⟨⟨hx, hb, hml, hown, hts⟩, -⟩ := id C
  have hl9 := C.2.1.2.2.1
  intro x0 x1 x2 x3 h H locs cells slots ls hH hL hl hrun
  unfold f_X0_claimAt at hrun
  refine V_aload_n (pc := 0) hx hb dX0_claimAt_0 rfl (lv_at hl 3 rfl) ?_
  refine lv_iconst (v := (0 : Int32)) (pc := 1) hx hb dX0_claimAt_1 (by decide) ?_
  refine V_aload_n (pc := 2) hx hb dX0_claimAt_2 rfl (lv_at hl 0 rfl) ?_
  refine lv_iload_n (pc := 3) hx hb dX0_claimAt_3 rfl (lv_at hl 1 rfl) ?_
  refine lv_iload_n (pc := 4) hx hb dX0_claimAt_4 rfl (lv_at hl 2 rfl) ?_
  obtain ⟨c3, hrun⟩ := gd_some hrun
  refine V_bdH (pc := 5) hL hrun (fun rr1 e1 => Z_runV (rest := [.int (0 : Int32), rv x3]) C hH (m_X1_claimAt hl9 e1) wV_X0_110 c3 rfl (by decide) rfl rfl ⟨by decide, by decide⟩ rfl (by simp [csum, rv_cat, cat_i, cat_l, cat_f, cat_d]) hl.1 dX0_claimAt_5) (fun v1 h2 H locs cells slots hH hL hrun => ?_) (fun x_ q_ ce_ h7 H locs cells slots hH hL hrun hc_ hv_ hcl_ => ?_)
  · refine lv_i2l (pc := 8) hx hb dX0_claimAt_8 rfl ?_
    obtain ⟨c4, hrun⟩ := gd_some hrun
    refine V_last (pc := 9) C hH hL dX0_claimAt_9 c4 hrun (fun h5 H locs hH hL hrun => ?_)
    refine lv_goto (tgt := 21) (pc := 10) hx hb dX0_claimAt_10 (by decide) ?_
    refine lv_iconst (v := (0 : Int32)) (pc := 21) hx hb dX0_claimAt_21 (by decide) ?_
    exact V_iret (pc := 22) C hH hL hrun dX0_claimAt_22
  · by_cases n901 : x_ = 901
    · subst n901
      have hrun := ite_t hrun rfl
      refine vx_catch (E := "java/lang/IndexOutOfBoundsException") (name := "java/lang/IndexOutOfBoundsException") hown (tableOf []) ⟨0, 10, 13, 25⟩ (tableOf [(0, 10, 17, 13)]) (by rw [C.2.1.2.2.2.2]; rfl) (fun z hz => nomatch hz) (by decide) (by decide) (hts _ q829) (va_Nw.use rfl (C.2.1.2.2.2.1.2.1 _ q537 rfl)) hc_ hv_ hcl_ ?_
      exact b_X0_claimAt_13 C (q_ + 1) h7 H locs cells slots ls hH hL (lv_sub hl [] rfl) hrun
    have hrun := ite_f hrun n901
    by_cases n902 : x_ = 902
    · subst n902
      have hrun := ite_t hrun rfl
      refine vx_catch (E := "java/lang/IllegalArgumentException") (name := "java/lang/IllegalArgumentException") hown (tableOf [(0, 10, 13, 25)]) ⟨0, 10, 17, 13⟩ (tableOf []) (by rw [C.2.1.2.2.2.2]; rfl) (fun z hz => by simp only [tableOf, List.map, List.mem_cons, List.not_mem_nil, or_false] at hz; rcases hz with rfl <;> first | exact Or.inr ⟨by decide, "java/lang/IndexOutOfBoundsException", hts _ q829, nc_at C (by decide)⟩) (by decide) (by decide) (hts _ q449) (va_Nw.use rfl (C.2.1.2.2.2.1.2.1 _ q463 rfl)) hc_ hv_ hcl_ ?_
      exact b_X0_claimAt_17 C (q_ + 1) h7 H locs cells slots ls hH hL (lv_sub hl [] rfl) hrun
    have hrun := ite_f hrun n902
    cases hrun

theorem m_X0_claimAt {l : Launch} {D : va_G} {Hs : Heap} {h : Hp} {rr : (Int32 ⊕ Ex) × Hp} (hl9 : l.stackTraces = false) {x0 : Nat} {x1 : Int32} {x2 : Int32} {x3 : Nat} (hrun : f_X0_claimAt x0 x1 x2 x3 h = some rr) : CM l yX0_claimAt (wsW_ yX0_claimAt cX0_claimAt 5 (some .int) [(0, 10, 13, 25), (0, 10, 17, 13)]) 9 154 iI [rv x0, .int x1, .int x2, rv x3] D Hs h rr := by
  refine CM.ofH (lv := [(0, rv x0), (1, .int x1), (2, .int x2), (3, rv x3)]) (plainFor_of_name (by decide)) hl9 (by simp [lv_args, rv_cat, cat_i, cat_l, cat_f, cat_d]) (by simp [lg_sl, rv_cat, cat_i, cat_l, cat_f, cat_d]) ?_
  intro p e R s m args below meth c H ls C hH hl hin
  exact b_X0_claimAt C x0 x1 x2 x3 _ H [] _ _ ls hH (fun _ q => nomatch q) (lv_sub hl [0, 1, 2, 3] rfl) hrun

/-! MassclaimModel.isClaim(I)Z -/
def f_X4_isClaim  (x0 : Nat) (x1 : Int32) (h : Hp) : Rt Int32 :=
  gd (kC h x0 = 4) <| gd (kC h (kR h 320 x0) = 18) <| bd (f_J2_size (kR h 320 x0) h) fun v2 h3 => bd (f_X4_isWithin (x1.toInt64) (0 : Int64) ((v2 - (1 : Int32)).toInt64) h3) fun v5 h6 => gd (b01 v5) <| some (.inl v5, h6)
theorem b_X4_isClaim {rr : (Int32 ⊕ Ex) × Hp}  (C : CX p l R s m args meth c D Hs cX4_isClaim "MassclaimModel" 2 (some .boolean) [] 2 25)  : ∀ (x0 : Nat) (x1 : Int32) (h : Hp) (H : Heap) (locs : List Loc) (cells slots : Nat) (ls : Array Slot), HP D Hs h H → LO Hs locs → lv_has ls 2 [(0, rv x0), (1, .int x1)] → f_X4_isClaim x0 x1 h = some rr → W p l e R s m args below meth c H locs cells slots (ZM D Hs iI rr below args s) (F0 m 0 ls []) := by
  obtain ⟨⟨hx, hb, hml, hown, hts⟩, -⟩ := id C
  have hl9 := C.2.1.2.2.1
  intro x0 x1 h H locs cells slots ls hH hL hl hrun
  unfold f_X4_isClaim at hrun
  refine lv_iload_n (pc := 0) hx hb dX4_isClaim_0 rfl (lv_at hl 1 rfl) ?_
  refine lv_i2l (pc := 1) hx hb dX4_isClaim_1 rfl ?_
  refine lv_lconst (v := (0 : Int64)) (pc := 2) hx hb dX4_isClaim_2 (by decide) ?_
  refine V_aload_n (pc := 3) hx hb dX4_isClaim_3 rfl (lv_at hl 0 rfl) ?_
  obtain ⟨c1, hrun⟩ := gd_some hrun
  refine V_getR (pc := 4) C hH fr_X4_30 dX4_isClaim_4 c1 rfl ?_
  obtain ⟨c4, hrun⟩ := gd_some hrun
  refine V_bd (pc := 7) C hL rfl hrun (fun rr1 e1 => Z_runV (rest := [.long (0 : Int64), .long (x1.toInt64)]) C hH (m_J2_size hl9 e1) wV_X4_94 c4 rfl (by decide) rfl rfl ⟨by decide, by decide⟩ rfl (Nat.le_of_ble_eq_true rfl) hl.1 dX4_isClaim_7) (fun v2 h3 H locs cells slots hH hL hrun => ?_)
  refine lv_iconst (v := (1 : Int32)) (pc := 10) hx hb dX4_isClaim_10 (by decide) ?_
  refine lv_isub (pc := 11) hx hb dX4_isClaim_11 ?_
  refine lv_i2l (pc := 12) hx hb dX4_isClaim_12 rfl ?_
  refine V_bd (pc := 13) C hL rfl hrun (fun rr1 e1 => Z_runS (rest := []) C hH (m_X4_isWithin hl9 e1) wS_X4_100 rfl ⟨by decide, by decide⟩ rfl (Nat.le_of_ble_eq_true rfl) hl.1 dX4_isClaim_13) (fun v5 h6 H locs cells slots hH hL hrun => ?_)
  obtain ⟨c7, hrun⟩ := gd_some hrun
  exact V_zret (pc := 16) C hH hL c7 hrun dX4_isClaim_16

theorem m_X4_isClaim {l : Launch} {D : va_G} {Hs : Heap} {h : Hp} {rr : (Int32 ⊕ Ex) × Hp} (hl9 : l.stackTraces = false) {x0 : Nat} {x1 : Int32} (hrun : f_X4_isClaim x0 x1 h = some rr) : CM l yX4_isClaim (ws_ yX4_isClaim cX4_isClaim 2 (some .boolean)) 2 25 iI [rv x0, .int x1] D Hs h rr := by
  refine CM.of (lv := [(0, rv x0), (1, .int x1)]) (plainFor_of_name (by decide)) hl9 (by simp [lv_args, rv_cat, cat_i, cat_l, cat_f, cat_d]) (by simp [lg_sl, rv_cat, cat_i, cat_l, cat_f, cat_d]) ?_
  intro p e R s m args below meth c H ls C hH hl hin
  exact b_X4_isClaim C x0 x1 _ H [] _ _ ls hH (fun _ q => nomatch q) (lv_sub hl [0, 1] rfl) hrun

/-! MassclaimModel.bandOf(I)I -/
def f_X4_bandOf_31  (y0 : Int32) (h : Hp) : Rt Int32 :=
  some (.inl y0, h)
def f_X4_bandOf  (x0 : Int32) (h : Hp) : Rt Int32 :=
  if (30 : Int32) ≤ x0 then
  (if (50 : Int32) ≤ x0 then
  (if (65 : Int32) ≤ x0 then
  (f_X4_bandOf_31 (3 : Int32) h)
  else
  (f_X4_bandOf_31 (2 : Int32) h))
  else
  (f_X4_bandOf_31 (1 : Int32) h))
  else
  (f_X4_bandOf_31 (0 : Int32) h)
theorem b_X4_bandOf_31 {rr : (Int32 ⊕ Ex) × Hp}  (C : CX p l R s m args meth c D Hs cX4_bandOf "MassclaimModel" 1 (some .int) [] 1 0)  : ∀ (y0 : Int32) (h : Hp) (H : Heap) (locs : List Loc) (cells slots : Nat) (ls : Array Slot), HP D Hs h H → LO Hs locs → lv_has ls 1 [] → f_X4_bandOf_31 y0 h = some rr → W p l e R s m args below meth c H locs cells slots (ZM D Hs iI rr below args s) (F0 m 31 ls [.int y0]) := by
  obtain ⟨⟨hx, hb, hml, hown, hts⟩, -⟩ := id C
  have hl9 := C.2.1.2.2.1
  intro y0 h H locs cells slots ls hH hL hl hrun
  unfold f_X4_bandOf_31 at hrun
  exact V_iret (pc := 31) C hH hL hrun dX4_bandOf_31

theorem b_X4_bandOf {rr : (Int32 ⊕ Ex) × Hp}  (C : CX p l R s m args meth c D Hs cX4_bandOf "MassclaimModel" 1 (some .int) [] 1 0)  : ∀ (x0 : Int32) (h : Hp) (H : Heap) (locs : List Loc) (cells slots : Nat) (ls : Array Slot), HP D Hs h H → LO Hs locs → lv_has ls 1 [(0, .int x0)] → f_X4_bandOf x0 h = some rr → W p l e R s m args below meth c H locs cells slots (ZM D Hs iI rr below args s) (F0 m 0 ls []) := by
  obtain ⟨⟨hx, hb, hml, hown, hts⟩, -⟩ := id C
  have hl9 := C.2.1.2.2.1
  intro x0 h H locs cells slots ls hH hL hl hrun
  unfold f_X4_bandOf at hrun
  refine lv_iload_n (pc := 0) hx hb dX4_bandOf_0 rfl (lv_at hl 0 rfl) ?_
  refine lv_bipush (v := (30 : Int32)) (pc := 1) hx hb dX4_bandOf_1 (by decide) ?_
  refine lv_icmp_ge (tgt := 10) (pc := 3) hx hb dX4_bandOf_3 (by decide) (fun c_ => ?_) (fun c_ => ?_)
  · have hrun := ite_t hrun c_
    refine lv_iload_n (pc := 10) hx hb dX4_bandOf_10 rfl (lv_at hl 0 rfl) ?_
    refine lv_bipush (v := (50 : Int32)) (pc := 11) hx hb dX4_bandOf_11 (by decide) ?_
    refine lv_icmp_ge (tgt := 20) (pc := 13) hx hb dX4_bandOf_13 (by decide) (fun c_ => ?_) (fun c_ => ?_)
    · have hrun := ite_t hrun c_
      refine lv_iload_n (pc := 20) hx hb dX4_bandOf_20 rfl (lv_at hl 0 rfl) ?_
      refine lv_bipush (v := (65 : Int32)) (pc := 21) hx hb dX4_bandOf_21 (by decide) ?_
      refine lv_icmp_ge (tgt := 30) (pc := 23) hx hb dX4_bandOf_23 (by decide) (fun c_ => ?_) (fun c_ => ?_)
      · have hrun := ite_t hrun c_
        refine lv_iconst (v := (3 : Int32)) (pc := 30) hx hb dX4_bandOf_30 (by decide) ?_
        exact b_X4_bandOf_31 C (3 : Int32) h H locs cells slots ls hH hL (lv_sub hl [] rfl) hrun
      · have hrun := ite_f hrun c_
        refine lv_iconst (v := (2 : Int32)) (pc := 26) hx hb dX4_bandOf_26 (by decide) ?_
        refine lv_goto (tgt := 31) (pc := 27) hx hb dX4_bandOf_27 (by decide) ?_
        exact b_X4_bandOf_31 C (2 : Int32) h H locs cells slots ls hH hL (lv_sub hl [] rfl) hrun
    · have hrun := ite_f hrun c_
      refine lv_iconst (v := (1 : Int32)) (pc := 16) hx hb dX4_bandOf_16 (by decide) ?_
      refine lv_goto (tgt := 31) (pc := 17) hx hb dX4_bandOf_17 (by decide) ?_
      exact b_X4_bandOf_31 C (1 : Int32) h H locs cells slots ls hH hL (lv_sub hl [] rfl) hrun
  · have hrun := ite_f hrun c_
    refine lv_iconst (v := (0 : Int32)) (pc := 6) hx hb dX4_bandOf_6 (by decide) ?_
    refine lv_goto (tgt := 31) (pc := 7) hx hb dX4_bandOf_7 (by decide) ?_
    exact b_X4_bandOf_31 C (0 : Int32) h H locs cells slots ls hH hL (lv_sub hl [] rfl) hrun

theorem m_X4_bandOf {l : Launch} {D : va_G} {Hs : Heap} {h : Hp} {rr : (Int32 ⊕ Ex) × Hp} (hl9 : l.stackTraces = false) {x0 : Int32} (hrun : f_X4_bandOf x0 h = some rr) : CM l yX4_bandOf (ws_ yX4_bandOf cX4_bandOf 1 (some .int)) 1 0 iI [.int x0] D Hs h rr := by
  refine CM.of (lv := [(0, .int x0)]) (plainFor_of_name (by decide)) hl9 (by simp [lv_args, rv_cat, cat_i, cat_l, cat_f, cat_d]) (by simp [lg_sl, rv_cat, cat_i, cat_l, cat_f, cat_d]) ?_
  intro p e R s m args below meth c H ls C hH hl hin
  exact b_X4_bandOf C x0 _ H [] _ _ ls hH (fun _ q => nomatch q) (lv_sub hl [0] rfl) hrun

/-! MassclaimModel.value(LMassclaimModel$Claim;)J -/
def f_X4_value_123  (x0 : Nat) (x2 : Nat) (x3 : Int64) (y0 : Int64) (h : Hp) : Rt Int64 :=
  gd (kC h x0 = 4) <| gd (kC h x2 = 6) <| bd (f_X6_age x2 (kI h 505 x2) h) fun v3 h4 => bd (f_X4_bandOf v3 h4) fun v5 h6 => gd (kC h6 (kR h 315 x0) = 101 ∧ ixo (((4 : Int32) * ((kI h 504 x2) - (1 : Int32))) + v5) (kN h6 (kR h 315 x0))) <| vl ((jI h6 (kR h 315 x0) ((((4 : Int32) * ((kI h 504 x2) - (1 : Int32))) + v5)).toNatClampNeg).toInt64) fun v8 => gd (kC h6 x0 = 4) <| bd (f_J10_min ((kI h6 316 x0).toInt64) ((((v8 * x3) / (100 : Int64)) * y0) / (100 : Int64)) h6) fun v10 h11 => some (.inl v10, h11)
def f_X4_value_85  (x0 : Nat) (x2 : Nat) (x3 : Int64) (y0 : Int32) (h : Hp) : Rt Int64 :=
  if y0 = 0 then
  (f_X4_value_123 x0 x2 x3 (100 : Int64) h)
  else
  (if y0 = (1 : Int32) then
  (f_X4_value_123 x0 x2 x3 (75 : Int64) h)
  else
  (if y0 = (2 : Int32) then
  (f_X4_value_123 x0 x2 x3 (50 : Int64) h)
  else
  (f_X4_value_123 x0 x2 x3 (0 : Int64) h)))
def f_X4_value_81  (x0 : Nat) (x1 : Nat) (x2 : Nat) (x3 : Int64) (h : Hp) : Rt Int64 :=
  gd (kC h x1 = 13) <| f_X4_value_85 x0 x2 x3 (kI h 1201 x1) h
def f_X4_value_54  (x0 : Nat) (x1 : Nat) (x2 : Nat) (y0 : Int64) (h : Hp) : Rt Int64 :=
  gd (kC h x2 = 6) <| if (kI h 503 x2) < (120 : Int32) then
  (f_X4_value_81 x0 x1 x2 y0 h)
  else
  (gd (kC h x1 = 13) <| if (kI h 1201 x1) < (2 : Int32) then
  (f_X4_value_81 x0 x1 x2 y0 h)
  else
  (f_X4_value_85 x0 x2 y0 ((kI h 1201 x1) - (1 : Int32)) h))
def f_X4_value  (x0 : Nat) (x1 : Nat) (h : Hp) : Rt Int64 :=
  gd (kC h x1 = 13) <| vl (kR h 1200 x1) fun v16 => gd (kC h v16 = 6) <| if (12 : Int32) ≤ (kI h 503 v16) then
  (if (60 : Int32) ≤ (kI h 503 v16) then
  (if (240 : Int32) ≤ (kI h 503 v16) then
  (f_X4_value_54 x0 x1 v16 (120 : Int64) h)
  else
  (f_X4_value_54 x0 x1 v16 (100 : Int64) h))
  else
  (f_X4_value_54 x0 x1 v16 (75 : Int64) h))
  else
  (f_X4_value_54 x0 x1 v16 (50 : Int64) h)
theorem b_X4_value_123 {rr : (Int64 ⊕ Ex) × Hp}  (C : CX p l R s m args meth c D Hs cX4_value "MassclaimModel" 10 (some .long) [] 3 43)  : ∀ (x0 : Nat) (x2 : Nat) (x3 : Int64) (y0 : Int64) (h : Hp) (H : Heap) (locs : List Loc) (cells slots : Nat) (ls : Array Slot), HP D Hs h H → LO Hs locs → lv_has ls 10 [(0, rv x0), (2, rv x2), (3, .long x3)] → f_X4_value_123 x0 x2 x3 y0 h = some rr → W p l e R s m args below meth c H locs cells slots (ZM D Hs iL rr below args s) (F0 m 123 ls [.long y0]) := by
  obtain ⟨⟨hx, hb, hml, hown, hts⟩, -⟩ := id C
  have hl9 := C.2.1.2.2.1
  intro x0 x2 x3 y0 h H locs cells slots ls hH hL hl hrun
  unfold f_X4_value_123 at hrun
  refine lv_lstore (i := 6) (lv' := [(6, .long y0), (0, rv x0), (2, rv x2), (3, .long x3)]) (pc := 123) hx hb dX4_value_123 hl (by decide) rfl (fun ls hl => ?_)
  refine V_aload_n (pc := 125) hx hb dX4_value_125 rfl (lv_at hl 1 rfl) ?_
  obtain ⟨c1, hrun⟩ := gd_some hrun
  refine V_getR (pc := 126) C hH fr_X4_26 dX4_value_126 c1 rfl ?_
  refine lv_iconst (v := (4 : Int32)) (pc := 129) hx hb dX4_value_129 (by decide) ?_
  refine V_aload_n (pc := 130) hx hb dX4_value_130 rfl (lv_at hl 2 rfl) ?_
  obtain ⟨c2, hrun⟩ := gd_some hrun
  refine V_getI (pc := 131) C hH fr_X4_117 dX4_value_131 c2 rfl ?_
  refine lv_iconst (v := (1 : Int32)) (pc := 134) hx hb dX4_value_134 (by decide) ?_
  refine lv_isub (pc := 135) hx hb dX4_value_135 ?_
  refine lv_imul (pc := 136) hx hb dX4_value_136 ?_
  refine V_aload_n (pc := 137) hx hb dX4_value_137 rfl (lv_at hl 2 rfl) ?_
  refine V_aload_n (pc := 138) hx hb dX4_value_138 rfl (lv_at hl 2 rfl) ?_
  refine V_getI (pc := 139) C hH fr_X4_196 dX4_value_139 c2 rfl ?_
  refine V_bd (pc := 142) C hL rfl hrun (fun rr1 e1 => Z_runV (rest := [.int ((4 : Int32) * ((kI h 504 x2) - (1 : Int32))), rv (kR h 315 x0)]) C hH (m_X6_age hl9 e1) wV_X4_143 c2 rfl (by decide) rfl rfl ⟨by decide, by decide⟩ rfl (by simp [csum, rv_cat, cat_i, cat_l, cat_f, cat_d]) hl.1 dX4_value_142) (fun v3 h4 H locs cells slots hH hL hrun => ?_)
  refine V_bd (pc := 145) C hL rfl hrun (fun rr1 e1 => Z_runS (rest := [.int ((4 : Int32) * ((kI h 504 x2) - (1 : Int32))), rv (kR h 315 x0)]) C hH (m_X4_bandOf hl9 e1) wS_X4_376 rfl ⟨by decide, by decide⟩ rfl (by simp [csum, rv_cat, cat_i, cat_l, cat_f, cat_d]) hl.1 dX4_value_145) (fun v5 h6 H locs cells slots hH hL hrun => ?_)
  refine lv_iadd (pc := 148) hx hb dX4_value_148 ?_
  obtain ⟨c7, hrun⟩ := gd_some hrun
  refine V_iald (pc := 149) C hH dX4_value_149 c7 ?_
  refine lv_i2l (pc := 150) hx hb dX4_value_150 rfl ?_
  refine lv_topl (fun v8 ev8 => ?_)
  have hrun := vl_at hrun v8 ev8
  refine lv_lstore (i := 8) (lv' := [(8, .long v8), (6, .long y0), (0, rv x0), (2, rv x2), (3, .long x3)]) (pc := 151) hx hb dX4_value_151 hl (by decide) rfl (fun ls hl => ?_)
  refine V_aload_n (pc := 153) hx hb dX4_value_153 rfl (lv_at hl 2 rfl) ?_
  obtain ⟨c9, hrun⟩ := gd_some hrun
  refine V_getI (pc := 154) C hH fr_X4_64 dX4_value_154 c9 rfl ?_
  refine lv_i2l (pc := 157) hx hb dX4_value_157 rfl ?_
  refine lv_lload (pc := 158) hx hb dX4_value_158 (lv_at hl 0 rfl) ?_
  refine lv_lload_n (pc := 160) hx hb dX4_value_160 rfl (lv_at hl 4 rfl) ?_
  refine lv_lmul (pc := 161) hx hb dX4_value_161 ?_
  refine lv_ldc2 (pc := 162) hx hb hown (hts _ q2205) dX4_value_162 ?_
  refine lv_ldiv (pc := 165) hx hb dX4_value_165 (by decide) ?_
  refine lv_lload (pc := 166) hx hb dX4_value_166 (lv_at hl 1 rfl) ?_
  refine lv_lmul (pc := 168) hx hb dX4_value_168 ?_
  refine lv_ldc2 (pc := 169) hx hb hown (hts _ q2205) dX4_value_169 ?_
  refine lv_ldiv (pc := 172) hx hb dX4_value_172 (by decide) ?_
  refine V_bd (pc := 173) C hL rfl hrun (fun rr1 e1 => Z_runS (rest := []) C hH (m_J10_min hl9 e1) wS_X4_320 rfl ⟨by decide, by decide⟩ rfl (Nat.le_of_ble_eq_true rfl) hl.1 dX4_value_173) (fun v10 h11 H locs cells slots hH hL hrun => ?_)
  exact V_lret (pc := 176) C hH hL hrun dX4_value_176

theorem b_X4_value_85 {rr : (Int64 ⊕ Ex) × Hp}  (C : CX p l R s m args meth c D Hs cX4_value "MassclaimModel" 10 (some .long) [] 3 43)  : ∀ (x0 : Nat) (x2 : Nat) (x3 : Int64) (y0 : Int32) (h : Hp) (H : Heap) (locs : List Loc) (cells slots : Nat) (ls : Array Slot), HP D Hs h H → LO Hs locs → lv_has ls 10 [(0, rv x0), (2, rv x2), (3, .long x3)] → f_X4_value_85 x0 x2 x3 y0 h = some rr → W p l e R s m args below meth c H locs cells slots (ZM D Hs iL rr below args s) (F0 m 85 ls [.int y0]) := by
  obtain ⟨⟨hx, hb, hml, hown, hts⟩, -⟩ := id C
  have hl9 := C.2.1.2.2.1
  intro x0 x2 x3 y0 h H locs cells slots ls hH hL hl hrun
  unfold f_X4_value_85 at hrun
  refine lv_istore (i := 5) (lv' := [(5, .int y0), (0, rv x0), (2, rv x2), (3, .long x3)]) (pc := 85) hx hb dX4_value_85 hl (by decide) rfl (fun ls hl => ?_)
  refine lv_iload (pc := 87) hx hb dX4_value_87 (lv_at hl 0 rfl) ?_
  refine lv_if_ne (tgt := 98) (pc := 89) hx hb dX4_value_89 (by decide) (fun c_ => ?_) (fun c_ => ?_)
  · have hrun := ite_f hrun c_
    refine lv_iload (pc := 98) hx hb dX4_value_98 (lv_at hl 0 rfl) ?_
    refine lv_iconst (v := (1 : Int32)) (pc := 100) hx hb dX4_value_100 (by decide) ?_
    refine lv_icmp_ne (tgt := 110) (pc := 101) hx hb dX4_value_101 (by decide) (fun c_ => ?_) (fun c_ => ?_)
    · have hrun := ite_f hrun c_
      refine lv_iload (pc := 110) hx hb dX4_value_110 (lv_at hl 0 rfl) ?_
      refine lv_iconst (v := (2 : Int32)) (pc := 112) hx hb dX4_value_112 (by decide) ?_
      refine lv_icmp_ne (tgt := 122) (pc := 113) hx hb dX4_value_113 (by decide) (fun c_ => ?_) (fun c_ => ?_)
      · have hrun := ite_f hrun c_
        refine lv_lconst (v := (0 : Int64)) (pc := 122) hx hb dX4_value_122 (by decide) ?_
        exact b_X4_value_123 C x0 x2 x3 (0 : Int64) h H locs cells slots ls hH hL (lv_sub hl [1, 2, 3] rfl) hrun
      · have hrun := ite_t hrun c_
        refine lv_ldc2 (pc := 116) hx hb hown (hts _ q2258) dX4_value_116 ?_
        refine lv_goto (tgt := 123) (pc := 119) hx hb dX4_value_119 (by decide) ?_
        exact b_X4_value_123 C x0 x2 x3 (50 : Int64) h H locs cells slots ls hH hL (lv_sub hl [1, 2, 3] rfl) hrun
    · have hrun := ite_t hrun c_
      refine lv_ldc2 (pc := 104) hx hb hown (hts _ q2377) dX4_value_104 ?_
      refine lv_goto (tgt := 123) (pc := 107) hx hb dX4_value_107 (by decide) ?_
      exact b_X4_value_123 C x0 x2 x3 (75 : Int64) h H locs cells slots ls hH hL (lv_sub hl [1, 2, 3] rfl) hrun
  · have hrun := ite_t hrun c_
    refine lv_ldc2 (pc := 92) hx hb hown (hts _ q2205) dX4_value_92 ?_
    refine lv_goto (tgt := 123) (pc := 95) hx hb dX4_value_95 (by decide) ?_
    exact b_X4_value_123 C x0 x2 x3 (100 : Int64) h H locs cells slots ls hH hL (lv_sub hl [1, 2, 3] rfl) hrun

theorem b_X4_value_81 {rr : (Int64 ⊕ Ex) × Hp}  (C : CX p l R s m args meth c D Hs cX4_value "MassclaimModel" 10 (some .long) [] 3 43)  : ∀ (x0 : Nat) (x1 : Nat) (x2 : Nat) (x3 : Int64) (h : Hp) (H : Heap) (locs : List Loc) (cells slots : Nat) (ls : Array Slot), HP D Hs h H → LO Hs locs → lv_has ls 10 [(0, rv x0), (1, rv x1), (2, rv x2), (3, .long x3)] → f_X4_value_81 x0 x1 x2 x3 h = some rr → W p l e R s m args below meth c H locs cells slots (ZM D Hs iL rr below args s) (F0 m 81 ls []) := by
  obtain ⟨⟨hx, hb, hml, hown, hts⟩, -⟩ := id C
  have hl9 := C.2.1.2.2.1
  intro x0 x1 x2 x3 h H locs cells slots ls hH hL hl hrun
  unfold f_X4_value_81 at hrun
  refine V_aload_n (pc := 81) hx hb dX4_value_81 rfl (lv_at hl 1 rfl) ?_
  obtain ⟨c12, hrun⟩ := gd_some hrun
  refine V_getI (pc := 82) C hH fr_X4_373 dX4_value_82 c12 rfl ?_
  exact b_X4_value_85 C x0 x2 x3 (kI h 1201 x1) h H locs cells slots ls hH hL (lv_sub hl [0, 2, 3] rfl) hrun

theorem b_X4_value_54 {rr : (Int64 ⊕ Ex) × Hp}  (C : CX p l R s m args meth c D Hs cX4_value "MassclaimModel" 10 (some .long) [] 3 43)  : ∀ (x0 : Nat) (x1 : Nat) (x2 : Nat) (y0 : Int64) (h : Hp) (H : Heap) (locs : List Loc) (cells slots : Nat) (ls : Array Slot), HP D Hs h H → LO Hs locs → lv_has ls 10 [(0, rv x0), (1, rv x1), (2, rv x2)] → f_X4_value_54 x0 x1 x2 y0 h = some rr → W p l e R s m args below meth c H locs cells slots (ZM D Hs iL rr below args s) (F0 m 54 ls [.long y0]) := by
  obtain ⟨⟨hx, hb, hml, hown, hts⟩, -⟩ := id C
  have hl9 := C.2.1.2.2.1
  intro x0 x1 x2 y0 h H locs cells slots ls hH hL hl hrun
  unfold f_X4_value_54 at hrun
  refine lv_lstore_n (i := 3) (lv' := [(3, .long y0), (0, rv x0), (1, rv x1), (2, rv x2)]) (pc := 54) hx hb dX4_value_54 rfl hl (by decide) (by simp [rv_cat, cat_i, cat_l, cat_f, cat_d]) (fun ls hl => ?_)
  refine V_aload_n (pc := 55) hx hb dX4_value_55 rfl (lv_at hl 3 rfl) ?_
  obtain ⟨c13, hrun⟩ := gd_some hrun
  refine V_getI (pc := 56) C hH fr_X4_183 dX4_value_56 c13 rfl ?_
  refine lv_bipush (v := (120 : Int32)) (pc := 59) hx hb dX4_value_59 (by decide) ?_
  refine lv_icmp_lt (tgt := 81) (pc := 61) hx hb dX4_value_61 (by decide) (fun c_ => ?_) (fun c_ => ?_)
  · have hrun := ite_t hrun c_
    exact b_X4_value_81 C x0 x1 x2 y0 h H locs cells slots ls hH hL (lv_sub hl [1, 2, 3, 0] rfl) hrun
  · have hrun := ite_f hrun c_
    refine V_aload_n (pc := 64) hx hb dX4_value_64 rfl (lv_at hl 2 rfl) ?_
    obtain ⟨c14, hrun⟩ := gd_some hrun
    refine V_getI (pc := 65) C hH fr_X4_373 dX4_value_65 c14 rfl ?_
    refine lv_iconst (v := (2 : Int32)) (pc := 68) hx hb dX4_value_68 (by decide) ?_
    refine lv_icmp_lt (tgt := 81) (pc := 69) hx hb dX4_value_69 (by decide) (fun c_ => ?_) (fun c_ => ?_)
    · have hrun := ite_t hrun c_
      exact b_X4_value_81 C x0 x1 x2 y0 h H locs cells slots ls hH hL (lv_sub hl [1, 2, 3, 0] rfl) hrun
    · have hrun := ite_f hrun c_
      refine V_aload_n (pc := 72) hx hb dX4_value_72 rfl (lv_at hl 2 rfl) ?_
      refine V_getI (pc := 73) C hH fr_X4_373 dX4_value_73 c14 rfl ?_
      refine lv_iconst (v := (1 : Int32)) (pc := 76) hx hb dX4_value_76 (by decide) ?_
      refine lv_isub (pc := 77) hx hb dX4_value_77 ?_
      refine lv_goto (tgt := 85) (pc := 78) hx hb dX4_value_78 (by decide) ?_
      exact b_X4_value_85 C x0 x2 y0 ((kI h 1201 x1) - (1 : Int32)) h H locs cells slots ls hH hL (lv_sub hl [1, 3, 0] rfl) hrun

theorem b_X4_value {rr : (Int64 ⊕ Ex) × Hp}  (C : CX p l R s m args meth c D Hs cX4_value "MassclaimModel" 10 (some .long) [] 3 43)  : ∀ (x0 : Nat) (x1 : Nat) (h : Hp) (H : Heap) (locs : List Loc) (cells slots : Nat) (ls : Array Slot), HP D Hs h H → LO Hs locs → lv_has ls 10 [(0, rv x0), (1, rv x1)] → f_X4_value x0 x1 h = some rr → W p l e R s m args below meth c H locs cells slots (ZM D Hs iL rr below args s) (F0 m 0 ls []) := by
  obtain ⟨⟨hx, hb, hml, hown, hts⟩, -⟩ := id C
  have hl9 := C.2.1.2.2.1
  intro x0 x1 h H locs cells slots ls hH hL hl hrun
  unfold f_X4_value at hrun
  refine V_aload_n (pc := 0) hx hb dX4_value_0 rfl (lv_at hl 1 rfl) ?_
  obtain ⟨c15, hrun⟩ := gd_some hrun
  refine V_getR (pc := 1) C hH fr_X4_368 dX4_value_1 c15 rfl ?_
  refine V_topr (fun v16 ev16 => ?_)
  have hrun := vl_at hrun v16 ev16
  refine V_astore_n (i := 2) (lv' := [(2, rv v16), (0, rv x0), (1, rv x1)]) (pc := 4) hx hb dX4_value_4 rfl hl (by decide) (by simp [rv_cat, cat_i, cat_l, cat_f, cat_d]) (fun ls hl => ?_)
  refine V_aload_n (pc := 5) hx hb dX4_value_5 rfl (lv_at hl 0 rfl) ?_
  obtain ⟨c17, hrun⟩ := gd_some hrun
  refine V_getI (pc := 6) C hH fr_X4_183 dX4_value_6 c17 rfl ?_
  refine lv_bipush (v := (12 : Int32)) (pc := 9) hx hb dX4_value_9 (by decide) ?_
  refine lv_icmp_ge (tgt := 20) (pc := 11) hx hb dX4_value_11 (by decide) (fun c_ => ?_) (fun c_ => ?_)
  · have hrun := ite_t hrun c_
    refine V_aload_n (pc := 20) hx hb dX4_value_20 rfl (lv_at hl 0 rfl) ?_
    refine V_getI (pc := 21) C hH fr_X4_183 dX4_value_21 c17 rfl ?_
    refine lv_bipush (v := (60 : Int32)) (pc := 24) hx hb dX4_value_24 (by decide) ?_
    refine lv_icmp_ge (tgt := 35) (pc := 26) hx hb dX4_value_26 (by decide) (fun c_ => ?_) (fun c_ => ?_)
    · have hrun := ite_t hrun c_
      refine V_aload_n (pc := 35) hx hb dX4_value_35 rfl (lv_at hl 0 rfl) ?_
      refine V_getI (pc := 36) C hH fr_X4_183 dX4_value_36 c17 rfl ?_
      refine lv_sipush (v := (240 : Int32)) (pc := 39) hx hb dX4_value_39 (by decide) ?_
      refine lv_icmp_ge (tgt := 51) (pc := 42) hx hb dX4_value_42 (by decide) (fun c_ => ?_) (fun c_ => ?_)
      · have hrun := ite_t hrun c_
        refine lv_ldc2 (pc := 51) hx hb hown (hts _ q2378) dX4_value_51 ?_
        exact b_X4_value_54 C x0 x1 v16 (120 : Int64) h H locs cells slots ls hH hL (lv_sub hl [1, 2, 0] rfl) hrun
      · have hrun := ite_f hrun c_
        refine lv_ldc2 (pc := 45) hx hb hown (hts _ q2205) dX4_value_45 ?_
        refine lv_goto (tgt := 54) (pc := 48) hx hb dX4_value_48 (by decide) ?_
        exact b_X4_value_54 C x0 x1 v16 (100 : Int64) h H locs cells slots ls hH hL (lv_sub hl [1, 2, 0] rfl) hrun
    · have hrun := ite_f hrun c_
      refine lv_ldc2 (pc := 29) hx hb hown (hts _ q2377) dX4_value_29 ?_
      refine lv_goto (tgt := 54) (pc := 32) hx hb dX4_value_32 (by decide) ?_
      exact b_X4_value_54 C x0 x1 v16 (75 : Int64) h H locs cells slots ls hH hL (lv_sub hl [1, 2, 0] rfl) hrun
  · have hrun := ite_f hrun c_
    refine lv_ldc2 (pc := 14) hx hb hown (hts _ q2258) dX4_value_14 ?_
    refine lv_goto (tgt := 54) (pc := 17) hx hb dX4_value_17 (by decide) ?_
    exact b_X4_value_54 C x0 x1 v16 (50 : Int64) h H locs cells slots ls hH hL (lv_sub hl [1, 2, 0] rfl) hrun

theorem m_X4_value {l : Launch} {D : va_G} {Hs : Heap} {h : Hp} {rr : (Int64 ⊕ Ex) × Hp} (hl9 : l.stackTraces = false) {x0 : Nat} {x1 : Nat} (hrun : f_X4_value x0 x1 h = some rr) : CM l yX4_value (ws_ yX4_value cX4_value 10 (some .long)) 3 43 iL [rv x0, rv x1] D Hs h rr := by
  refine CM.of (lv := [(0, rv x0), (1, rv x1)]) (plainFor_of_name (by decide)) hl9 (by simp [lv_args, rv_cat, cat_i, cat_l, cat_f, cat_d]) (by simp [lg_sl, rv_cat, cat_i, cat_l, cat_f, cat_d]) ?_
  intro p e R s m args below meth c H ls C hH hl hin
  exact b_X4_value C x0 x1 _ H [] _ _ ls hH (fun _ q => nomatch q) (lv_sub hl [0, 1] rfl) hrun

/-! MassclaimModel.due(LMassclaimModel$Claim;I)J -/
def f_X4_due_32  (y0 : Int64) (h : Hp) : Rt Int64 :=
  some (.inl y0, h)
def f_X4_due  (x0 : Nat) (x1 : Nat) (x2 : Int32) (h : Hp) : Rt Int64 :=
  gd (kC h x1 = 13) <| if (kI h 1203 x1) = 0 then
  (gd (kC h x0 = 4) <| bd (f_X4_value x0 x1 h) fun v2 h3 => gd (kC h3 x1 = 13) <| bd (f_J10_max_2 (0 : Int64) (((v2 * (x2.toInt64)) / (100 : Int64)) - (kL h3 1208 x1)) h3) fun v6 h7 => f_X4_due_32 v6 h7)
  else
  (f_X4_due_32 (0 : Int64) h)
theorem b_X4_due_32 {rr : (Int64 ⊕ Ex) × Hp}  (C : CX p l R s m args meth c D Hs cX4_due "MassclaimModel" 3 (some .long) [] 4 72)  : ∀ (y0 : Int64) (h : Hp) (H : Heap) (locs : List Loc) (cells slots : Nat) (ls : Array Slot), HP D Hs h H → LO Hs locs → lv_has ls 3 [] → f_X4_due_32 y0 h = some rr → W p l e R s m args below meth c H locs cells slots (ZM D Hs iL rr below args s) (F0 m 32 ls [.long y0]) := by
  obtain ⟨⟨hx, hb, hml, hown, hts⟩, -⟩ := id C
  have hl9 := C.2.1.2.2.1
  intro y0 h H locs cells slots ls hH hL hl hrun
  unfold f_X4_due_32 at hrun
  exact V_lret (pc := 32) C hH hL hrun dX4_due_32

theorem b_X4_due {rr : (Int64 ⊕ Ex) × Hp}  (C : CX p l R s m args meth c D Hs cX4_due "MassclaimModel" 3 (some .long) [] 4 72)  : ∀ (x0 : Nat) (x1 : Nat) (x2 : Int32) (h : Hp) (H : Heap) (locs : List Loc) (cells slots : Nat) (ls : Array Slot), HP D Hs h H → LO Hs locs → lv_has ls 3 [(0, rv x0), (1, rv x1), (2, .int x2)] → f_X4_due x0 x1 x2 h = some rr → W p l e R s m args below meth c H locs cells slots (ZM D Hs iL rr below args s) (F0 m 0 ls []) := by
  obtain ⟨⟨hx, hb, hml, hown, hts⟩, -⟩ := id C
  have hl9 := C.2.1.2.2.1
  intro x0 x1 x2 h H locs cells slots ls hH hL hl hrun
  unfold f_X4_due at hrun
  refine V_aload_n (pc := 0) hx hb dX4_due_0 rfl (lv_at hl 1 rfl) ?_
  obtain ⟨c1, hrun⟩ := gd_some hrun
  refine V_getI (pc := 1) C hH fr_X4_126 dX4_due_1 c1 rfl ?_
  refine lv_if_ne (tgt := 31) (pc := 4) hx hb dX4_due_4 (by decide) (fun c_ => ?_) (fun c_ => ?_)
  · have hrun := ite_f hrun c_
    refine lv_lconst (v := (0 : Int64)) (pc := 31) hx hb dX4_due_31 (by decide) ?_
    exact b_X4_due_32 C (0 : Int64) h H locs cells slots ls hH hL (lv_sub hl [] rfl) hrun
  · have hrun := ite_t hrun c_
    refine lv_lconst (v := (0 : Int64)) (pc := 7) hx hb dX4_due_7 (by decide) ?_
    refine V_aload_n (pc := 8) hx hb dX4_due_8 rfl (lv_at hl 0 rfl) ?_
    refine V_aload_n (pc := 9) hx hb dX4_due_9 rfl (lv_at hl 1 rfl) ?_
    obtain ⟨c4, hrun⟩ := gd_some hrun
    refine V_bd (pc := 10) C hL rfl hrun (fun rr1 e1 => Z_runV (rest := [.long (0 : Int64)]) C hH (m_X4_value hl9 e1) wV_X4_402 c4 rfl (by decide) rfl rfl ⟨by decide, by decide⟩ rfl (Nat.le_of_ble_eq_true rfl) hl.1 dX4_due_10) (fun v2 h3 H locs cells slots hH hL hrun => ?_)
    refine lv_iload_n (pc := 13) hx hb dX4_due_13 rfl (lv_at hl 2 rfl) ?_
    refine lv_i2l (pc := 14) hx hb dX4_due_14 rfl ?_
    refine lv_lmul (pc := 15) hx hb dX4_due_15 ?_
    refine lv_ldc2 (pc := 16) hx hb hown (hts _ q2205) dX4_due_16 ?_
    refine lv_ldiv (pc := 19) hx hb dX4_due_19 (by decide) ?_
    refine V_aload_n (pc := 20) hx hb dX4_due_20 rfl (lv_at hl 1 rfl) ?_
    obtain ⟨c5, hrun⟩ := gd_some hrun
    refine V_getL (pc := 21) C hH fr_X4_406 dX4_due_21 c5 rfl ?_
    refine lv_lsub (pc := 24) hx hb dX4_due_24 ?_
    refine V_bd (pc := 25) C hL rfl hrun (fun rr1 e1 => Z_runS (rest := []) C hH (m_J10_max_2 hl9 e1) wS_X4_409 rfl ⟨by decide, by decide⟩ rfl (Nat.le_of_ble_eq_true rfl) hl.1 dX4_due_25) (fun v6 h7 H locs cells slots hH hL hrun => ?_)
    refine lv_goto (tgt := 32) (pc := 28) hx hb dX4_due_28 (by decide) ?_
    exact b_X4_due_32 C v6 h7 H locs cells slots ls hH hL (lv_sub hl [] rfl) hrun

theorem m_X4_due {l : Launch} {D : va_G} {Hs : Heap} {h : Hp} {rr : (Int64 ⊕ Ex) × Hp} (hl9 : l.stackTraces = false) {x0 : Nat} {x1 : Nat} {x2 : Int32} (hrun : f_X4_due x0 x1 x2 h = some rr) : CM l yX4_due (ws_ yX4_due cX4_due 3 (some .long)) 4 72 iL [rv x0, rv x1, .int x2] D Hs h rr := by
  refine CM.of (lv := [(0, rv x0), (1, rv x1), (2, .int x2)]) (plainFor_of_name (by decide)) hl9 (by simp [lv_args, rv_cat, cat_i, cat_l, cat_f, cat_d]) (by simp [lg_sl, rv_cat, cat_i, cat_l, cat_f, cat_d]) ?_
  intro p e R s m args below meth c H ls C hH hl hin
  exact b_X4_due C x0 x1 x2 _ H [] _ _ ls hH (fun _ q => nomatch q) (lv_sub hl [0, 1, 2] rfl) hrun

/-! MassclaimModel.claimAt(II)I -/
def f_X4_claimAt_30  (h : Hp) : Rt Int32 :=
  some (.inl (0 : Int32), h)
def f_X4_claimAt_134  (y0 : Int32) (h : Hp) : Rt Int32 :=
  some (.inl y0, h)
def f_X4_claimAt  (x0 : Nat) (x1 : Int32) (x2 : Int32) (h : Hp) : Rt Int32 :=
  gd (kC h x0 = 4) <| bd (f_X4_isClaim x0 x1 h) fun v1 h2 => gd (kC h2 x0 = 4) <| bd (f_X4_isGood x0 v1 (1 : Int32) h2) fun v4 h5 => if v4 = 0 then
  (f_X4_claimAt_30  h5)
  else
  (bd (f_X4_isWithin (x2.toInt64) (0 : Int64) (7 : Int64) h5) fun v7 h8 => gd (kC h8 x0 = 4) <| bd (f_X4_isGood x0 v7 (2 : Int32) h8) fun v9 h10 => if v9 = 0 then
  (f_X4_claimAt_30  h10)
  else
  (gd (kC h10 x0 = 4) <| gd (kC h10 (kR h10 320 x0) = 18) <| bd (f_J2_get (kR h10 320 x0) x1 h10) fun v13 h14 => gd (v13 = 0 ∨ kC h14 v13 = 13) <| if x2 = (0 : Int32) then
  (gd (kC h14 v13 = 13) <| some (.inl (kI h14 1203 v13), h14))
  else
  if x2 = (1 : Int32) then
  (gd (kC h14 x0 = 4) <| bd (f_X4_value x0 v13 h14) fun v18 h19 => some (.inl (v18.toInt32), h19))
  else
  if x2 = (2 : Int32) then
  (gd (kC h14 v13 = 13) <| some (.inl ((kL h14 1208 v13).toInt32), h14))
  else
  if x2 = (3 : Int32) then
  (gd (kC h14 x0 = 4) <| bd (f_X4_due x0 v13 (kI h14 319 x0) h14) fun v23 h24 => some (.inl (v23.toInt32), h24))
  else
  if x2 = (4 : Int32) then
  (gd (kC h14 v13 = 13) <| some (.inl (kI h14 1201 v13), h14))
  else
  if x2 = (5 : Int32) then
  (gd (kC h14 v13 = 13) <| if (kI h14 1204 v13) = 0 then
  (f_X4_claimAt_134 (0 : Int32) h14)
  else
  (f_X4_claimAt_134 (1 : Int32) h14))
  else
  if x2 = (6 : Int32) then
  (gd (kC h14 v13 = 13) <| bd (f_X13_lawyer v13 h14) fun v27 h28 => some (.inl v27, h28))
  else
  (gd (kC h14 x0 = 4) <| gd (kC h14 v13 = 13) <| gd (kC h14 (kR h14 302 x0) = 18) <| bd (f_J2_indexOf (kR h14 302 x0) (kR h14 1200 v13) h14) fun v32 h33 => some (.inl v32, h33))))
theorem b_X4_claimAt_30 {rr : (Int32 ⊕ Ex) × Hp}  (C : CX p l R s m args meth c D Hs cX4_claimAt "MassclaimModel" 4 (some .int) [] 5 94)  : ∀ (h : Hp) (H : Heap) (locs : List Loc) (cells slots : Nat) (ls : Array Slot), HP D Hs h H → LO Hs locs → lv_has ls 4 [] → f_X4_claimAt_30 h = some rr → W p l e R s m args below meth c H locs cells slots (ZM D Hs iI rr below args s) (F0 m 30 ls []) := by
  obtain ⟨⟨hx, hb, hml, hown, hts⟩, -⟩ := id C
  have hl9 := C.2.1.2.2.1
  intro h H locs cells slots ls hH hL hl hrun
  unfold f_X4_claimAt_30 at hrun
  refine lv_iconst (v := (0 : Int32)) (pc := 30) hx hb dX4_claimAt_30 (by decide) ?_
  exact V_iret (pc := 31) C hH hL hrun dX4_claimAt_31

theorem b_X4_claimAt_134 {rr : (Int32 ⊕ Ex) × Hp}  (C : CX p l R s m args meth c D Hs cX4_claimAt "MassclaimModel" 4 (some .int) [] 5 94)  : ∀ (y0 : Int32) (h : Hp) (H : Heap) (locs : List Loc) (cells slots : Nat) (ls : Array Slot), HP D Hs h H → LO Hs locs → lv_has ls 4 [] → f_X4_claimAt_134 y0 h = some rr → W p l e R s m args below meth c H locs cells slots (ZM D Hs iI rr below args s) (F0 m 134 ls [.int y0]) := by
  obtain ⟨⟨hx, hb, hml, hown, hts⟩, -⟩ := id C
  have hl9 := C.2.1.2.2.1
  intro y0 h H locs cells slots ls hH hL hl hrun
  unfold f_X4_claimAt_134 at hrun
  exact V_iret (pc := 134) C hH hL hrun dX4_claimAt_134

theorem b_X4_claimAt {rr : (Int32 ⊕ Ex) × Hp}  (C : CX p l R s m args meth c D Hs cX4_claimAt "MassclaimModel" 4 (some .int) [] 5 94)  : ∀ (x0 : Nat) (x1 : Int32) (x2 : Int32) (h : Hp) (H : Heap) (locs : List Loc) (cells slots : Nat) (ls : Array Slot), HP D Hs h H → LO Hs locs → lv_has ls 4 [(0, rv x0), (1, .int x1), (2, .int x2)] → f_X4_claimAt x0 x1 x2 h = some rr → W p l e R s m args below meth c H locs cells slots (ZM D Hs iI rr below args s) (F0 m 0 ls []) := by
  obtain ⟨⟨hx, hb, hml, hown, hts⟩, -⟩ := id C
  have hl9 := C.2.1.2.2.1
  intro x0 x1 x2 h H locs cells slots ls hH hL hl hrun
  unfold f_X4_claimAt at hrun
  refine V_aload_n (pc := 0) hx hb dX4_claimAt_0 rfl (lv_at hl 0 rfl) ?_
  refine V_aload_n (pc := 1) hx hb dX4_claimAt_1 rfl (lv_at hl 0 rfl) ?_
  refine lv_iload_n (pc := 2) hx hb dX4_claimAt_2 rfl (lv_at hl 1 rfl) ?_
  obtain ⟨c3, hrun⟩ := gd_some hrun
  refine V_bd (pc := 3) C hL rfl hrun (fun rr1 e1 => Z_runV (rest := [rv x0]) C hH (m_X4_isClaim hl9 e1) wV_X4_416 c3 rfl (by decide) rfl rfl ⟨by decide, by decide⟩ rfl (by simp [csum, rv_cat, cat_i, cat_l, cat_f, cat_d]) hl.1 dX4_claimAt_3) (fun v1 h2 H locs cells slots hH hL hrun => ?_)
  refine lv_iconst (v := (1 : Int32)) (pc := 6) hx hb dX4_claimAt_6 (by decide) ?_
  obtain ⟨c6, hrun⟩ := gd_some hrun
  refine V_bd (pc := 7) C hL rfl hrun (fun rr1 e1 => Z_runV (rest := []) C hH (m_X4_isGood hl9 e1) wV_X4_104 c6 rfl (by decide) rfl rfl ⟨by decide, by decide⟩ rfl (Nat.le_of_ble_eq_true rfl) hl.1 dX4_claimAt_7) (fun v4 h5 H locs cells slots hH hL hrun => ?_)
  refine lv_if_eq (tgt := 30) (pc := 10) hx hb dX4_claimAt_10 (by decide) (fun c_ => ?_) (fun c_ => ?_)
  · have hrun := ite_t hrun c_
    exact b_X4_claimAt_30 C h5 H locs cells slots ls hH hL (lv_sub hl [] rfl) hrun
  · have hrun := ite_f hrun c_
    refine V_aload_n (pc := 13) hx hb dX4_claimAt_13 rfl (lv_at hl 0 rfl) ?_
    refine lv_iload_n (pc := 14) hx hb dX4_claimAt_14 rfl (lv_at hl 2 rfl) ?_
    refine lv_i2l (pc := 15) hx hb dX4_claimAt_15 rfl ?_
    refine lv_lconst (v := (0 : Int64)) (pc := 16) hx hb dX4_claimAt_16 (by decide) ?_
    refine lv_ldc2 (pc := 17) hx hb hown (hts _ q2372) dX4_claimAt_17 ?_
    refine V_bd (pc := 20) C hL rfl hrun (fun rr1 e1 => Z_runS (rest := [rv x0]) C hH (m_X4_isWithin hl9 e1) wS_X4_100 rfl ⟨by decide, by decide⟩ rfl (by simp [csum, rv_cat, cat_i, cat_l, cat_f, cat_d]) hl.1 dX4_claimAt_20) (fun v7 h8 H locs cells slots hH hL hrun => ?_)
    refine lv_iconst (v := (2 : Int32)) (pc := 23) hx hb dX4_claimAt_23 (by decide) ?_
    obtain ⟨c11, hrun⟩ := gd_some hrun
    refine V_bd (pc := 24) C hL rfl hrun (fun rr1 e1 => Z_runV (rest := []) C hH (m_X4_isGood hl9 e1) wV_X4_104 c11 rfl (by decide) rfl rfl ⟨by decide, by decide⟩ rfl (Nat.le_of_ble_eq_true rfl) hl.1 dX4_claimAt_24) (fun v9 h10 H locs cells slots hH hL hrun => ?_)
    refine lv_if_ne (tgt := 32) (pc := 27) hx hb dX4_claimAt_27 (by decide) (fun c_ => ?_) (fun c_ => ?_)
    · have hrun := ite_f hrun c_
      refine V_aload_n (pc := 32) hx hb dX4_claimAt_32 rfl (lv_at hl 0 rfl) ?_
      obtain ⟨c12, hrun⟩ := gd_some hrun
      refine V_getR (pc := 33) C hH fr_X4_30 dX4_claimAt_33 c12 rfl ?_
      refine lv_iload_n (pc := 36) hx hb dX4_claimAt_36 rfl (lv_at hl 1 rfl) ?_
      obtain ⟨c15, hrun⟩ := gd_some hrun
      refine V_bd (pc := 37) C hL rfl hrun (fun rr1 e1 => Z_runV (rest := []) C hH (m_J2_get hl9 e1) wV_X4_108 c15 rfl (by decide) rfl rfl ⟨by decide, by decide⟩ rfl (Nat.le_of_ble_eq_true rfl) hl.1 dX4_claimAt_37) (fun v13 h14 H locs cells slots hH hL hrun => ?_)
      obtain ⟨c16, hrun⟩ := gd_some hrun
      refine V_castX (pc := 40) (ci := 12) C hH rfl (by decide) q1955 dX4_claimAt_40 c16 ?_
      refine V_astore_n (i := 3) (lv' := [(3, rv v13), (0, rv x0), (1, .int x1), (2, .int x2)]) (pc := 43) hx hb dX4_claimAt_43 rfl hl (by decide) rfl (fun ls hl => ?_)
      refine lv_iload_n (pc := 44) hx hb dX4_claimAt_44 rfl (lv_at hl 3 rfl) ?_
      by_cases n0 : x2 = (0 : Int32)
      · have hrun := ite_t hrun n0
        refine lv_tableIn (pc := 45) (off := 43) (tgt := 88) hx hb dX4_claimAt_45 (by rw [n0]; decide) (by rw [n0]; decide) (by rw [n0]; decide) (by decide) ?_
        refine V_aload_n (pc := 88) hx hb dX4_claimAt_88 rfl (lv_at hl 0 rfl) ?_
        obtain ⟨c17, hrun⟩ := gd_some hrun
        refine V_getI (pc := 89) C hH fr_X4_126 dX4_claimAt_89 c17 rfl ?_
        exact V_iret (pc := 92) C hH hL hrun dX4_claimAt_92
      have hrun := ite_f hrun n0
      by_cases n1 : x2 = (1 : Int32)
      · have hrun := ite_t hrun n1
        refine lv_tableIn (pc := 45) (off := 48) (tgt := 93) hx hb dX4_claimAt_45 (by rw [n1]; decide) (by rw [n1]; decide) (by rw [n1]; decide) (by decide) ?_
        refine V_aload_n (pc := 93) hx hb dX4_claimAt_93 rfl (lv_at hl 1 rfl) ?_
        refine V_aload_n (pc := 94) hx hb dX4_claimAt_94 rfl (lv_at hl 0 rfl) ?_
        obtain ⟨c20, hrun⟩ := gd_some hrun
        refine V_bd (pc := 95) C hL rfl hrun (fun rr1 e1 => Z_runV (rest := []) C hH (m_X4_value hl9 e1) wV_X4_402 c20 rfl (by decide) rfl rfl ⟨by decide, by decide⟩ rfl (Nat.le_of_ble_eq_true rfl) hl.1 dX4_claimAt_95) (fun v18 h19 H locs cells slots hH hL hrun => ?_)
        refine lv_l2i (pc := 98) hx hb dX4_claimAt_98 rfl ?_
        exact V_iret (pc := 99) C hH hL hrun dX4_claimAt_99
      have hrun := ite_f hrun n1
      by_cases n2 : x2 = (2 : Int32)
      · have hrun := ite_t hrun n2
        refine lv_tableIn (pc := 45) (off := 55) (tgt := 100) hx hb dX4_claimAt_45 (by rw [n2]; decide) (by rw [n2]; decide) (by rw [n2]; decide) (by decide) ?_
        refine V_aload_n (pc := 100) hx hb dX4_claimAt_100 rfl (lv_at hl 0 rfl) ?_
        obtain ⟨c21, hrun⟩ := gd_some hrun
        refine V_getL (pc := 101) C hH fr_X4_406 dX4_claimAt_101 c21 rfl ?_
        refine lv_l2i (pc := 104) hx hb dX4_claimAt_104 rfl ?_
        exact V_iret (pc := 105) C hH hL hrun dX4_claimAt_105
      have hrun := ite_f hrun n2
      by_cases n3 : x2 = (3 : Int32)
      · have hrun := ite_t hrun n3
        refine lv_tableIn (pc := 45) (off := 61) (tgt := 106) hx hb dX4_claimAt_45 (by rw [n3]; decide) (by rw [n3]; decide) (by rw [n3]; decide) (by decide) ?_
        refine V_aload_n (pc := 106) hx hb dX4_claimAt_106 rfl (lv_at hl 1 rfl) ?_
        refine V_aload_n (pc := 107) hx hb dX4_claimAt_107 rfl (lv_at hl 0 rfl) ?_
        refine V_aload_n (pc := 108) hx hb dX4_claimAt_108 rfl (lv_at hl 1 rfl) ?_
        obtain ⟨c22, hrun⟩ := gd_some hrun
        refine V_getI (pc := 109) C hH fr_X4_73 dX4_claimAt_109 c22 rfl ?_
        refine V_bd (pc := 112) C hL rfl hrun (fun rr1 e1 => Z_runV (rest := []) C hH (m_X4_due hl9 e1) wV_X4_412 c22 rfl (by decide) rfl rfl ⟨by decide, by decide⟩ rfl (Nat.le_of_ble_eq_true rfl) hl.1 dX4_claimAt_112) (fun v23 h24 H locs cells slots hH hL hrun => ?_)
        refine lv_l2i (pc := 115) hx hb dX4_claimAt_115 rfl ?_
        exact V_iret (pc := 116) C hH hL hrun dX4_claimAt_116
      have hrun := ite_f hrun n3
      by_cases n4 : x2 = (4 : Int32)
      · have hrun := ite_t hrun n4
        refine lv_tableIn (pc := 45) (off := 72) (tgt := 117) hx hb dX4_claimAt_45 (by rw [n4]; decide) (by rw [n4]; decide) (by rw [n4]; decide) (by decide) ?_
        refine V_aload_n (pc := 117) hx hb dX4_claimAt_117 rfl (lv_at hl 0 rfl) ?_
        obtain ⟨c25, hrun⟩ := gd_some hrun
        refine V_getI (pc := 118) C hH fr_X4_373 dX4_claimAt_118 c25 rfl ?_
        exact V_iret (pc := 121) C hH hL hrun dX4_claimAt_121
      have hrun := ite_f hrun n4
      by_cases n5 : x2 = (5 : Int32)
      · have hrun := ite_t hrun n5
        refine lv_tableIn (pc := 45) (off := 77) (tgt := 122) hx hb dX4_claimAt_45 (by rw [n5]; decide) (by rw [n5]; decide) (by rw [n5]; decide) (by decide) ?_
        refine V_aload_n (pc := 122) hx hb dX4_claimAt_122 rfl (lv_at hl 0 rfl) ?_
        obtain ⟨c26, hrun⟩ := gd_some hrun
        refine V_getI (pc := 123) C hH fr_X4_392 dX4_claimAt_123 c26 rfl ?_
        refine lv_if_eq (tgt := 133) (pc := 126) hx hb dX4_claimAt_126 (by decide) (fun c_ => ?_) (fun c_ => ?_)
        · have hrun := ite_t hrun c_
          refine lv_iconst (v := (0 : Int32)) (pc := 133) hx hb dX4_claimAt_133 (by decide) ?_
          exact b_X4_claimAt_134 C (0 : Int32) h14 H locs cells slots ls hH hL (lv_sub hl [] rfl) hrun
        · have hrun := ite_f hrun c_
          refine lv_iconst (v := (1 : Int32)) (pc := 129) hx hb dX4_claimAt_129 (by decide) ?_
          refine lv_goto (tgt := 134) (pc := 130) hx hb dX4_claimAt_130 (by decide) ?_
          exact b_X4_claimAt_134 C (1 : Int32) h14 H locs cells slots ls hH hL (lv_sub hl [] rfl) hrun
      have hrun := ite_f hrun n5
      by_cases n6 : x2 = (6 : Int32)
      · have hrun := ite_t hrun n6
        refine lv_tableIn (pc := 45) (off := 90) (tgt := 135) hx hb dX4_claimAt_45 (by rw [n6]; decide) (by rw [n6]; decide) (by rw [n6]; decide) (by decide) ?_
        refine V_aload_n (pc := 135) hx hb dX4_claimAt_135 rfl (lv_at hl 0 rfl) ?_
        obtain ⟨c29, hrun⟩ := gd_some hrun
        refine V_bd (pc := 136) C hL rfl hrun (fun rr1 e1 => Z_runV (rest := []) C hH (m_X13_lawyer hl9 e1) wV_X4_395 c29 rfl (by decide) rfl rfl ⟨by decide, by decide⟩ rfl (Nat.le_of_ble_eq_true rfl) hl.1 dX4_claimAt_136) (fun v27 h28 H locs cells slots hH hL hrun => ?_)
        exact V_iret (pc := 139) C hH hL hrun dX4_claimAt_139
      have hrun := ite_f hrun n6
      refine lv_tableOut (pc := 45) (tgt := 140) hx hb dX4_claimAt_45 (sw_out [0, 1, 2, 3, 4, 5, 6] (by decide) (by decide) ⟨by decide, by decide⟩ (List.forall_mem_cons.mpr ⟨sw_ne (v := (0 : Int32)) (by decide) n0, (List.forall_mem_cons.mpr ⟨sw_ne (v := (1 : Int32)) (by decide) n1, (List.forall_mem_cons.mpr ⟨sw_ne (v := (2 : Int32)) (by decide) n2, (List.forall_mem_cons.mpr ⟨sw_ne (v := (3 : Int32)) (by decide) n3, (List.forall_mem_cons.mpr ⟨sw_ne (v := (4 : Int32)) (by decide) n4, (List.forall_mem_cons.mpr ⟨sw_ne (v := (5 : Int32)) (by decide) n5, (List.forall_mem_cons.mpr ⟨sw_ne (v := (6 : Int32)) (by decide) n6, (fun _ z => nomatch z)⟩)⟩)⟩)⟩)⟩)⟩)⟩)) (by decide) ?_
      refine V_aload_n (pc := 140) hx hb dX4_claimAt_140 rfl (lv_at hl 1 rfl) ?_
      obtain ⟨c30, hrun⟩ := gd_some hrun
      refine V_getR (pc := 141) C hH fr_X4_16 dX4_claimAt_141 c30 rfl ?_
      refine V_aload_n (pc := 144) hx hb dX4_claimAt_144 rfl (lv_at hl 0 rfl) ?_
      obtain ⟨c31, hrun⟩ := gd_some hrun
      refine V_getR (pc := 145) C hH fr_X4_368 dX4_claimAt_145 c31 rfl ?_
      obtain ⟨c34, hrun⟩ := gd_some hrun
      refine V_bd (pc := 148) C hL rfl hrun (fun rr1 e1 => Z_runV (rest := []) C hH (m_J2_indexOf hl9 e1) wV_X4_252 c34 rfl (by decide) rfl rfl ⟨by decide, by decide⟩ rfl (Nat.le_of_ble_eq_true rfl) hl.1 dX4_claimAt_148) (fun v32 h33 H locs cells slots hH hL hrun => ?_)
      exact V_iret (pc := 151) C hH hL hrun dX4_claimAt_151
    · have hrun := ite_t hrun c_
      exact b_X4_claimAt_30 C h10 H locs cells slots ls hH hL (lv_sub hl [] rfl) hrun

theorem m_X4_claimAt {l : Launch} {D : va_G} {Hs : Heap} {h : Hp} {rr : (Int32 ⊕ Ex) × Hp} (hl9 : l.stackTraces = false) {x0 : Nat} {x1 : Int32} {x2 : Int32} (hrun : f_X4_claimAt x0 x1 x2 h = some rr) : CM l yX4_claimAt (ws_ yX4_claimAt cX4_claimAt 4 (some .int)) 5 94 iI [rv x0, .int x1, .int x2] D Hs h rr := by
  refine CM.of (lv := [(0, rv x0), (1, .int x1), (2, .int x2)]) (plainFor_of_name (by decide)) hl9 (by simp [lv_args, rv_cat, cat_i, cat_l, cat_f, cat_d]) (by simp [lg_sl, rv_cat, cat_i, cat_l, cat_f, cat_d]) ?_
  intro p e R s m args below meth c H ls C hH hl hin
  exact b_X4_claimAt C x0 x1 x2 _ H [] _ _ ls hH (fun _ q => nomatch q) (lv_sub hl [0, 1, 2] rfl) hrun

/-! Massclaim.takeOver(II)I -/
def f_X1_takeOver_57  (x0 : Nat) (x2 : Int32) (x3 : Nat) (x4 : Int32) (y0 : Int32) (h : Hp) : Rt Int32 :=
  bd (f_X1_requireState y0 h) fun _ h2 => gd (kC h2 x3 = 12) <| na h2 101 (2 : Int32) fun q4 h5 => gd (kC h5 q4 = 101 ∧ ixo (0 : Int32) (kN h5 q4)) <| vl (tI h5 q4 ((0 : Int32)).toNatClampNeg x2) fun h7 => gd (kC h7 x0 = 1) <| gd (kC h7 q4 = 101 ∧ ixo (1 : Int32) (kN h7 q4)) <| vl (tI h7 q4 ((1 : Int32)).toNatClampNeg (kI h7 18 x0)) fun h10 => gd (kC h10 (kR h2 1111 x3) = 18) <| bd (f_J2_add (kR h2 1111 x3) q4 h10) fun v11 h12 => some (.inl x4, h12)
def f_X1_takeOver_36  (x0 : Nat) (x2 : Int32) (x3 : Nat) (x4 : Int32) (y0 : Int32) (h : Hp) : Rt Int32 :=
  bd (f_X1_requireArgument y0 h) fun _ h15 => gd (kC h15 x3 = 12) <| gd (kC h15 (kR h15 1111 x3) = 18) <| bd (f_J2_size (kR h15 1111 x3) h15) fun v17 h18 => if (3 : Int32) < v17 then
  (f_X1_takeOver_57 x0 x2 x3 x4 (0 : Int32) h18)
  else
  (f_X1_takeOver_57 x0 x2 x3 x4 (1 : Int32) h18)
def f_X1_takeOver_35  (x0 : Nat) (x2 : Int32) (x3 : Nat) (x4 : Int32) (h : Hp) : Rt Int32 :=
  f_X1_takeOver_36 x0 x2 x3 x4 (0 : Int32) h
def f_X1_takeOver  (x0 : Nat) (x1 : Int32) (x2 : Int32) (h : Hp) : Rt Int32 :=
  gd (kC h x0 = 1) <| gd (kC h (kR h 3 x0) = 2) <| bd (f_X2_at (kR h 3 x0) x1 h) fun v21 h22 => gd (v21 = 0 ∨ kC h22 v21 = 12) <| gd (kC h22 v21 = 12) <| bd (f_X12_lawyer v21 h22) fun v25 h26 => bd (f_X1_isLawyer x2 h26) fun v28 h29 => if v28 = 0 then
  (f_X1_takeOver_35 x0 x2 v21 v25 h29)
  else
  (if x2 = v25 then
  (f_X1_takeOver_35 x0 x2 v21 v25 h29)
  else
  (f_X1_takeOver_36 x0 x2 v21 v25 (1 : Int32) h29))
theorem b_X1_takeOver_57 {rr : (Int32 ⊕ Ex) × Hp}  (C : CX p l R s m args meth c D Hs cX1_takeOver "Massclaim" 6 (some .int) [] 8 331)  : ∀ (x0 : Nat) (x2 : Int32) (x3 : Nat) (x4 : Int32) (y0 : Int32) (h : Hp) (H : Heap) (locs : List Loc) (cells slots : Nat) (ls : Array Slot), HP D Hs h H → LO Hs locs → lv_has ls 6 [(0, rv x0), (2, .int x2), (3, rv x3), (4, .int x4)] → f_X1_takeOver_57 x0 x2 x3 x4 y0 h = some rr → W p l e R s m args below meth c H locs cells slots (ZM D Hs iI rr below args s) (F0 m 57 ls [.int y0]) := by
  obtain ⟨⟨hx, hb, hml, hown, hts⟩, -⟩ := id C
  have hl9 := C.2.1.2.2.1
  intro x0 x2 x3 x4 y0 h H locs cells slots ls hH hL hl hrun
  unfold f_X1_takeOver_57 at hrun
  refine V_bd (pc := 57) C hL rfl hrun (fun rr1 e1 => Z_runS (rest := []) C hH (m_X1_requireState hl9 e1) wS_X1_182 rfl ⟨by decide, by decide⟩ rfl (Nat.le_of_ble_eq_true rfl) hl.1 dX1_takeOver_57) (fun _ h2 H locs cells slots hH hL hrun => ?_)
  refine V_aload_n (pc := 60) hx hb dX1_takeOver_60 rfl (lv_at hl 2 rfl) ?_
  obtain ⟨c3, hrun⟩ := gd_some hrun
  refine V_getNR (pc := 61) C hH fn_X1_457 dX1_takeOver_61 c3 rfl ?_
  refine lv_iconst (v := (2 : Int32)) (pc := 64) hx hb dX1_takeOver_64 (by decide) ?_
  refine V_newa (at_ := .int) (pc := 65) C hH (Or.inl ⟨rfl, rfl⟩) q194 dX1_takeOver_65 hrun (fun q4 h5 H cells slots hH hrun => ?_)
  refine lv_dup (pc := 67) hx hb dX1_takeOver_67 (rv_cat _) ?_
  refine lv_iconst (v := (0 : Int32)) (pc := 68) hx hb dX1_takeOver_68 (by decide) ?_
  refine lv_iload_n (pc := 69) hx hb dX1_takeOver_69 rfl (lv_at hl 1 rfl) ?_
  obtain ⟨c6, hrun⟩ := gd_some hrun
  refine V_iast (pc := 70) C hH hL dX1_takeOver_70 c6 hrun (fun h7 H locs hH hL hrun => ?_)
  refine lv_dup (pc := 71) hx hb dX1_takeOver_71 (rv_cat _) ?_
  refine lv_iconst (v := (1 : Int32)) (pc := 72) hx hb dX1_takeOver_72 (by decide) ?_
  refine V_aload_n (pc := 73) hx hb dX1_takeOver_73 rfl (lv_at hl 0 rfl) ?_
  obtain ⟨c8, hrun⟩ := gd_some hrun
  refine V_getI (pc := 74) C hH fr_X1_115 dX1_takeOver_74 c8 rfl ?_
  obtain ⟨c9, hrun⟩ := gd_some hrun
  refine V_iast (pc := 77) C hH hL dX1_takeOver_77 c9 hrun (fun h10 H locs hH hL hrun => ?_)
  obtain ⟨c13, hrun⟩ := gd_some hrun
  refine V_bd5 (pc := 78) C hL rfl hrun (fun rr1 e1 => Z_runF (rest := []) C hH (m_J2_add hl9 e1) rfl wF_X1_344_J2 c13 (by decide) rfl ⟨by decide, by decide⟩ rfl (Nat.le_of_ble_eq_true rfl) hl.1 dX1_takeOver_78) (fun v11 h12 H locs cells slots hH hL hrun => ?_)
  refine lv_istore (i := 5) (lv' := [(5, .int v11), (0, rv x0), (2, .int x2), (3, rv x3), (4, .int x4)]) (pc := 83) hx hb dX1_takeOver_83 hl (by decide) rfl (fun ls hl => ?_)
  refine lv_iload (pc := 85) hx hb dX1_takeOver_85 (lv_at hl 4 rfl) ?_
  exact V_iret (pc := 87) C hH hL hrun dX1_takeOver_87

theorem b_X1_takeOver_36 {rr : (Int32 ⊕ Ex) × Hp}  (C : CX p l R s m args meth c D Hs cX1_takeOver "Massclaim" 6 (some .int) [] 8 331)  : ∀ (x0 : Nat) (x2 : Int32) (x3 : Nat) (x4 : Int32) (y0 : Int32) (h : Hp) (H : Heap) (locs : List Loc) (cells slots : Nat) (ls : Array Slot), HP D Hs h H → LO Hs locs → lv_has ls 6 [(0, rv x0), (2, .int x2), (3, rv x3), (4, .int x4)] → f_X1_takeOver_36 x0 x2 x3 x4 y0 h = some rr → W p l e R s m args below meth c H locs cells slots (ZM D Hs iI rr below args s) (F0 m 36 ls [.int y0]) := by
  obtain ⟨⟨hx, hb, hml, hown, hts⟩, -⟩ := id C
  have hl9 := C.2.1.2.2.1
  intro x0 x2 x3 x4 y0 h H locs cells slots ls hH hL hl hrun
  unfold f_X1_takeOver_36 at hrun
  refine V_bd (pc := 36) C hL rfl hrun (fun rr1 e1 => Z_runS (rest := []) C hH (m_X1_requireArgument hl9 e1) wS_X1_131 rfl ⟨by decide, by decide⟩ rfl (Nat.le_of_ble_eq_true rfl) hl.1 dX1_takeOver_36) (fun _ h15 H locs cells slots hH hL hrun => ?_)
  refine V_aload_n (pc := 39) hx hb dX1_takeOver_39 rfl (lv_at hl 2 rfl) ?_
  obtain ⟨c16, hrun⟩ := gd_some hrun
  refine V_getNR (pc := 40) C hH fn_X1_457 dX1_takeOver_40 c16 rfl ?_
  obtain ⟨c19, hrun⟩ := gd_some hrun
  refine V_bd5 (pc := 43) C hL rfl hrun (fun rr1 e1 => Z_runF (rest := []) C hH (m_J2_size hl9 e1) rfl wF_X1_13_J2 c19 (by decide) rfl ⟨by decide, by decide⟩ rfl (Nat.le_of_ble_eq_true rfl) hl.1 dX1_takeOver_43) (fun v17 h18 H locs cells slots hH hL hrun => ?_)
  refine lv_iconst (v := (3 : Int32)) (pc := 48) hx hb dX1_takeOver_48 (by decide) ?_
  refine lv_icmp_gt (tgt := 56) (pc := 49) hx hb dX1_takeOver_49 (by decide) (fun c_ => ?_) (fun c_ => ?_)
  · have hrun := ite_t hrun c_
    refine lv_iconst (v := (0 : Int32)) (pc := 56) hx hb dX1_takeOver_56 (by decide) ?_
    exact b_X1_takeOver_57 C x0 x2 x3 x4 (0 : Int32) h18 H locs cells slots ls hH hL (lv_sub hl [0, 1, 2, 3] rfl) hrun
  · have hrun := ite_f hrun c_
    refine lv_iconst (v := (1 : Int32)) (pc := 52) hx hb dX1_takeOver_52 (by decide) ?_
    refine lv_goto (tgt := 57) (pc := 53) hx hb dX1_takeOver_53 (by decide) ?_
    exact b_X1_takeOver_57 C x0 x2 x3 x4 (1 : Int32) h18 H locs cells slots ls hH hL (lv_sub hl [0, 1, 2, 3] rfl) hrun

theorem b_X1_takeOver_35 {rr : (Int32 ⊕ Ex) × Hp}  (C : CX p l R s m args meth c D Hs cX1_takeOver "Massclaim" 6 (some .int) [] 8 331)  : ∀ (x0 : Nat) (x2 : Int32) (x3 : Nat) (x4 : Int32) (h : Hp) (H : Heap) (locs : List Loc) (cells slots : Nat) (ls : Array Slot), HP D Hs h H → LO Hs locs → lv_has ls 6 [(0, rv x0), (2, .int x2), (3, rv x3), (4, .int x4)] → f_X1_takeOver_35 x0 x2 x3 x4 h = some rr → W p l e R s m args below meth c H locs cells slots (ZM D Hs iI rr below args s) (F0 m 35 ls []) := by
  obtain ⟨⟨hx, hb, hml, hown, hts⟩, -⟩ := id C
  have hl9 := C.2.1.2.2.1
  intro x0 x2 x3 x4 h H locs cells slots ls hH hL hl hrun
  unfold f_X1_takeOver_35 at hrun
  refine lv_iconst (v := (0 : Int32)) (pc := 35) hx hb dX1_takeOver_35 (by decide) ?_
  exact b_X1_takeOver_36 C x0 x2 x3 x4 (0 : Int32) h H locs cells slots ls hH hL (lv_sub hl [0, 1, 2, 3] rfl) hrun

theorem b_X1_takeOver {rr : (Int32 ⊕ Ex) × Hp}  (C : CX p l R s m args meth c D Hs cX1_takeOver "Massclaim" 6 (some .int) [] 8 331)  : ∀ (x0 : Nat) (x1 : Int32) (x2 : Int32) (h : Hp) (H : Heap) (locs : List Loc) (cells slots : Nat) (ls : Array Slot), HP D Hs h H → LO Hs locs → lv_has ls 6 [(0, rv x0), (1, .int x1), (2, .int x2)] → f_X1_takeOver x0 x1 x2 h = some rr → W p l e R s m args below meth c H locs cells slots (ZM D Hs iI rr below args s) (F0 m 0 ls []) := by
  obtain ⟨⟨hx, hb, hml, hown, hts⟩, -⟩ := id C
  have hl9 := C.2.1.2.2.1
  intro x0 x1 x2 h H locs cells slots ls hH hL hl hrun
  unfold f_X1_takeOver at hrun
  refine V_aload_n (pc := 0) hx hb dX1_takeOver_0 rfl (lv_at hl 0 rfl) ?_
  obtain ⟨c20, hrun⟩ := gd_some hrun
  refine V_getR (pc := 1) C hH fr_X1_52 dX1_takeOver_1 c20 rfl ?_
  refine lv_iload_n (pc := 4) hx hb dX1_takeOver_4 rfl (lv_at hl 1 rfl) ?_
  obtain ⟨c23, hrun⟩ := gd_some hrun
  refine V_bd (pc := 5) C hL rfl hrun (fun rr1 e1 => Z_runV (rest := []) C hH (m_X2_at hl9 e1) wV_X1_136 c23 rfl (by decide) rfl rfl ⟨by decide, by decide⟩ rfl (Nat.le_of_ble_eq_true rfl) hl.1 dX1_takeOver_5) (fun v21 h22 H locs cells slots hH hL hrun => ?_)
  obtain ⟨c24, hrun⟩ := gd_some hrun
  refine V_castX (pc := 8) (ci := 11) C hH rfl (by decide) q403 dX1_takeOver_8 c24 ?_
  refine V_astore_n (i := 3) (lv' := [(3, rv v21), (0, rv x0), (1, .int x1), (2, .int x2)]) (pc := 11) hx hb dX1_takeOver_11 rfl hl (by decide) rfl (fun ls hl => ?_)
  refine V_aload_n (pc := 12) hx hb dX1_takeOver_12 rfl (lv_at hl 0 rfl) ?_
  obtain ⟨c27, hrun⟩ := gd_some hrun
  refine V_bd (pc := 13) C hL rfl hrun (fun rr1 e1 => Z_runV (rest := []) C hH (m_X12_lawyer hl9 e1) wV_X1_450 c27 rfl (by decide) rfl rfl ⟨by decide, by decide⟩ rfl (Nat.le_of_ble_eq_true rfl) hl.1 dX1_takeOver_13) (fun v25 h26 H locs cells slots hH hL hrun => ?_)
  refine lv_istore (i := 4) (lv' := [(4, .int v25), (3, rv v21), (0, rv x0), (1, .int x1), (2, .int x2)]) (pc := 16) hx hb dX1_takeOver_16 hl (by decide) (by simp [rv_cat, cat_i, cat_l, cat_f, cat_d]) (fun ls hl => ?_)
  refine lv_iload_n (pc := 18) hx hb dX1_takeOver_18 rfl (lv_at hl 4 rfl) ?_
  refine V_bd (pc := 19) C hL rfl hrun (fun rr1 e1 => Z_runS (rest := []) C hH (m_X1_isLawyer hl9 e1) wS_X1_418 rfl ⟨by decide, by decide⟩ rfl (Nat.le_of_ble_eq_true rfl) hl.1 dX1_takeOver_19) (fun v28 h29 H locs cells slots hH hL hrun => ?_)
  refine lv_if_eq (tgt := 35) (pc := 22) hx hb dX1_takeOver_22 (by decide) (fun c_ => ?_) (fun c_ => ?_)
  · have hrun := ite_t hrun c_
    exact b_X1_takeOver_35 C x0 x2 v21 v25 h29 H locs cells slots ls hH hL (lv_sub hl [2, 4, 1, 0] rfl) hrun
  · have hrun := ite_f hrun c_
    refine lv_iload_n (pc := 25) hx hb dX1_takeOver_25 rfl (lv_at hl 4 rfl) ?_
    refine lv_iload (pc := 26) hx hb dX1_takeOver_26 (lv_at hl 0 rfl) ?_
    refine lv_icmp_eq (tgt := 35) (pc := 28) hx hb dX1_takeOver_28 (by decide) (fun c_ => ?_) (fun c_ => ?_)
    · have hrun := ite_t hrun c_
      exact b_X1_takeOver_35 C x0 x2 v21 v25 h29 H locs cells slots ls hH hL (lv_sub hl [2, 4, 1, 0] rfl) hrun
    · have hrun := ite_f hrun c_
      refine lv_iconst (v := (1 : Int32)) (pc := 31) hx hb dX1_takeOver_31 (by decide) ?_
      refine lv_goto (tgt := 36) (pc := 32) hx hb dX1_takeOver_32 (by decide) ?_
      exact b_X1_takeOver_36 C x0 x2 v21 v25 (1 : Int32) h29 H locs cells slots ls hH hL (lv_sub hl [2, 4, 1, 0] rfl) hrun

theorem m_X1_takeOver {l : Launch} {D : va_G} {Hs : Heap} {h : Hp} {rr : (Int32 ⊕ Ex) × Hp} (hl9 : l.stackTraces = false) {x0 : Nat} {x1 : Int32} {x2 : Int32} (hrun : f_X1_takeOver x0 x1 x2 h = some rr) : CM l yX1_takeOver (ws_ yX1_takeOver cX1_takeOver 6 (some .int)) 8 331 iI [rv x0, .int x1, .int x2] D Hs h rr := by
  refine CM.of (lv := [(0, rv x0), (1, .int x1), (2, .int x2)]) (plainFor_of_name (by decide)) hl9 (by simp [lv_args, rv_cat, cat_i, cat_l, cat_f, cat_d]) (by simp [lg_sl, rv_cat, cat_i, cat_l, cat_f, cat_d]) ?_
  intro p e R s m args below meth c H ls C hH hl hin
  exact b_X1_takeOver C x0 x1 x2 _ H [] _ _ ls hH (fun _ q => nomatch q) (lv_sub hl [0, 1, 2] rfl) hrun

/-! MassclaimLaw.takeOver(LMassclaim;II[J)I -/
def f_X0_takeOver_13  (y0 : Nat) (h : Hp) : Rt Int32 :=
  some (.inl (1 : Int32), h)
def f_X0_takeOver_17  (y0 : Nat) (h : Hp) : Rt Int32 :=
  some (.inl (2 : Int32), h)
def f_X0_takeOver_21  (y0 : Nat) (h : Hp) : Rt Int32 :=
  some (.inl (3 : Int32), h)
def f_X0_takeOver  (x0 : Nat) (x1 : Int32) (x2 : Int32) (x3 : Nat) (h : Hp) : Rt Int32 :=
  gd (kC h x0 = 1) <| bdH (f_X1_takeOver x0 x1 x2 h)
  (fun v1 h2 => gd (kC h2 x3 = 102 ∧ ixo (0 : Int32) (kN h2 x3)) <| vl (tL h2 x3 ((0 : Int32)).toNatClampNeg (v1.toInt64)) fun h5 => some (.inl (0 : Int32), h5))
  (fun ex6 h7 => if ex6.1 = 901 then
  (f_X0_takeOver_13 ex6.2 h7)
  else
  if ex6.1 = 902 then
  (f_X0_takeOver_17 ex6.2 h7)
  else
  if ex6.1 = 903 then
  (f_X0_takeOver_21 ex6.2 h7)
  else
  none)
theorem b_X0_takeOver_13 {rr : (Int32 ⊕ Ex) × Hp}  (C : CX p l R s m args meth c D Hs cX0_takeOver "MassclaimLaw" 5 (some .int) [(0, 10, 13, 25), (0, 10, 17, 13), (0, 10, 21, 19)] 9 356)  : ∀ (y0 : Nat) (h : Hp) (H : Heap) (locs : List Loc) (cells slots : Nat) (ls : Array Slot), HP D Hs h H → LO Hs locs → lv_has ls 5 [] → f_X0_takeOver_13 y0 h = some rr → W p l e R s m args below meth c H locs cells slots (ZM D Hs iI rr below args s) (F0 m 13 ls [rv y0]) := by
  obtain ⟨⟨hx, hb, hml, hown, hts⟩, -⟩ := id C
  have hl9 := C.2.1.2.2.1
  intro y0 h H locs cells slots ls hH hL hl hrun
  unfold f_X0_takeOver_13 at hrun
  refine V_astore (i := 4) (lv' := [(4, rv y0)]) (pc := 13) hx hb dX0_takeOver_13 hl (by decide) rfl (fun ls hl => ?_)
  refine lv_iconst (v := (1 : Int32)) (pc := 15) hx hb dX0_takeOver_15 (by decide) ?_
  exact V_iret (pc := 16) C hH hL hrun dX0_takeOver_16

theorem b_X0_takeOver_17 {rr : (Int32 ⊕ Ex) × Hp}  (C : CX p l R s m args meth c D Hs cX0_takeOver "MassclaimLaw" 5 (some .int) [(0, 10, 13, 25), (0, 10, 17, 13), (0, 10, 21, 19)] 9 356)  : ∀ (y0 : Nat) (h : Hp) (H : Heap) (locs : List Loc) (cells slots : Nat) (ls : Array Slot), HP D Hs h H → LO Hs locs → lv_has ls 5 [] → f_X0_takeOver_17 y0 h = some rr → W p l e R s m args below meth c H locs cells slots (ZM D Hs iI rr below args s) (F0 m 17 ls [rv y0]) := by
  obtain ⟨⟨hx, hb, hml, hown, hts⟩, -⟩ := id C
  have hl9 := C.2.1.2.2.1
  intro y0 h H locs cells slots ls hH hL hl hrun
  unfold f_X0_takeOver_17 at hrun
  refine V_astore (i := 4) (lv' := [(4, rv y0)]) (pc := 17) hx hb dX0_takeOver_17 hl (by decide) rfl (fun ls hl => ?_)
  refine lv_iconst (v := (2 : Int32)) (pc := 19) hx hb dX0_takeOver_19 (by decide) ?_
  exact V_iret (pc := 20) C hH hL hrun dX0_takeOver_20

theorem b_X0_takeOver_21 {rr : (Int32 ⊕ Ex) × Hp}  (C : CX p l R s m args meth c D Hs cX0_takeOver "MassclaimLaw" 5 (some .int) [(0, 10, 13, 25), (0, 10, 17, 13), (0, 10, 21, 19)] 9 356)  : ∀ (y0 : Nat) (h : Hp) (H : Heap) (locs : List Loc) (cells slots : Nat) (ls : Array Slot), HP D Hs h H → LO Hs locs → lv_has ls 5 [] → f_X0_takeOver_21 y0 h = some rr → W p l e R s m args below meth c H locs cells slots (ZM D Hs iI rr below args s) (F0 m 21 ls [rv y0]) := by
  obtain ⟨⟨hx, hb, hml, hown, hts⟩, -⟩ := id C
  have hl9 := C.2.1.2.2.1
  intro y0 h H locs cells slots ls hH hL hl hrun
  unfold f_X0_takeOver_21 at hrun
  refine V_astore (i := 4) (lv' := [(4, rv y0)]) (pc := 21) hx hb dX0_takeOver_21 hl (by decide) rfl (fun ls hl => ?_)
  refine lv_iconst (v := (3 : Int32)) (pc := 23) hx hb dX0_takeOver_23 (by decide) ?_
  exact V_iret (pc := 24) C hH hL hrun dX0_takeOver_24

theorem b_X0_takeOver {rr : (Int32 ⊕ Ex) × Hp}  (C : CX p l R s m args meth c D Hs cX0_takeOver "MassclaimLaw" 5 (some .int) [(0, 10, 13, 25), (0, 10, 17, 13), (0, 10, 21, 19)] 9 356)  : ∀ (x0 : Nat) (x1 : Int32) (x2 : Int32) (x3 : Nat) (h : Hp) (H : Heap) (locs : List Loc) (cells slots : Nat) (ls : Array Slot), HP D Hs h H → LO Hs locs → lv_has ls 5 [(0, rv x0), (1, .int x1), (2, .int x2), (3, rv x3)] → f_X0_takeOver x0 x1 x2 x3 h = some rr → W p l e R s m args below meth c H locs cells slots (ZM D Hs iI rr below args s) (F0 m 0 ls []) := by
  obtain ⟨⟨hx, hb, hml, hown, hts⟩, -⟩ := id C
  have hl9 := C.2.1.2.2.1
  intro x0 x1 x2 x3 h H locs cells slots ls hH hL hl hrun
  unfold f_X0_takeOver at hrun
  refine V_aload_n (pc := 0) hx hb dX0_takeOver_0 rfl (lv_at hl 3 rfl) ?_
  refine lv_iconst (v := (0 : Int32)) (pc := 1) hx hb dX0_takeOver_1 (by decide) ?_
  refine V_aload_n (pc := 2) hx hb dX0_takeOver_2 rfl (lv_at hl 0 rfl) ?_
  refine lv_iload_n (pc := 3) hx hb dX0_takeOver_3 rfl (lv_at hl 1 rfl) ?_
  refine lv_iload_n (pc := 4) hx hb dX0_takeOver_4 rfl (lv_at hl 2 rfl) ?_
  obtain ⟨c3, hrun⟩ := gd_some hrun
  refine V_bdH (pc := 5) hL hrun (fun rr1 e1 => Z_runV (rest := [.int (0 : Int32), rv x3]) C hH (m_X1_takeOver hl9 e1) wV_X0_113 c3 rfl (by decide) rfl rfl ⟨by decide, by decide⟩ rfl (by simp [csum, rv_cat, cat_i, cat_l, cat_f, cat_d]) hl.1 dX0_takeOver_5) (fun v1 h2 H locs cells slots hH hL hrun => ?_) (fun x_ q_ ce_ h7 H locs cells slots hH hL hrun hc_ hv_ hcl_ => ?_)
  · refine lv_i2l (pc := 8) hx hb dX0_takeOver_8 rfl ?_
    obtain ⟨c4, hrun⟩ := gd_some hrun
    refine V_last (pc := 9) C hH hL dX0_takeOver_9 c4 hrun (fun h5 H locs hH hL hrun => ?_)
    refine lv_goto (tgt := 25) (pc := 10) hx hb dX0_takeOver_10 (by decide) ?_
    refine lv_iconst (v := (0 : Int32)) (pc := 25) hx hb dX0_takeOver_25 (by decide) ?_
    exact V_iret (pc := 26) C hH hL hrun dX0_takeOver_26
  · by_cases n901 : x_ = 901
    · subst n901
      have hrun := ite_t hrun rfl
      refine vx_catch (E := "java/lang/IndexOutOfBoundsException") (name := "java/lang/IndexOutOfBoundsException") hown (tableOf []) ⟨0, 10, 13, 25⟩ (tableOf [(0, 10, 17, 13), (0, 10, 21, 19)]) (by rw [C.2.1.2.2.2.2]; rfl) (fun z hz => nomatch hz) (by decide) (by decide) (hts _ q829) (va_Nw.use rfl (C.2.1.2.2.2.1.2.1 _ q537 rfl)) hc_ hv_ hcl_ ?_
      exact b_X0_takeOver_13 C (q_ + 1) h7 H locs cells slots ls hH hL (lv_sub hl [] rfl) hrun
    have hrun := ite_f hrun n901
    by_cases n902 : x_ = 902
    · subst n902
      have hrun := ite_t hrun rfl
      refine vx_catch (E := "java/lang/IllegalArgumentException") (name := "java/lang/IllegalArgumentException") hown (tableOf [(0, 10, 13, 25)]) ⟨0, 10, 17, 13⟩ (tableOf [(0, 10, 21, 19)]) (by rw [C.2.1.2.2.2.2]; rfl) (fun z hz => by simp only [tableOf, List.map, List.mem_cons, List.not_mem_nil, or_false] at hz; rcases hz with rfl <;> first | exact Or.inr ⟨by decide, "java/lang/IndexOutOfBoundsException", hts _ q829, nc_at C (by decide)⟩) (by decide) (by decide) (hts _ q449) (va_Nw.use rfl (C.2.1.2.2.2.1.2.1 _ q463 rfl)) hc_ hv_ hcl_ ?_
      exact b_X0_takeOver_17 C (q_ + 1) h7 H locs cells slots ls hH hL (lv_sub hl [] rfl) hrun
    have hrun := ite_f hrun n902
    by_cases n903 : x_ = 903
    · subst n903
      have hrun := ite_t hrun rfl
      refine vx_catch (E := "java/lang/IllegalStateException") (name := "java/lang/IllegalStateException") hown (tableOf [(0, 10, 13, 25), (0, 10, 17, 13)]) ⟨0, 10, 21, 19⟩ (tableOf []) (by rw [C.2.1.2.2.2.2]; rfl) (fun z hz => by simp only [tableOf, List.map, List.mem_cons, List.not_mem_nil, or_false] at hz; rcases hz with rfl | rfl <;> first | exact Or.inr ⟨by decide, "java/lang/IndexOutOfBoundsException", hts _ q829, nc_at C (by decide)⟩ | exact Or.inr ⟨by decide, "java/lang/IllegalArgumentException", hts _ q449, nc_at C (by decide)⟩) (by decide) (by decide) (hts _ q585) (va_Nw.use rfl (C.2.1.2.2.2.1.2.1 _ q702 rfl)) hc_ hv_ hcl_ ?_
      exact b_X0_takeOver_21 C (q_ + 1) h7 H locs cells slots ls hH hL (lv_sub hl [] rfl) hrun
    have hrun := ite_f hrun n903
    cases hrun

theorem m_X0_takeOver {l : Launch} {D : va_G} {Hs : Heap} {h : Hp} {rr : (Int32 ⊕ Ex) × Hp} (hl9 : l.stackTraces = false) {x0 : Nat} {x1 : Int32} {x2 : Int32} {x3 : Nat} (hrun : f_X0_takeOver x0 x1 x2 x3 h = some rr) : CM l yX0_takeOver (wsW_ yX0_takeOver cX0_takeOver 5 (some .int) [(0, 10, 13, 25), (0, 10, 17, 13), (0, 10, 21, 19)]) 9 356 iI [rv x0, .int x1, .int x2, rv x3] D Hs h rr := by
  refine CM.ofH (lv := [(0, rv x0), (1, .int x1), (2, .int x2), (3, rv x3)]) (plainFor_of_name (by decide)) hl9 (by simp [lv_args, rv_cat, cat_i, cat_l, cat_f, cat_d]) (by simp [lg_sl, rv_cat, cat_i, cat_l, cat_f, cat_d]) ?_
  intro p e R s m args below meth c H ls C hH hl hin
  exact b_X0_takeOver C x0 x1 x2 x3 _ H [] _ _ ls hH (fun _ q => nomatch q) (lv_sub hl [0, 1, 2, 3] rfl) hrun
end WK12

section P23
section o11
variable {h : Hp} {E : Ev} {A : AS} {o : Nat}
/-- address -/
def r11 (A : AS) (x b : Int32) : Int32 × Int64 × AS :=
  if inR x A.np then (0, if A.I 409 x.toNatClampNeg = 0 then 0 else 1, A.sI 409 x.toNatClampNeg b) else (1, 0, A)
theorem o11_s (H : RS h E A) (U : OU h E o) (M : MI A) (x b : Int32) (hb : b01 b) (r1 : kz h + 1 ≤ kza h) (r2 : ks h + 6 ≤ ksa h) :
    ∃ h1, f_X0_address E.x x b o h = some (.inl (r11 A x b).1, h1) ∧ RS h1 E (r11 A x b).2.2 ∧ OU h1 E o ∧ ((r11 A x b).1 = 0 → jL h1 o 0 = (r11 A x b).2.1) ∧ Sy h E A h1 E 1 6 := by
  have hn := H.x.n.1
  have U1 := U.1.1
  have U2 := U.2
  obtain ⟨p1, p2, p3⟩ := s_persons H
  rcases idx x A.np (by omega) with ⟨i, hi, rfl⟩ | hx
  · have P := H.p i hi
    have e9 : kI h 409 (E.sp i) = A.I 409 i := P.i 409 (by decide)
    have b9 : b01 (A.I 409 i) := M.bp 409 (by decide) i hi
    have e1 : f_X1_address E.x (Int32.ofNat i) b h = some (.inl (A.I 409 i), sI h 409 (E.sp i) b) := by
      simp only [f_X1_address, gd, bd, vl, H.x.x.1, p1, p2, if_true, s_pat H hi, P.c.1, or_true, e9, hb, b9]
    have ei : (Int32.ofNat i).toNatClampNeg = i := i_clamp (by omega)
    have eR : inR (Int32.ofNat i) A.np = true := decide_eq_true (idx_in (by omega) hi)
    have H1 := H.pI b hi (F := 409) (by decide)
    have Ua : OU (sI h 409 (E.sp i) b) E o := U
    obtain ⟨q1, q2, q3, q4⟩ := Ua.put H1.w H1 (if A.I 409 i = 0 then 0 else 1)
    refine ⟨tL (sI h 409 (E.sp i) b) o 0 (if A.I 409 i = 0 then 0 else 1), ?_, ?_, q2, ?_, ?_⟩
    · simp only [f_X0_address, gd, bdH, H.x.x.1, if_true, e1, r11, eR]
      by_cases c : A.I 409 i = 0 <;> simp [c, f_X0_address_16, gd, vl, kC_sI, kN_sI, U1, U2] <;> decide
    · simp only [r11, eR, ei, if_true]; exact q1
    · simp only [r11, eR, ei, if_true]; intro _; exact q3
    · refine ⟨fun m => m = E.sp i ∨ m = o, (((Kp.sI h 409 (E.sp i) _).to (fun _ => Or.inl)).seq (q4.to (fun _ => Or.inr))).le (by omega) (by omega), ⟨fun n hn z => ?_, fun z => ?_⟩, EqM.refl (fun _ _ => rfl) rfl⟩
      · rcases z with rfl | rfl
        · rw [P.c.2]; simp
        · rw [U.1.2]; simp
      · rcases z with z | z
        · have := P.c.1; rw [← z, H.w.ec] at this; cases this
        · rw [← z, H.w.ec] at U1; cases U1
  · have eR : inR x A.np = false := decide_eq_false hx
    have e1 := s_atX p2 p3 H.x.lp hx r1 r2
    have e2 : f_X1_address E.x x b h = some (.inr (901, kz h + 1), bN h 6) := by simp only [f_X1_address, gd, bd, H.x.x.1, p1, p2, if_true, e1]
    refine ⟨bN h 6, ?_, ?_, U, ?_, ⟨no, Kp.bN h 6, no_off, EqM.refl (fun _ _ => rfl) rfl⟩⟩
    · simp only [f_X0_address, f_X0_address_20, gd, bdH, H.x.x.1, if_true, e2, r11, eR]
      rfl
    · simp only [r11, eR]; exact H.keep (Kp.bN h 6) no_off
    · simp [r11, eR]
theorem o11_m (H : RM h E A) (M : MI A) (x b : Int32) (hb : b01 b) {B : AS} :
    ∃ h1 v, f_X4_address E.m x b h = some (.inl v, h1) ∧ RM h1 E (r11 A x b).2.2 ∧ kI h1 300 E.m = (r11 A x b).1 ∧ ((r11 A x b).1 = 0 → (r11 A x b).2.1 = if v = 0 then 0 else 1) ∧ b01 v ∧ Mo h E B h1 E 0 0 := by
  have hn := H.x.n.1
  have x4 := H.x.x.1
  rcases idx x A.np (by omega) with ⟨i, hi, rfl⟩ | hx
  · have ei : (Int32.ofNat i).toNatClampNeg = i := i_clamp (by omega)
    have eR : inR (Int32.ofNat i) A.np = true := decide_eq_true (idx_in (by omega) hi)
    have H0 := H.th 0
    have P := H0.p i hi
    have e8 : kI (sI h 300 E.m 0) 508 (E.mp i) = A.I 409 i := P.i (508, 409) (by decide)
    have b9 : b01 (A.I 409 i) := M.bp 409 (by decide) i hi
    obtain ⟨-, e, q, L, -, -⟩ := H0.x.lp
    have hx := idx_in (n := A.np) (by omega) hi
    have hg := s_get L hi
    have f0 : f_X4_isGood E.m 1 1 h = some (.inl 1, sI h 300 E.m 0) := by rw [s_isGood H (Or.inr rfl)]; simp
    have k8 : kC (sI h 300 E.m 0) E.m = 4 := H0.x.x.1
    have k9 : kR (sI h 300 E.m 0) 302 E.m = E.mr 0 := H0.x.lr.1
    have H1 := H0.pI b hi (G := 508) (F := 409) (by decide)
    have z1 : ¬ ((1 : Int32) = 0) := by decide
    refine ⟨sI (sI h 300 E.m 0) 508 (E.mp i) b, A.I 409 i, ?_, ?_, ?_, ?_, b9, ?_⟩
    · simp only [f_X4_address, gd, bd, vl, x4, s_isPerson H, if_pos hx, f0, z1, if_false, if_true, k8, k9, L.c, hg, P.c.1, or_true, e8, hb, b9]
    · simp only [r11, eR, ei, if_true]; exact H1
    · simp [r11, eR, kI_sI]
    · simp only [r11, eR, ei, if_true]; intro _; trivial
    · have P := (H.p i hi).c
      refine ⟨fun m => m = E.m ∨ m = E.mp i, ((Kp.sI h 300 E.m 0).to (fun _ => Or.inl)).seq ((Kp.sI (sI h 300 E.m 0) 508 (E.mp i) _).to (fun _ => Or.inr)), ⟨fun n hn z => ?_, fun z => ?_⟩, EqS.refl (fun _ _ => rfl) rfl⟩
      · rcases z with rfl | rfl
        · rw [H.x.x.2]; simp
        · rw [P.2]; simp
      · rcases z with z | z
        · rw [← z, H.w.ec] at x4; cases x4
        · have := P.1; rw [← z, H.w.ec] at this; cases this
  · have eR : inR x A.np = false := decide_eq_false hx
    have f0 : f_X4_isGood E.m 0 1 h = some (.inl 0, sI h 300 E.m 1) := by rw [s_isGood H (Or.inl rfl)]; simp
    refine ⟨sI h 300 E.m 1, 0, ?_, ?_, ?_, ?_, Or.inl rfl, mo_th H⟩
    · simp only [f_X4_address, gd, bd, x4, s_isPerson H, if_neg hx, f0, if_true]
    · simp only [r11, eR]; exact H.th 1
    · simp [r11, eR, kI_sI]
    · simp [r11, eR]
end o11
end P23

section P28
section o12
variable {h : Hp} {E : Ev} {A : AS} {o : Nat}
theorem o12_s (H : RS h E A) (U : OU h E o) (M : MI A) (x b : Int32) (r1 : kz h + 1 ≤ kza h) (r2 : ks h + 6 ≤ ksa h) :
    ∃ h1, f_X0_optOut E.x x b o h = some (.inl (r12 A x b).1, h1) ∧ RS h1 E (r12 A x b).2.2 ∧ OU h1 E o ∧ ((r12 A x b).1 = 0 → jL h1 o 0 = (r12 A x b).2.1) ∧ Sy h E A h1 E 1 6 := by
  have hn := H.x.n.1
  have U1 := U.1.1
  have U2 := U.2
  rcases idx x A.np (by omega) with ⟨i, hi, rfl⟩ | hx
  · have e1 := s1_12 H M hi b
    have ei : (Int32.ofNat i).toNatClampNeg = i := i_clamp (by omega)
    have eR : inR (Int32.ofNat i) A.np = true := decide_eq_true (idx_in (by omega) hi)
    have H1 := H.pI (if can12 A i b then 1 else A.I 408 i) hi (F := 408) (by decide)
    have Ua : OU (sI h 408 (E.sp i) (if can12 A i b then 1 else A.I 408 i)) E o := U
    have Y := sy_pI (F := 408) (v := if can12 A i b then 1 else A.I 408 i) H hi
    obtain ⟨q1, q2, q3, -⟩ := Ua.put H1.w H1 (if can12 A i b then 1 else 0)
    have Y2 := Y.put (v := if can12 A i b then 1 else 0) H1.w Ua
    refine ⟨_, ?_, ?_, q2, ?_, ?_⟩
    · simp only [f_X0_optOut, gd, bdH, H.x.x.1, if_true, e1, r12, eR]
      by_cases c : can12 A i b <;> simp [c, f_X0_optOut_16, gd, vl, kC_sI, kN_sI, U1, U2] <;> decide
    · simp only [r12, eR, ei, if_true]; exact q1
    · simp only [r12, eR, ei, if_true]; intro _; exact q3
    · obtain ⟨S, K, a, b⟩ := Y2
      exact ⟨S, K.le (by omega) (by omega), a, b⟩
  · obtain ⟨p1, p2, p3⟩ := s_persons H
    have eR : inR x A.np = false := decide_eq_false hx
    have e1 := s_atX p2 p3 H.x.lp hx r1 r2
    have e2 : f_X1_optOut E.x x b h = some (.inr (901, kz h + 1), bN h 6) := by simp only [f_X1_optOut, gd, bd, H.x.x.1, p1, p2, if_true, e1]
    obtain ⟨q1, q2, q3⟩ := sy_bN H U
    refine ⟨bN h 6, ?_, ?_, q2, ?_, q3⟩
    · simp only [f_X0_optOut, f_X0_optOut_20, gd, bdH, H.x.x.1, if_true, e2, r12, eR]
      rfl
    · simp only [r12, eR]; exact q1
    · simp [r12, eR]
theorem o12_m (H : RM h E A) (M : MI A) (x b : Int32) {B : AS} :
    ∃ h1 v, f_X4_optOut E.m x b h = some (.inl v, h1) ∧ RM h1 E (r12 A x b).2.2 ∧ kI h1 300 E.m = (r12 A x b).1 ∧ ((r12 A x b).1 = 0 → (r12 A x b).2.1 = if v = 0 then 0 else 1) ∧ b01 v ∧ Mo h E B h1 E 0 0 := by
  have hn := H.x.n.1
  have x4 := H.x.x.1
  rcases idx x A.np (by omega) with ⟨i, hi, rfl⟩ | hx
  · have ei : (Int32.ofNat i).toNatClampNeg = i := i_clamp (by omega)
    have eR : inR (Int32.ofNat i) A.np = true := decide_eq_true (idx_in (by omega) hi)
    have H0 := H.th 0
    have H1 := H0.pI (if can12 A i b then 1 else A.I 408 i) hi (G := 510) (F := 408) (by decide)
    refine ⟨_, if can12 A i b then 1 else 0, m1_12 H M hi b, ?_, ?_, ?_, ?_, ?_⟩
    · simp only [r12, eR, ei, if_true]; exact H1
    · simp [r12, eR, kI_sI]
    · simp only [r12, eR, ei, if_true]; intro _; by_cases c : can12 A i b <;> simp [c]
    · by_cases c : can12 A i b <;> simp [c, b01]
    · exact (mo_th (v := 0) H).trans (mo_pI H0 hi)
  · have eR : inR x A.np = false := decide_eq_false hx
    have f0 : f_X4_isGood E.m 0 1 h = some (.inl 0, sI h 300 E.m 1) := by rw [s_isGood H (Or.inl rfl)]; simp
    refine ⟨sI h 300 E.m 1, 0, ?_, ?_, ?_, ?_, Or.inl rfl, mo_th H⟩
    · simp only [f_X4_optOut, gd, bd, x4, s_isPerson H, if_neg hx, f0, if_true]
    · simp only [r12, eR]; exact H.th 1
    · simp [r12, eR, kI_sI]
    · simp [r12, eR]
end o12
end P28

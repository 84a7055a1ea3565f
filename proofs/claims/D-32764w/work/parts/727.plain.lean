section P27
section o12
variable {h : Hp} {E : Ev} {A : AS} {o : Nat}
theorem m1_12 (H : RM h E A) (M : MI A) {i : Nat} (hi : i < A.np) (b : Int32) :
    f_X4_optOut E.m (Int32.ofNat i) b h = some (.inl (if can12 A i b then 1 else 0), sI (sI h 300 E.m 0) 510 (E.mp i) (if can12 A i b then 1 else A.I 408 i)) := by
  have hn := H.x.n.1
  have x4 := H.x.x.1
  have H0 := H.th 0
  have P := H0.p i hi
  have e8 : kI (sI h 300 E.m 0) 510 (E.mp i) = A.I 408 i := P.i (510, 408) (by decide)
  have e9 : kI (sI h 300 E.m 0) 509 (E.mp i) = A.I 410 i := P.i (509, 410) (by decide)
  have e1 : kI (sI h 300 E.m 0) 301 E.m = A.I 18 0 := H0.x.i (301, 18) (by decide)
  obtain ⟨-, e, q, L, -, -⟩ := H0.x.lp
  have hx := idx_in (n := A.np) (by omega) hi
  have hg := s_get L hi
  have hov := s_isOver H0 M.c309
  have hin := s_mIsIn H0 M hi
  have f0 : f_X4_isGood E.m 1 1 h = some (.inl 1, sI h 300 E.m 0) := by rw [s_isGood H (Or.inr rfl)]; simp
  have k8 : kC (sI h 300 E.m 0) E.m = 4 := H0.x.x.1
  have k9 : kR (sI h 300 E.m 0) 302 E.m = E.mr 0 := H0.x.lr.1
  have hb := M.bp 408 (by decide) i hi
  have z1 : ¬ ((1 : Int32) = 0) := by decide
  have no0 : f_X4_optOut_77 (E.mp i) (sI h 300 E.m 0) = some (.inl 0, sI (sI h 300 E.m 0) 510 (E.mp i) (A.I 408 i)) := by
    rcases hb with z | z <;> simp [f_X4_optOut_77, f_X4_optOut_78, gd, vl, P.c.1, e8, z, b01]
  have core : ∀ w : Int32, A.memb i = true → f_X4_optOut_70 (E.mp i) (A.I 18 0 - A.I 410 i) w (sI h 300 E.m 0) = some (.inl (if decide (¬ w < A.I 18 0 - A.I 410 i) then 1 else 0), sI (sI h 300 E.m 0) 510 (E.mp i) (if decide (¬ w < A.I 18 0 - A.I 410 i) then 1 else A.I 408 i)) := by
    intro w hm
    have z : A.I 408 i = 0 := (of_decide_eq_true hm).2.2
    by_cases c : w < A.I 18 0 - A.I 410 i
    · simp only [f_X4_optOut_70, c, if_true, no0]; simp
    · simp [f_X4_optOut_70, c, gd, vl, f_X4_optOut_78, P.c.1, e8, z, b01]
  unfold can12
  by_cases d : A.done
  · simp only [f_X4_optOut, gd, bd, x4, s_isPerson H, if_pos hx, f0, z1, if_false, if_true, k8, k9, L.c, hg, P.c.1, or_true, hov, d, no0]
    simp
  · have z0 : (if A.done = true then (1 : Int32) else 0) = 0 := by simp [d]
    by_cases m : A.memb i
    · by_cases n : A.I 410 i = -1
      · simp only [f_X4_optOut, gd, bd, x4, s_isPerson H, if_pos hx, f0, z1, if_false, if_true, k8, k9, L.c, hg, P.c.1, or_true, hov, z0, hin, m, e9, n, no0]
        simp
      · by_cases q : b = 0
        · have := core 60 m
          simp only [f_X4_optOut, gd, bd, x4, s_isPerson H, if_pos hx, f0, z1, if_false, if_true, k8, k9, L.c, hg, P.c.1, or_true, hov, z0, hin, m, e9, n, e1, q, this]
          simp [n, d]
        · have := core 90 m
          simp only [f_X4_optOut, gd, bd, x4, s_isPerson H, if_pos hx, f0, z1, if_false, if_true, k8, k9, L.c, hg, P.c.1, or_true, hov, z0, hin, m, e9, n, e1, q, this]
          simp [n, d]
    · simp only [f_X4_optOut, gd, bd, x4, s_isPerson H, if_pos hx, f0, z1, if_false, if_true, k8, k9, L.c, hg, P.c.1, or_true, hov, z0, hin, m, no0]
      simp [m]
end o12
end P27

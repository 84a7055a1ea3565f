section P26
section o12
variable {h : Hp} {E : Ev} {A : AS} {o : Nat}
def can12 (A : AS) (i : Nat) (b : Int32) : Bool := A.memb i && decide (A.I 410 i ≠ -1) && decide (¬ (if b = 0 then (60 : Int32) else 90) < A.I 18 0 - A.I 410 i) && !A.done
/-- optOut -/
def r12 (A : AS) (x b : Int32) : Int32 × Int64 × AS :=
  if inR x A.np then (0, if can12 A x.toNatClampNeg b then 1 else 0, A.sI 408 x.toNatClampNeg (if can12 A x.toNatClampNeg b then 1 else A.I 408 x.toNatClampNeg)) else (1, 0, A)
theorem s1_12 (H : RS h E A) (M : MI A) {i : Nat} (hi : i < A.np) (b : Int32) :
    f_X1_optOut E.x (Int32.ofNat i) b h = some (.inl (if can12 A i b then 1 else 0), sI h 408 (E.sp i) (if can12 A i b then 1 else A.I 408 i)) := by
  obtain ⟨p1, p2, p3⟩ := s_persons H
  have P := H.p i hi
  have e8 : kI h 408 (E.sp i) = A.I 408 i := P.i 408 (by decide)
  have e10 : kI h 410 (E.sp i) = A.I 410 i := P.i 410 (by decide)
  have e18 : kI h 18 E.x = A.I 18 0 := H.x.i 18 (by decide)
  have hb := M.bp 408 (by decide) i hi
  have no0 : f_X1_optOut_61 (E.sp i) h = some (.inl 0, sI h 408 (E.sp i) (A.I 408 i)) := by
    rcases hb with z | z <;> simp [f_X1_optOut_61, f_X1_optOut_62, f_X1_optOut_77, f_X1_optOut_82, gd, vl, P.c.1, e8, z, b01]
  have core : ∀ w : Int32, A.memb i = true → f_X1_optOut_47 E.x (E.sp i) (A.I 18 0 - A.I 410 i) w h = some (.inl (if decide (¬ w < A.I 18 0 - A.I 410 i) && !A.done then 1 else 0), sI h 408 (E.sp i) (if decide (¬ w < A.I 18 0 - A.I 410 i) && !A.done then 1 else A.I 408 i)) := by
    intro w hm
    have z : A.I 408 i = 0 := (of_decide_eq_true hm).2.2
    by_cases c : w < A.I 18 0 - A.I 410 i
    · simp only [f_X1_optOut_47, c, if_true, no0]; simp
    · by_cases d : A.done
      · simp [f_X1_optOut_47, c, gd, bd, H.x.x.1, s_isDone H, d, no0]
      · simp [f_X1_optOut_47, c, gd, bd, vl, H.x.x.1, s_isDone H, d, f_X1_optOut_62, f_X1_optOut_77, f_X1_optOut_82, P.c.1, e8, z, b01]
  unfold can12
  by_cases m : A.memb i
  · by_cases n : A.I 410 i = -1
    · simp [f_X1_optOut, gd, bd, H.x.x.1, p1, p2, s_pat H hi, P.c.1, s_isMember H hi, m, e10, n, no0]
    · by_cases q : b = 0
      · have := core 60 m
        simp only [f_X1_optOut, gd, bd, H.x.x.1, p1, p2, s_pat H hi, P.c.1, s_isMember H hi, m, if_true, or_true, e10, n, e18, q, if_false, this]
        simp [n]
      · have := core 90 m
        simp only [f_X1_optOut, gd, bd, H.x.x.1, p1, p2, s_pat H hi, P.c.1, s_isMember H hi, m, if_true, or_true, e10, n, e18, q, if_false, this]
        simp [n]
  · simp [f_X1_optOut, gd, bd, H.x.x.1, p1, p2, s_pat H hi, P.c.1, s_isMember H hi, m, no0]
end o12
end P26

section P20
section o13
variable {h : Hp} {E : Ev} {A : AS} {o : Nat}
/-- x is a number below n -/
def inR (x : Int32) (n : Nat) : Bool := decide ((0 : Int64) ≤ x.toInt64 ∧ x.toInt64 ≤ (Int32.ofNat n - 1).toInt64)
def can13 (A : AS) (i : Nat) : Bool := decide (A.I 408 i ≠ 0) && !A.done
/-- optIn: code, value, what is then -/
def r13 (A : AS) (x : Int32) : Int32 × Int64 × AS :=
  if inR x A.np then (0, if can13 A x.toNatClampNeg then 1 else 0, A.sI 408 x.toNatClampNeg (if can13 A x.toNatClampNeg then 0 else A.I 408 x.toNatClampNeg)) else (1, 0, A)
theorem sy1 {f : Nat} {v : Int32} {r cc t i j : Nat} (w : WB h) (oo : ob h E r cc t i j) (hc : cc ≠ 0) (ht : t < 1000) : Sy h E A (sI h f r v) E 0 0 :=
  ⟨_, Kp.sI h f r v, off1 w oo hc (by simp; omega), EqM.refl (fun _ _ => rfl) rfl⟩
theorem s1_13 (H : RS h E A) {i : Nat} (hi : i < A.np) (hb : b01 (A.I 408 i)) :
    f_X1_optIn E.x (Int32.ofNat i) h = some (.inl (if can13 A i then 1 else 0), sI h 408 (E.sp i) (if can13 A i then 0 else A.I 408 i)) := by
  obtain ⟨p1, p2, p3⟩ := s_persons H
  have P := H.p i hi
  have e8 : kI h 408 (E.sp i) = A.I 408 i := P.i 408 (by decide)
  unfold can13
  by_cases z : A.I 408 i = 0
  · simp [b01, f_X1_optIn, f_X1_optIn_30, f_X1_optIn_31, f_X1_optIn_48, f_X1_optIn_49, gd, bd, vl, H.x.x.1, p1, p2, s_pat H hi, P.c.1, e8, z]
  · have z1 : A.I 408 i = 1 := hb.resolve_left z
    by_cases d : A.done
    · simp [b01, f_X1_optIn, f_X1_optIn_30, f_X1_optIn_31, f_X1_optIn_48, f_X1_optIn_49, gd, bd, vl, H.x.x.1, p1, p2, s_pat H hi, P.c.1, e8, z1, s_isDone H, d]
    · simp [b01, f_X1_optIn, f_X1_optIn_30, f_X1_optIn_31, f_X1_optIn_48, f_X1_optIn_49, gd, bd, vl, H.x.x.1, p1, p2, s_pat H hi, P.c.1, e8, z1, s_isDone H, d]
theorem o13_s (H : RS h E A) (U : OU h E o) (hb : ∀ k, k < A.np → b01 (A.I 408 k)) (x : Int32) (r1 : kz h + 1 ≤ kza h) (r2 : ks h + 6 ≤ ksa h) :
    ∃ h1, f_X0_optIn E.x x o h = some (.inl (r13 A x).1, h1) ∧ RS h1 E (r13 A x).2.2 ∧ OU h1 E o ∧ ((r13 A x).1 = 0 → jL h1 o 0 = (r13 A x).2.1) ∧ Sy h E A h1 E 1 6 := by
  have hn := H.x.n.1
  have U1 := U.1.1
  have U2 := U.2
  rcases idx x A.np (by omega) with ⟨i, hi, rfl⟩ | hx
  · have e1 := s1_13 H hi (hb i hi)
    have ei : (Int32.ofNat i).toNatClampNeg = i := i_clamp (by omega)
    have eR : inR (Int32.ofNat i) A.np = true := decide_eq_true (idx_in (by omega) hi)
    have H1 := H.pI (if can13 A i then 0 else A.I 408 i) hi (F := 408) (by decide)
    have w1 := H1.w
    have Ua : OU (sI h 408 (E.sp i) (if can13 A i then 0 else A.I 408 i)) E o := U
    obtain ⟨q1, q2, q3, q4⟩ := Ua.put w1 H1 (if can13 A i then 1 else 0)
    refine ⟨tL (sI h 408 (E.sp i) (if can13 A i then 0 else A.I 408 i)) o 0 (if can13 A i then 1 else 0), ?_, ?_, q2, ?_, ?_⟩
    · simp only [f_X0_optIn, gd, bdH, H.x.x.1, if_true, e1, r13, eR]
      by_cases c : can13 A i <;> simp [c, f_X0_optIn_15, gd, vl, kC_sI, kN_sI, U1, U2] <;> decide
    · simp only [r13, eR, ei, if_true]; exact q1
    · simp only [r13, eR, ei, if_true]; intro _; exact q3
    · have P := (H.p i hi).c
      refine ⟨fun m => m = E.sp i ∨ m = o, (((Kp.sI h 408 (E.sp i) _).to (fun _ => Or.inl)).seq (q4.to (fun _ => Or.inr))).le (by omega) (by omega), ⟨fun n hn z => ?_, fun z => ?_⟩, EqM.refl (fun _ _ => rfl) rfl⟩
      · rcases z with rfl | rfl
        · rw [P.2]; simp
        · rw [U.1.2]; simp
      · rcases z with z | z
        · have := P.1; rw [← z, H.w.ec] at this; cases this
        · rw [← z, H.w.ec] at U1; cases U1
  · obtain ⟨p1, p2, p3⟩ := s_persons H
    have eR : inR x A.np = false := decide_eq_false hx
    have e1 := s_atX p2 p3 H.x.lp hx r1 r2
    have K := Kp.bN h 6
    have e2 : f_X1_optIn E.x x h = some (.inr (901, kz h + 1), bN h 6) := by simp only [f_X1_optIn, gd, bd, H.x.x.1, p1, p2, if_true, e1]
    refine ⟨bN h 6, ?_, ?_, U, ?_, ⟨no, K, no_off, EqM.refl (fun _ _ => rfl) rfl⟩⟩
    · simp only [f_X0_optIn, f_X0_optIn_19, gd, bdH, H.x.x.1, if_true, e2, r13, eR]
      rfl
    · simp only [r13, eR]; exact H.keep K no_off
    · simp [r13, eR]
end o13
end P20

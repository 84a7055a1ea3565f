section P31
section rd
variable {h : Hp} {E : Ev} {A : AS} {k : Nat}
theorem s_age (H : RS h E A) (hk : k < A.np) (d : Int32) : f_X5_age (E.sp k) d h = some (.inl ((d - A.I 401 k) / 360), h) := by
  have P := H.p k hk
  simp only [f_X5_age, gd, P.c.1, if_true, P.i 401 (by decide)]
theorem s_mage (H : RM h E A) (hk : k < A.np) {d : Int32} (hd : ¬ d - A.I 401 k < 0) : f_X6_age (E.mp k) d h = some (.inl ((d - A.I 401 k) / 360), h) := by
  have P := H.p k hk
  have e : kI h 500 (E.mp k) = A.I 401 k := P.i (500, 401) (by decide)
  simp only [f_X6_age, gd, bd, P.c.1, if_true, e, s_floorDiv hd]
theorem s_isDead (H : RS h E A) (hk : k < A.np) : f_X5_isDead (E.sp k) h = some (.inl (if A.nh k = 0 then 0 else 1), h) := by
  have P := H.p k hk
  by_cases z : A.nh k = 0
  · simp [f_X5_isDead, f_X5_isDead_12, gd, P.c.1, P.he.1 z, z, b01]
  · obtain ⟨a1, a2, -⟩ := P.he.2 z
    have hn : E.he k ≠ 0 := by
      intro q
      have := a2.1
      rw [q, H.w.c0] at this; cases this
    simp [f_X5_isDead, f_X5_isDead_12, gd, P.c.1, a1, hn, z, b01]
theorem s_lives (H : RM h E A) (hk : k < A.np) (h506 : A.I 506 k = Int32.ofNat (A.nh k)) (hh : A.nh k ≤ 3) : f_X6_lives (E.mp k) h = some (.inl (if A.nh k = 0 then 1 else 0), h) := by
  have P := H.p k hk
  have e : kI h 506 (E.mp k) = Int32.ofNat (A.nh k) := (P.i (506, 506) (by decide)).trans h506
  have z1 : (Int32.ofNat (A.nh k) = 0) ↔ A.nh k = 0 := i_inj (a := A.nh k) (b := 0) (by omega) (by omega)
  by_cases z : A.nh k = 0
  · simp [f_X6_lives, f_X6_lives_12, gd, P.c.1, e, z, b01]
  · have z2 : ¬ Int32.ofNat (A.nh k) = 0 := fun q => z (z1.mp q)
    simp only [f_X6_lives, f_X6_lives_12, gd, P.c.1, e, if_true, z2, if_false, z]
    rfl
end rd
end P31

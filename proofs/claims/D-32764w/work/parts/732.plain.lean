section P32
section rd
variable {h : Hp} {E : Ev} {A : AS} {k : Nat}
theorem s_lies (H : RS h E A) (hk : k < A.np) : f_X5_lies (E.sp k) h = some (.inl (sumL (A.yL k) (A.ny k)), h) := by
  have P := H.p k hk
  obtain ⟨-, e, q, L, -, -⟩ := P.yl.2
  have hb := L.b
  obtain ⟨⟨acc, ix⟩, h1, ⟨rfl, rfl, rfl⟩, e1⟩ := loop_gen (fun F (acc : Int64 × Int32) h' => f_X5_lies_4 F (E.sp k) acc.1 acc.2 h') (fun i acc h' => acc.1 = sumL (A.yL k) i ∧ acc.2 = Int32.ofNat i ∧ h' = h) (fun acc h' => some (.inl acc.1, h')) (A.ny k)
    (fun F acc h' ⟨a1, a2, a3⟩ => by
      subst a3
      have c9 : Int32.ofNat (A.ny k) ≤ acc.2 := by rw [a2]; exact Int32.le_refl _
      simp only [f_X5_lies_4, gd, bd, P.c.1, P.yl.1, L.c, s_size L, c9, if_true])
    (fun F i acc h' hi ⟨a1, a2, a3⟩ => by
      subst a3
      have c9 : ¬ Int32.ofNat (A.ny k) ≤ Int32.ofNat i := by rw [i_le (by omega) (by omega)]; omega
      refine ⟨(sumL (A.yL k) (i + 1), Int32.ofNat (i + 1)), h', ⟨rfl, rfl, rfl⟩, ?_⟩
      have e5 := s_get L hi
      obtain ⟨y1, y2, -⟩ := P.y i hi
      simp only [f_X5_lies_4, gd, bd, vl, P.c.1, P.yl.1, L.c, s_size L, a1, a2, c9, e5, y1.1, y2, if_true, if_false, or_true, i_succ, sumL])
    0 FU (0, 0) h (by omega) (by unfold FU; omega) ⟨rfl, rfl, rfl⟩
  exact e1
theorem s_yearly (H : RM h E A) (hk : k < A.np) : f_X4_yearly (E.mp k) h = some (.inl (sumL (A.yL k) (A.ny k)), h) := by
  have P := H.p k hk
  obtain ⟨-, e, q, L, -, -⟩ := P.yl.2
  have hb := L.b
  obtain ⟨⟨acc, ix⟩, h1, ⟨rfl, rfl, rfl⟩, e1⟩ := loop_gen (fun F (acc : Int64 × Int32) h' => f_X4_yearly_4 F (E.mp k) acc.1 acc.2 h') (fun i acc h' => acc.1 = sumL (A.yL k) i ∧ acc.2 = Int32.ofNat i ∧ h' = h) (fun acc h' => some (.inl acc.1, h')) (A.ny k)
    (fun F acc h' ⟨a1, a2, a3⟩ => by
      subst a3
      have c9 : Int32.ofNat (A.ny k) ≤ acc.2 := by rw [a2]; exact Int32.le_refl _
      simp only [f_X4_yearly_4, gd, bd, P.c.1, P.yl.1, L.c, s_size L, c9, if_true])
    (fun F i acc h' hi ⟨a1, a2, a3⟩ => by
      subst a3
      have c9 : ¬ Int32.ofNat (A.ny k) ≤ Int32.ofNat i := by rw [i_le (by omega) (by omega)]; omega
      refine ⟨(sumL (A.yL k) (i + 1), Int32.ofNat (i + 1)), h', ⟨rfl, rfl, rfl⟩, ?_⟩
      have e5 := s_get L hi
      obtain ⟨y1, y2, -⟩ := P.y i hi
      simp only [f_X4_yearly_4, gd, bd, vl, P.c.1, P.yl.1, L.c, s_size L, a1, a2, c9, e5, y1.1, y2, if_true, if_false, or_true, i_succ, sumL])
    0 FU (0, 0) h (by omega) (by unfold FU; omega) ⟨rfl, rfl, rfl⟩
  exact e1
end rd
end P32

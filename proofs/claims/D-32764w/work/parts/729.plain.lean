section P29
section law
variable {h : Hp} {E : Ev} {A : AS} {o t : Nat} {Q : Nat → AS → Prop}
theorem law12 (H : J Q h E A o t) (ht : t < 24) (hQ : ∀ k v, k < A.np → b01 v → Q t A → Q (t + 1) (A.sI 408 k v)) (hQ0 : Q t A → Q (t + 1) A) {L : Nat} {xs : Nat → Int32} {k23 : Unit → Nat → Nat → Nat → Int32 → Hp → Rt Int32} {i : Int32} (hi : ixo (i + 1) L) (hi2 : ixo (i + 2) L) :
    ∃ h1 E1 A1, f_L_law_1073 L xs k23 () E.x E.m o i h = f_L_law_3277 L xs k23 () E.x E.m o i h1 ∧ E1.x = E.x ∧ E1.m = E.m ∧ J Q h1 E1 A1 o (t + 1) := by
  have a1 := H.r1
  have a2 := H.r2
  have main : ∀ b : Int32, b01 b → ∃ h1 h2 v, f_X0_optOut E.x (xs (i + 1).toNatClampNeg) b o h = some (.inl (r12 A (xs (i + 1).toNatClampNeg) b).1, h1) ∧ f_X4_optOut E.m (xs (i + 1).toNatClampNeg) b h1 = some (.inl v, h2) ∧ kC h1 E.m = 4 ∧ f_X4_thrown E.m h2 = some (.inl (r12 A (xs (i + 1).toNatClampNeg) b).1, h2) ∧ ((r12 A (xs (i + 1).toNatClampNeg) b).1 = 0 → jL h2 o 0 = if v = 0 then 0 else 1) ∧ J Q h2 E (r12 A (xs (i + 1).toNatClampNeg) b).2.2 o (t + 1) := by
    intro b hb
    obtain ⟨h1, e1, R1, U1, v1, Y⟩ := o12_s H.s H.u H.mi (xs (i + 1).toNatClampNeg) b (by omega) (by omega)
    have Rm := Y.rm H.m H.ix
    obtain ⟨h2, v, e2, R2, t2, v2, bv, Z⟩ := o12_m Rm H.mi (xs (i + 1).toNatClampNeg) b (B := (r12 A (xs (i + 1).toNatClampNeg) b).2.2)
    have hA : Ix (r12 A (xs (i + 1).toNatClampNeg) b).2.2 ∧ MI (r12 A (xs (i + 1).toNatClampNeg) b).2.2 ∧ Q (t + 1) (r12 A (xs (i + 1).toNatClampNeg) b).2.2 := by
      unfold r12
      split
      · rename_i z
        have hb : b01 (if can12 A (xs (i + 1).toNatClampNeg).toNatClampNeg b then 1 else A.I 408 (xs (i + 1).toNatClampNeg).toNatClampNeg) := by
          have z2 := H.mi.bp 408 (by decide) _ (inR_lt (by have := H.s.x.n.1; omega) z)
          split
          · exact Or.inr rfl
          · exact z2
        exact ⟨⟨H.ix.pc, H.ix.co, H.ix.lo⟩, H.mi.sP (by decide) (fun _ => hb), hQ _ _ (inR_lt (by have := H.s.x.n.1; omega) z) hb H.q⟩
      · exact ⟨H.ix, H.mi, hQ0 H.q⟩
    have Jn := H.next ht R1 U1 Y R2 Z hA.1 hA.2.1 hA.2.2 (by omega) (by omega)
    exact ⟨h1, h2, v, e1, e2, Rm.x.x.1, by rw [s_thrown R2, t2], fun c => (Z.jl R1.w U1).trans ((v1 c).trans (v2 c)), Jn⟩
  have fin : ∀ b : Int32, b01 b → b = (if xs (i + 2).toNatClampNeg = 0 then 0 else 1) → ∃ h1 E1 A1, f_L_law_1073 L xs k23 () E.x E.m o i h = f_L_law_3277 L xs k23 () E.x E.m o i h1 ∧ E1.x = E.x ∧ E1.m = E.m ∧ J Q h1 E1 A1 o (t + 1) := by
    intro b hb e
    obtain ⟨h1, h2, v, e1, e2, mc, e3, hv, Jn⟩ := main b hb
    refine ⟨h2, E, _, ?_, rfl, rfl, Jn⟩
    have uo : kC h2 o = 102 := Jn.u.1.1
    have un : kN h2 o = 1 := Jn.u.2
    have mc2 : kC h2 E.m = 4 := Jn.m.x.x.1
    have z0 : (0 : Int32).toNatClampNeg = 0 := rfl
    have z1 : ixo (0 : Int32) 1 := by decide
    have core : f_L_law_1094 L xs k23 () E.x E.m o i E.x (xs (i + 1).toNatClampNeg) b h = f_L_law_3277 L xs k23 () E.x E.m o i h2 := by
      have c2 : f_L_law_1121 L xs k23 () E.x E.m o i (r12 A (xs (i + 1).toNatClampNeg) b).1 E.m (xs (i + 1).toNatClampNeg) b h1 = f_L_law_3277 L xs k23 () E.x E.m o i h2 := by
        simp only [f_L_law_1121, gd, bdN, mc, if_true, e2, mc2, e3, uo, un]
        by_cases c : (r12 A (xs (i + 1).toNatClampNeg) b).1 = 0
        · simp only [c, if_true, z0, hv c, z1, and_self, not_false_iff]
          by_cases d : v = 0 <;> simp [d, f_L_law_1155, f_L_law_1161]
        · simp only [c, if_false, f_L_law_1161]
      simp only [f_L_law_1094, gd, bdN, e1, if_pos hi, if_pos hi2]
      by_cases d : xs (i + 2).toNatClampNeg = 0
      · rw [if_pos d] at e; subst e; rw [if_pos d]; exact c2
      · rw [if_neg d] at e; subst e; rw [if_neg d]; exact c2
    simp only [f_L_law_1073, gd, if_pos hi, if_pos hi2]
    by_cases d : xs (i + 2).toNatClampNeg = 0
    · rw [if_pos d] at e; subst e; rw [if_pos d]; exact core
    · rw [if_neg d] at e; subst e; rw [if_neg d]; exact core
  exact fin _ (by split; exact Or.inl rfl; exact Or.inr rfl) rfl
end law
end P29

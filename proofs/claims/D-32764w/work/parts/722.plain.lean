section P22
/-- what holds between two steps of the law; t: steps done; Q: the plain invariant -/
abbrev J (Q : Nat → AS → Prop) (h : Hp) (E : Ev) (A : AS) (o t : Nat) : Prop := (RS h E A) ∧ (RM h E A) ∧ (Q t A) ∧ (MI A) ∧ (Ix A) ∧ (OU h E o) ∧ (kz h + 2000 * (24 - t) ≤ kza h) ∧ (ks h + 200000 * (24 - t) ≤ ksa h)
theorem J.s {Q : Nat → AS → Prop} {h : Hp} {E : Ev} {A : AS} {o t : Nat} (H_ : J Q h E A o t) : RS h E A := H_.1
theorem J.m {Q : Nat → AS → Prop} {h : Hp} {E : Ev} {A : AS} {o t : Nat} (H_ : J Q h E A o t) : RM h E A := H_.2.1
theorem J.q {Q : Nat → AS → Prop} {h : Hp} {E : Ev} {A : AS} {o t : Nat} (H_ : J Q h E A o t) : Q t A := H_.2.2.1
theorem J.mi {Q : Nat → AS → Prop} {h : Hp} {E : Ev} {A : AS} {o t : Nat} (H_ : J Q h E A o t) : MI A := H_.2.2.2.1
theorem J.ix {Q : Nat → AS → Prop} {h : Hp} {E : Ev} {A : AS} {o t : Nat} (H_ : J Q h E A o t) : Ix A := H_.2.2.2.2.1
theorem J.u {Q : Nat → AS → Prop} {h : Hp} {E : Ev} {A : AS} {o t : Nat} (H_ : J Q h E A o t) : OU h E o := H_.2.2.2.2.2.1
theorem J.r1 {Q : Nat → AS → Prop} {h : Hp} {E : Ev} {A : AS} {o t : Nat} (H_ : J Q h E A o t) : kz h + 2000 * (24 - t) ≤ kza h := H_.2.2.2.2.2.2.1
theorem J.r2 {Q : Nat → AS → Prop} {h : Hp} {E : Ev} {A : AS} {o t : Nat} (H_ : J Q h E A o t) : ks h + 200000 * (24 - t) ≤ ksa h := H_.2.2.2.2.2.2.2
section law
variable {h : Hp} {E : Ev} {A : AS} {o t : Nat} {Q : Nat → AS → Prop}
/-- both sides done: the next state -/
theorem J.next {h1 h2 : Hp} {E1 E2 : Ev} {A1 : AS} {c s c1 s1 : Nat} (H : J Q h E A o t) (ht : t < 24) (R1 : RS h1 E1 A1) (U1 : OU h1 E1 o) (Y : Sy h E A h1 E1 c s) (R2 : RM h2 E2 A1) (Z : Mo h1 E1 A1 h2 E2 c1 s1) (X1 : Ix A1) (M1 : MI A1) (q : Q (t + 1) A1) (hc : c + c1 ≤ 2000) (hs : s + s1 ≤ 200000) : J Q h2 E2 A1 o (t + 1) := by
  obtain ⟨S, K, -, -⟩ := Y
  have a1 := H.r1
  have a2 := H.r2
  have b1 := K.z2
  have b2 := K.s2
  have b3 := K.za
  have b4 := K.sa
  have Z' := Z
  obtain ⟨S', K', -, -⟩ := Z'
  have c1' := K'.z2
  have c2' := K'.s2
  have c3' := K'.za
  have c4' := K'.sa
  refine ⟨Z.rs R1 X1, R2, q, M1, X1, Z.ou R1.w U1, ?_, ?_⟩
  · omega
  · omega
theorem s_thrown (H : RM h E A) : f_X4_thrown E.m h = some (.inl (kI h 300 E.m), h) := by
  simp only [f_X4_thrown, gd, H.x.x.1, if_true]
theorem MI.sP {F k : Nat} {v : Int32} (M : MI A) (hF : F ∈ pF) (hv : F ∈ [408, 409, 411, 412, 414] → b01 v) : MI (A.sI F k v) := by
  have g : ∀ G, G ∉ pF → ∀ j, (A.sI F k v).I G j = A.I G j := fun G hG j => upd2_ne _ _ (fun e _ => hG (e ▸ hF))
  have st : (A.sI F k v).stage = A.stage := by
    unfold AS.stage
    rw [g 903 (by decide)]
  refine ⟨?_, ?_, ?_, ?_, fun G hG j hj => ?_⟩
  · rw [g 303 (by decide), g 10 (by decide)]; exact M.c303
  · rw [g 304 (by decide), g 10 (by decide), g 305 (by decide), g 306 (by decide), g 11 (by decide), g 12 (by decide)]; exact M.c304
  · rw [g 309 (by decide), st]; exact M.c309
  · rw [g 10 (by decide)]; exact M.pos
  · show b01 (if G = F ∧ j = k then v else A.I G j)
    split
    · rename_i z; exact hv (z.1 ▸ hG)
    · exact M.bp G hG j hj
theorem inR_lt {x : Int32} {n : Nat} (hn : n < 1000) (h : inR x n = true) : x.toNatClampNeg < n := by
  rcases idx x n hn with ⟨i, hi, rfl⟩ | hx
  · rw [i_clamp (by omega)]; exact hi
  · exact absurd (of_decide_eq_true h) hx
/-- the answer is kept by the model's step -/
theorem Mo.jl {h1 : Hp} {E1 : Ev} {c s : Nat} (Z : Mo h E A h1 E1 c s) (w : WB h) (U : OU h E o) : jL h1 o 0 = jL h o 0 := by
  obtain ⟨S, K, hS, -⟩ := Z
  exact K.aL o 0 (U.1.le w (by decide)) (U.1.off w (by decide) hS (by simp))
theorem law13 (H : J Q h E A o t) (ht : t < 24) (hQ : ∀ k v, b01 v → Q t A → Q (t + 1) (A.sI 408 k v)) (hQ0 : Q t A → Q (t + 1) A) {L : Nat} {xs : Nat → Int32} {k23 : Unit → Nat → Nat → Nat → Int32 → Hp → Rt Int32} {i : Int32} (hi : ixo (i + 1) L) :
    ∃ h1 E1 A1, f_L_law_1164 L xs k23 () E.x E.m o i h = f_L_law_3277 L xs k23 () E.x E.m o i h1 ∧ E1.x = E.x ∧ E1.m = E.m ∧ J Q h1 E1 A1 o (t + 1) := by
  have a1 := H.r1
  have a2 := H.r2
  obtain ⟨h1, e1, R1, U1, v1, Y⟩ := o13_s H.s H.u (H.mi.bp 408 (by decide)) (xs (i + 1).toNatClampNeg) (by omega) (by omega)
  have Rm := Y.rm H.m H.ix
  obtain ⟨h2, v, e2, R2, t2, v2, bv, Z⟩ := o13_m Rm H.mi (xs (i + 1).toNatClampNeg) (B := (r13 A (xs (i + 1).toNatClampNeg)).2.2)
  have e3 := s_thrown R2
  have hA : Ix (r13 A (xs (i + 1).toNatClampNeg)).2.2 ∧ MI (r13 A (xs (i + 1).toNatClampNeg)).2.2 ∧ Q (t + 1) (r13 A (xs (i + 1).toNatClampNeg)).2.2 := by
    unfold r13
    split
    · rename_i z
      have hb : b01 (if can13 A (xs (i + 1).toNatClampNeg).toNatClampNeg then 0 else A.I 408 (xs (i + 1).toNatClampNeg).toNatClampNeg) := by
        have z2 := H.mi.bp 408 (by decide) _ (inR_lt (by have := H.s.x.n.1; omega) z)
        split
        · exact Or.inl rfl
        · exact z2
      exact ⟨⟨H.ix.pc, H.ix.co, H.ix.lo⟩, H.mi.sP (by decide) (fun _ => hb), hQ _ _ hb H.q⟩
    · exact ⟨H.ix, H.mi, hQ0 H.q⟩
  have Jn := H.next ht R1 U1 Y R2 Z hA.1 hA.2.1 hA.2.2 (by omega) (by omega)
  refine ⟨h2, E, _, ?_, rfl, rfl, Jn⟩
  have uo : kC h2 o = 102 := Jn.u.1.1
  have un : kN h2 o = 1 := Jn.u.2
  have mc : kC h1 E.m = 4 := Rm.x.x.1
  have mc2 : kC h2 E.m = 4 := R2.x.x.1
  simp only [f_L_law_1164, gd, bdN, e1, e2, e3, t2, if_pos hi, mc, mc2, if_true, uo, un]
  have jl := Z.jl R1.w U1
  have z0 : (0 : Int32).toNatClampNeg = 0 := rfl
  have z1 : ixo (0 : Int32) 1 := by decide
  by_cases c : (r13 A (xs (i + 1).toNatClampNeg)).1 = 0
  · have hv := (v1 c).trans (v2 c)
    simp only [c, if_true, gd, z0, jl, hv, z1, and_self, not_false_iff]
    by_cases d : v = 0 <;> simp [d, f_L_law_1218, f_L_law_1224]
  · simp only [c, if_false, f_L_law_1224]
end law
end P22

section P21
section o13
variable {h : Hp} {E : Ev} {A : AS}
theorem EqS.refl {E1 : Ev} (ho : ∀ n, n ≤ kz h → E1.ow n = E.ow n) (hE : E1 = (Ev.u_ow E (E1.ow))) : EqS h E E1 A := by
  rw [hE]
  exact ⟨rfl, fun _ _ => ⟨rfl, rfl⟩, rfl, fun _ _ => rfl, rfl, rfl, rfl, rfl, fun _ => rfl, fun _ _ => rfl, fun _ _ => rfl, fun _ _ => rfl, fun _ _ => rfl, fun _ _ => rfl, fun _ _ _ _ => rfl, fun _ _ _ _ => rfl, fun _ _ => rfl, fun _ _ _ => rfl, fun _ _ => rfl, ho⟩
theorem mo_th {v : Int32} {B : AS} (H : RM h E A) : Mo h E B (sI h 300 E.m v) E 0 0 :=
  ⟨_, Kp.sI h 300 E.m v, off1 H.w H.x.x (by decide) (by simp), EqS.refl (fun _ _ => rfl) rfl⟩
theorem o13_m (H : RM h E A) (M : MI A) (x : Int32) {B : AS} :
    ∃ h1 v, f_X4_optIn E.m x h = some (.inl v, h1) ∧ RM h1 E (r13 A x).2.2 ∧ kI h1 300 E.m = (r13 A x).1 ∧ ((r13 A x).1 = 0 → (r13 A x).2.1 = if v = 0 then 0 else 1) ∧ b01 v ∧ Mo h E B h1 E 0 0 := by
  have hn := H.x.n.1
  have x4 := H.x.x.1
  rcases idx x A.np (by omega) with ⟨i, hi, rfl⟩ | hx
  · have ei : (Int32.ofNat i).toNatClampNeg = i := i_clamp (by omega)
    have eR : inR (Int32.ofNat i) A.np = true := decide_eq_true (idx_in (by omega) hi)
    have H0 := H.th 0
    have P := H0.p i hi
    have e8 : kI (sI h 300 E.m 0) 510 (E.mp i) = A.I 408 i := P.i (510, 408) (by decide)
    obtain ⟨-, e, q, L, -, -⟩ := H0.x.lp
    have hx := idx_in (n := A.np) (by omega) hi
    have hg := s_get L hi
    have hov := s_isOver H0 M.c309
    have f0 : f_X4_isGood E.m 1 1 h = some (.inl 1, sI h 300 E.m 0) := by rw [s_isGood H (Or.inr rfl)]; simp
    have k8 : kC (sI h 300 E.m 0) E.m = 4 := H0.x.x.1
    have k9 : kR (sI h 300 E.m 0) 302 E.m = E.mr 0 := H0.x.lr.1
    have H1 := H0.pI (if can13 A i then 0 else A.I 408 i) hi (G := 510) (F := 408) (by decide)
    have hb := M.bp 408 (by decide) i hi
    refine ⟨sI (sI h 300 E.m 0) 510 (E.mp i) (if can13 A i then 0 else A.I 408 i), if can13 A i then 1 else 0, ?_, ?_, ?_, ?_, ?_, ?_⟩
    · unfold can13
      by_cases z : A.I 408 i = 0
      · by_cases d : A.done <;> simp [b01, f_X4_optIn, f_X4_optIn_45, f_X4_optIn_46, f_X4_optIn_61, gd, bd, vl, x4, s_isPerson H, hx, f0, k8, k9, L.c, hg, P.c.1, hov, d, e8, z]
      · have z1 : A.I 408 i = 1 := hb.resolve_left z
        by_cases d : A.done <;> simp [b01, f_X4_optIn, f_X4_optIn_45, f_X4_optIn_46, f_X4_optIn_61, gd, bd, vl, x4, s_isPerson H, hx, f0, k8, k9, L.c, hg, P.c.1, hov, d, e8, z1]
    · simp only [r13, eR, ei, if_true]; exact H1
    · simp [r13, eR, kI_sI]
    · simp only [r13, eR, ei, if_true]; intro _; by_cases c : can13 A i <;> simp [c]
    · by_cases c : can13 A i <;> simp [c, b01]
    · have P := (H.p i hi).c
      refine ⟨fun m => m = E.m ∨ m = E.mp i, ((Kp.sI h 300 E.m 0).to (fun _ => Or.inl)).seq ((Kp.sI (sI h 300 E.m 0) 510 (E.mp i) _).to (fun _ => Or.inr)), ⟨fun n hn z => ?_, fun z => ?_⟩, EqS.refl (fun _ _ => rfl) rfl⟩
      · rcases z with rfl | rfl
        · rw [H.x.x.2]; simp
        · rw [P.2]; simp
      · rcases z with z | z
        · rw [← z, H.w.ec] at x4; cases x4
        · have := P.1; rw [← z, H.w.ec] at this; cases this
  · have eR : inR x A.np = false := decide_eq_false hx
    have f0 : f_X4_isGood E.m 0 1 h = some (.inl 0, sI h 300 E.m 1) := by rw [s_isGood H (Or.inl rfl)]; simp
    refine ⟨sI h 300 E.m 1, 0, ?_, ?_, ?_, ?_, Or.inl rfl, mo_th H⟩
    · simp only [f_X4_optIn, gd, bd, x4, s_isPerson H, if_neg hx, f0, if_true]
    · simp only [r13, eR]; exact H.th 1
    · simp [r13, eR, kI_sI]
    · simp [r13, eR]
end o13
end P21

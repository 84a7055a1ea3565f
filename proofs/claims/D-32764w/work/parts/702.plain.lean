section P2
/-- add, however full -/
theorem s_add {h : Hp} {r e q n v : Nat} {a : Nat → Nat} (w : WB h) (A : AL h r e q n a) (hv : kC h v ≠ 0) (hq : q ≤ 300) (r1 : kz h + 1 ≤ kza h) (r2 : ks h + nq q ≤ ksa h) :
    ∃ h1 e1 q1, f_J2_add r v h = some (.inl 1, h1) ∧ AL h1 r e1 q1 (n + 1) (upN a n v) ∧ Kp (fun m => m = r ∨ (m = e ∧ kC h e = 103)) 1 (nq q) h h1 ∧ ((n < q ∧ e1 = e ∧ q1 = q ∧ kz h1 = kz h ∧ ks h1 ≤ ks h) ∨ (n = q ∧ kz h < e1 ∧ e1 ≤ kz h1 ∧ q1 = nq q)) := by
  by_cases hn : n < q
  · obtain ⟨h1, e1, A1, K1⟩ := s_addN w A hv hn
    have k1 : kC h e = 103 := by
      have hb := A.b
      rcases A.k with k | k
      · omega
      · exact k.1
    refine ⟨h1, e, q, e1, A1, (K1.to (fun m z => z.imp id (fun z => ⟨z, k1⟩))).le (by omega) (by omega), Or.inl ⟨hn, rfl, rfl, ?_, ?_⟩⟩
    · have := K1.z; have := K1.z2; omega
    · have := K1.s2; omega
  · have hn : n = q := by have := A.b; omega
    obtain ⟨h1, e1, A1, K1⟩ := s_addG w A hv hn hq r1 r2
    have w1 := K1.w w
    exact ⟨h1, _, _, e1, A1, K1.to (fun _ => Or.inl), Or.inr ⟨hn, Nat.lt_succ_self _, (A1.lt w1).2.1, rfl⟩⟩
/-- an iterator x over the list r, at place i -/
abbrev It (h : Hp) (x r i : Nat) : Prop := (kC h x = 19) ∧ (kR h 1803 x = r) ∧ (kI h 1800 x = Int32.ofNat i) ∧ (kI h 1802 x = kI h 1700 r)
theorem It.c {h : Hp} {x r i : Nat} (H_ : It h x r i) : kC h x = 19 := H_.1
theorem It.l {h : Hp} {x r i : Nat} (H_ : It h x r i) : kR h 1803 x = r := H_.2.1
theorem It.i {h : Hp} {x r i : Nat} (H_ : It h x r i) : kI h 1800 x = Int32.ofNat i := H_.2.2.1
theorem It.m {h : Hp} {x r i : Nat} (H_ : It h x r i) : kI h 1802 x = kI h 1700 r := H_.2.2.2
theorem It.keep {h h1 : Hp} {x r i : Nat} {S : Nat → Prop} {c s : Nat} (w : WB h) (T : It h x r i) (hr : r ≤ kz h) (K : Kp S c s h h1) (hx : ¬ S x) (h2 : ¬ S r) : It h1 x r i := by
  have lx : x ≤ kz h := w.c _ (by rw [T.c]; decide)
  exact ⟨(K.C x lx).trans T.c, (K.R _ x lx hx).trans T.l, (K.I _ x lx hx).trans T.i, by rw [K.I _ x lx hx, K.I _ r hr h2]; exact T.m⟩
theorem s_iter {h : Hp} {r e q n : Nat} {a : Nat → Nat} (w : WB h) (A : AL h r e q n a) (r1 : kz h + 1 ≤ kza h) (r2 : ks h + 4 ≤ ksa h) :
    ∃ h1, f_J2_iterator r h = some (.inl (kz h + 1), h1) ∧ It h1 (kz h + 1) r 0 ∧ Kp no 1 4 h h1 := by
  obtain ⟨l1, l2, l3, hre⟩ := A.lt w
  have hnr : ¬ r = kz h + 1 := by omega
  refine ⟨sI (sI (sR (oN h 19 4) 1803 (kz h + 1) r) 1801 (kz h + 1) (-1)) 1802 (kz h + 1) (kI h 1700 r), ?_, ?_, ?_⟩
  · simp [f_J2_iterator, f_J16_init, nw, gd, bd, vl, r1, r2, kC_oN, kC_sR, kC_sI, kR_sR, kR_sI, hnr, A.c, kI_sI, kI_sR, kI_oN]
  · refine ⟨by simp [kC_oN, kC_sR, kC_sI], by simp [kR_sR, kR_sI], by simp [kI_sI, kI_sR, kI_oN], by simp [kI_sI, kI_sR, kI_oN, hnr]⟩
  · have K1 := Kp.oN h 19 4
    have K2 := Kp.sR (oN h 19 4) 1803 (kz h + 1) r
    have K3 := Kp.sI (sR (oN h 19 4) 1803 (kz h + 1) r) 1801 (kz h + 1) (-1)
    have K4 := Kp.sI (sI (sR (oN h 19 4) 1803 (kz h + 1) r) 1801 (kz h + 1) (-1)) 1802 (kz h + 1) (kI h 1700 r)
    exact ((K1.trans K2 (fun m hm z => absurd z (by omega))).trans K3 (fun m hm z => absurd z (by omega))).trans K4 (fun m hm z => absurd z (by omega))
theorem s_has {h : Hp} {r e q n x i : Nat} {a : Nat → Nat} (A : AL h r e q n a) (T : It h x r i) (hi : i ≤ n) : f_J16_hasNext x h = some (.inl (if i = n then 0 else 1), h) := by
  have hb := A.b
  have e1 : (Int32.ofNat i = Int32.ofNat n) ↔ i = n := i_inj (by omega) (by omega)
  simp only [f_J16_hasNext, f_J16_hasNext_19, gd, T.c, T.l, A.c, T.i, A.sz, if_true, e1]
  by_cases z : i = n
  · simp [z, b01]
  · simp [z, b01]
theorem s_next {h : Hp} {r e q n x i : Nat} {a : Nat → Nat} (w : WB h) (A : AL h r e q n a) (T : It h x r i) (hi : i < n) :
    ∃ h1, f_J16_next x h = some (.inl (a i), h1) ∧ It h1 x r (i + 1) ∧ Kp (fun m => m = x) 0 0 h h1 := by
  have hb := A.b
  have h1 : kC h e = 103 := by
    rcases A.k with k | k
    · omega
    · exact k.1
  have hxr : ¬ r = x := by rintro rfl; have := A.c; rw [T.c] at this; cases this
  have h4 : (Int32.ofNat i).toNatClampNeg = i := i_clamp (by omega)
  have h2 : ¬ (Int32.ofNat i < 0) := i_nonneg (by omega)
  have h5 : ¬ (Int32.ofNat i < 0 ∨ q ≤ i) := by rintro (h | h); exact h2 h; omega
  have h6 : Int32.ofNat i < Int32.ofNat n := (i_lt (by omega) (by omega)).mpr hi
  have h7 : Int32.ofNat i < Int32.ofNat q := (i_lt (by omega) (by omega)).mpr (by omega)
  refine ⟨sI (sI h 1800 x (Int32.ofNat (i + 1))) 1801 x (Int32.ofNat i), ?_, ?_, ?_⟩
  · simp only [f_J16_next, f_J16_checkForComodification, gd, bd, vl, T.c, T.l, A.c, T.m, T.i, A.sz, A.el, h1, A.eq, h6, h7, if_true, true_or, kC_sI, i_succ, kN_sI, jR_sI, ixo, h4, h5, not_false_iff, and_self, A.at_ i hi]
  · exact ⟨T.c, T.l, by simp [kI_sI], by simp [kI_sI, hxr, T.m]⟩
  · exact (Kp.sI h 1800 x (Int32.ofNat (i + 1))).seq (Kp.sI (sI h 1800 x (Int32.ofNat (i + 1))) 1801 x (Int32.ofNat i))
/-- clear -/
theorem s_clear {h : Hp} {r e q n : Nat} {a : Nat → Nat} (w : WB h) (A : AL h r e q n a) :
    ∃ h1, f_J2_clear r h = some (.inl (), h1) ∧ (∀ b, AL h1 r e q 0 b) ∧ Kp (fun m => m = r ∨ (m = e ∧ kC h e = 103)) 0 0 h h1 := by
  have hb := A.b
  obtain ⟨l1, l2, l3, hre⟩ := A.lt w
  have loop : ∀ (k i F : Nat) (H : Hp), k < F → i + k = n → (n = 0 ∨ kC H e = 103) → kN H e = q → ∃ H1, f_J2_clear_27 F e (Int32.ofNat n) (Int32.ofNat i) H = some (.inl (), H1) ∧ kR H1 = kR H ∧ kI H1 = kI H ∧ Kp (fun m => m = e ∧ n ≠ 0) 0 0 H H1 := by
    intro k
    induction k with
    | zero =>
      intro i F H hF hi hc hN
      obtain ⟨F, rfl⟩ : ∃ G, F = G + 1 := ⟨F - 1, by omega⟩
      refine ⟨H, ?_, rfl, rfl, Kp.refl _ _⟩
      rw [f_J2_clear_27, if_pos]
      rw [i_le (by omega) (by omega)]; omega
    | succ k ih =>
      intro i F H hF hi hc hN
      obtain ⟨F, rfl⟩ : ∃ G, F = G + 1 := ⟨F - 1, by omega⟩
      have hc : kC H e = 103 := hc.resolve_left (by omega)
      have h4 : (Int32.ofNat i).toNatClampNeg = i := i_clamp (by omega)
      have h2 : ¬ (Int32.ofNat i < 0) := i_nonneg (by omega)
      have h5 : ¬ (Int32.ofNat i < 0 ∨ q ≤ i) := by rintro (h | h); exact h2 h; omega
      obtain ⟨H1, e1, e2, e3, K1⟩ := ih (i + 1) F (tR H e i 0) (by omega) (by omega) (Or.inr hc) hN
      refine ⟨H1, ?_, e2, e3, ((Kp.tR H e i 0).to (fun m z => ⟨z, by omega⟩)).seq K1⟩
      rw [f_J2_clear_27, if_neg (by rw [i_le (by omega) (by omega)]; omega)]
      simp only [gd, vl, hc, hN, ixo, h4, h5, not_false_iff, and_self, if_true, true_or, i_succ, e1]
  have hc0 : n = 0 ∨ kC (sI (sI h 1700 r (kI h 1700 r + 1)) 1702 r 0) e = 103 := by
    rcases A.k with k | k
    · left; omega
    · right; exact k.1
  obtain ⟨H1, e1, e2, e3, K1⟩ := loop n 0 FU (sI (sI h 1700 r (kI h 1700 r + 1)) 1702 r 0) (by unfold FU; omega) (by omega) hc0 A.eq
  have K0 : Kp (fun m => m = r ∨ (m = e ∧ kC h e = 103)) 0 0 h H1 := by
    refine (((Kp.sI h 1700 r (kI h 1700 r + 1)).seq (Kp.sI (sI h 1700 r (kI h 1700 r + 1)) 1702 r 0)).to (fun m z => Or.inl z)).seq (K1.to (fun m z => Or.inr ⟨z.1, ?_⟩))
    rcases A.k with k | k
    · exact absurd (show n = 0 by omega) z.2
    · exact k.1
  refine ⟨H1, ?_, fun b => ?_, K0⟩
  · simp only [f_J2_clear, gd, vl, A.c, if_true, kC_sI, kR_sI, A.el, kI_sI, A.sz, Nat.reduceEqDiff, false_and, if_false]
    exact e1
  · have c9 := K0.C r l1
    have c8 := K0.C e l2
    refine ⟨c9.trans A.c, ?_, ?_, ⟨by omega, hb.2⟩, (K0.N e l2).trans A.eq, ?_, fun i hi => by omega, fun i hi => by omega⟩
    · rw [e2]; exact A.el
    · rw [e3]; simp [kI_sI]
    · rw [K0.e, c8]; exact A.k
end P2

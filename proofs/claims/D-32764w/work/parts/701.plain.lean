section P1
def upN {α : Type} (f : Nat → α) (k : Nat) (v : α) : Nat → α := fun j => if j = k then v else f j
theorem upN_at {α : Type} (f : Nat → α) (k : Nat) (v : α) : upN f k v k = v := if_pos rfl
theorem upN_ne {α : Type} (f : Nat → α) {k j : Nat} (v : α) (h : j ≠ k) : upN f k v j = f j := if_neg h
/-- a list: the object r, its array e of q places, n elements a -/
abbrev AL (h : Hp) (r e q n : Nat) (a : Nat → Nat) : Prop := (kC h r = 18) ∧ (kR h 1701 r = e) ∧ (kI h 1702 r = Int32.ofNat n) ∧ (n ≤ q ∧ q ≤ 500) ∧ (kN h e = q) ∧ ((e = kE h ∧ q = 0) ∨ (kC h e = 103 ∧ 0 < q)) ∧ (∀ i, i < n → jR h e i = a i) ∧ (∀ i, i < n → kC h (a i) ≠ 0)
theorem AL.c {h : Hp} {r e q n : Nat} {a : Nat → Nat} (H_ : AL h r e q n a) : kC h r = 18 := H_.1
theorem AL.el {h : Hp} {r e q n : Nat} {a : Nat → Nat} (H_ : AL h r e q n a) : kR h 1701 r = e := H_.2.1
theorem AL.sz {h : Hp} {r e q n : Nat} {a : Nat → Nat} (H_ : AL h r e q n a) : kI h 1702 r = Int32.ofNat n := H_.2.2.1
theorem AL.b {h : Hp} {r e q n : Nat} {a : Nat → Nat} (H_ : AL h r e q n a) : n ≤ q ∧ q ≤ 500 := H_.2.2.2.1
theorem AL.eq {h : Hp} {r e q n : Nat} {a : Nat → Nat} (H_ : AL h r e q n a) : kN h e = q := H_.2.2.2.2.1
theorem AL.k {h : Hp} {r e q n : Nat} {a : Nat → Nat} (H_ : AL h r e q n a) : (e = kE h ∧ q = 0) ∨ (kC h e = 103 ∧ 0 < q) := H_.2.2.2.2.2.1
theorem AL.at_ {h : Hp} {r e q n : Nat} {a : Nat → Nat} (H_ : AL h r e q n a) : ∀ i, i < n → jR h e i = a i := H_.2.2.2.2.2.2.1
theorem AL.ok {h : Hp} {r e q n : Nat} {a : Nat → Nat} (H_ : AL h r e q n a) : ∀ i, i < n → kC h (a i) ≠ 0 := H_.2.2.2.2.2.2.2
theorem AL.lt {h : Hp} {r e q n : Nat} {a : Nat → Nat} (w : WB h) (A : AL h r e q n a) : r ≤ kz h ∧ e ≤ kz h ∧ (∀ i, i < n → a i ≤ kz h) ∧ r ≠ e := by
  refine ⟨w.c _ (by rw [A.c]; decide), ?_, fun i hi => w.c _ (A.ok i hi), ?_⟩
  · rcases A.k with h1 | h1
    · rw [h1.1]; exact w.e
    · exact w.c _ (by rw [h1.1]; decide)
  · rintro rfl
    have := A.c
    rcases A.k with h1 | h1
    · rw [h1.1, w.ec] at this; cases this
    · rw [h1.1] at this; cases this
theorem AL.keep {h h1 : Hp} {r e q n : Nat} {a : Nat → Nat} {S : Nat → Prop} {c s : Nat} (w : WB h) (A : AL h r e q n a) (K : Kp S c s h h1) (hr : ¬ S r) (he : ¬ S e) : AL h1 r e q n a := by
  obtain ⟨l1, l2, l3, -⟩ := A.lt w
  refine ⟨(K.C r l1).trans A.c, (K.R _ r l1 hr).trans A.el, (K.I _ r l1 hr).trans A.sz, A.b, (K.N e l2).trans A.eq, ?_, fun i hi => (K.aR e i l2 he).trans (A.at_ i hi), fun i hi => by rw [K.C _ (l3 i hi)]; exact A.ok i hi⟩
  rw [K.e, K.C e l2]
  exact A.k
theorem AL.ext {h : Hp} {r e q n : Nat} {a b : Nat → Nat} (A : AL h r e q n a) (hb : ∀ i, i < n → b i = a i) : AL h r e q n b :=
  ⟨A.c, A.el, A.sz, A.b, A.eq, A.k, fun i hi => (A.at_ i hi).trans (hb i hi).symm, fun i hi => by rw [hb i hi]; exact A.ok i hi⟩
theorem s_size {h : Hp} {r e q n : Nat} {a : Nat → Nat} (A : AL h r e q n a) : f_J2_size r h = some (.inl (Int32.ofNat n), h) := by
  simp only [f_J2_size, gd, if_pos A.c, A.sz]
theorem s_get {h : Hp} {r e q n i : Nat} {a : Nat → Nat} (A : AL h r e q n a) (hi : i < n) : f_J2_get r (Int32.ofNat i) h = some (.inl (a i), h) := by
  have hb := A.b
  have h1 : kC h e = 103 := by
    rcases A.k with k | k
    · omega
    · exact k.1
  have h2 : ¬ (Int32.ofNat i < 0) := i_nonneg (by omega)
  have h3 : Int32.ofNat i < Int32.ofNat n := (i_lt (by omega) (by omega)).mpr hi
  have h4 : (Int32.ofNat i).toNatClampNeg = i := i_clamp (by omega)
  have h5 : ¬ (Int32.ofNat i < 0 ∨ q ≤ i) := by rintro (h | h); exact h2 h; omega
  simp only [f_J2_get, f_J8_checkIndex, f_J9_checkIndex, f_J2_elementData, gd, bd, if_pos A.c, A.sz, if_neg h2, if_pos h3, A.el, h1, A.eq, ixo, h4, A.at_ i hi]
  simp only [h5, not_false_iff, and_self, if_true]
/-- the new length of a full array -/
def nq (q : Nat) : Nat := if q = 0 then 10 else q + max 1 (q / 2)
theorem s_addN {h : Hp} {r e q n v : Nat} {a : Nat → Nat} (w : WB h) (A : AL h r e q n a) (hv : kC h v ≠ 0) (hn : n < q) :
    ∃ h1, f_J2_add r v h = some (.inl 1, h1) ∧ AL h1 r e q (n + 1) (upN a n v) ∧ Kp (fun m => m = r ∨ m = e) 0 0 h h1 := by
  have hb := A.b
  obtain ⟨l1, l2, l3, hre⟩ := A.lt w
  have h1 : kC h e = 103 := by
    rcases A.k with k | k
    · omega
    · exact k.1
  have h2 : ¬ (Int32.ofNat n < 0) := i_nonneg (by omega)
  have h3 : ¬ Int32.ofNat n = Int32.ofNat q := by rw [i_inj (by omega) (by omega)]; omega
  have h4 : (Int32.ofNat n).toNatClampNeg = n := i_clamp (by omega)
  have h5 : ¬ (Int32.ofNat n < 0 ∨ q ≤ n) := by rintro (h | h); exact h2 h; omega
  have K1 := Kp.sI h 1700 r (kI h 1700 r + 1)
  have K2 := Kp.tR (sI h 1700 r (kI h 1700 r + 1)) e n v
  have K3 := Kp.sI (tR (sI h 1700 r (kI h 1700 r + 1)) e n v) 1702 r (Int32.ofNat (n + 1))
  refine ⟨sI (tR (sI h 1700 r (kI h 1700 r + 1)) e n v) 1702 r (Int32.ofNat (n + 1)), ?_, ?_, ?_⟩
  · simp only [f_J2_add, f_J2_add_2, f_J2_add_2_11, gd, bd, vl, A.c, if_true, kC_sI, kR_sI, kN_sI, kI_sI, kC_tR, A.el, A.sz, A.eq, h1, true_or, hv, or_true, h4, ixo, ne_eq, not_false_iff, and_true, i_succ]
    simp only [Nat.reduceEqDiff, false_and, if_false, A.sz, h3, h5, not_false_iff, and_self, if_true, h4, i_succ]
  · refine ⟨A.c, A.el, by simp [kI_sI], ⟨by omega, hb.2⟩, A.eq, A.k, fun i hi => ?_, fun i hi => ?_⟩
    · simp only [jR_sI, jR_tR, upN]
      by_cases q9 : i = n
      · subst q9; simp
      · rw [if_neg (fun z => q9 z.2), if_neg q9]; exact A.at_ i (by omega)
    · simp only [kC_sI, kC_tR, upN]
      by_cases q9 : i = n
      · subst q9; simpa using hv
      · rw [if_neg q9]; exact A.ok i (by omega)
  · exact ((K1.to (fun _ => Or.inl)).seq (K2.to (fun _ => Or.inr))).seq (K3.to (fun _ => Or.inl))
theorem s_addG {h : Hp} {r e q n v : Nat} {a : Nat → Nat} (w : WB h) (A : AL h r e q n a) (hv : kC h v ≠ 0) (hn : n = q) (hq : q ≤ 300) (r1 : kz h + 1 ≤ kza h) (r2 : ks h + nq q ≤ ksa h) :
    ∃ h1, f_J2_add r v h = some (.inl 1, h1) ∧ AL h1 r (kz h + 1) (nq q) (n + 1) (upN a n v) ∧ Kp (fun m => m = r) 1 (nq q) h h1 := by
  subst hn
  have hb := A.b
  obtain ⟨l1, l2, l3, hre⟩ := A.lt w
  have h2 : ¬ (Int32.ofNat n < 0) := i_nonneg (by omega)
  have h4 : (Int32.ofNat n).toNatClampNeg = n := i_clamp (by omega)
  have hvz := w.c v hv
  have hnr : ¬ r = kz h + 1 := by omega
  have hne : ¬ e = kz h + 1 := by omega
  by_cases q0 : n = 0
  · subst q0
    have hE : e = kE h := by
      rcases A.k with k | k
      · exact k.1
      · omega
    have e10 : nq 0 = 10 := rfl
    rw [e10] at r2 ⊢
    have m1 : f_J10_max (10 : Int32) 1 (sI h 1700 r (kI h 1700 r + 1)) = some (.inl 10, sI h 1700 r (kI h 1700 r + 1)) := by
      simp [f_J10_max, f_J10_max_10]
    refine ⟨sI (tR (sR (aN (sI h 1700 r (kI h 1700 r + 1)) 103 10) 1701 r (kz h + 1)) (kz h + 1) 0 v) 1702 r 1, ?_, ?_, ?_⟩
    · have c1 : kC h e = 103 ∨ e = kE h := Or.inr hE
      have n1 : kN h e = 0 := A.eq
      have i1 : ¬ ((10 : Int32) < 0) := by decide
      have i2 : (10 : Int32).toNatClampNeg = 10 := by decide
      have n2 : kN h (kE h) = 0 := w.en
      have vz : ¬ v = kz h + 1 := by omega
      simp [f_J2_add, f_J2_add_2, f_J2_add_2_11, f_J2_grow, f_J2_grow_2, m1, gd, bd, vl, na, A.c, A.el, A.sz, A.eq, hE, i1, i2, hv, hnr, kC_sI, kC_sR, kC_aN, kC_tR, kR_sI, kR_aN, kR_sR, kN_sI, kN_aN, kN_sR, kI_sI, kE_sI, kE_aN, kz_sI, kza_sI, ks_sI, ksa_sI, kz_aN, r1, r2, ixo, n2, vz]
    · refine ⟨by simp [kC_sI, kC_tR, kC_sR, kC_aN, kz_sI, hnr, A.c], by simp [kR_sI, kR_tR, kR_sR], by simp [kI_sI], ⟨by omega, by omega⟩, by simp [kN_sI, kN_tR, kN_sR, kN_aN, kz_sI], Or.inr ⟨by simp [kC_sI, kC_tR, kC_sR, kC_aN, kz_sI], by omega⟩, fun i hi => ?_, fun i hi => ?_⟩
      · obtain rfl : i = 0 := by omega
        simp [jR_sI, jR_tR, upN]
      · obtain rfl : i = 0 := by omega
        have vz : ¬ v = kz h + 1 := by omega
        simp [kC_sI, kC_tR, kC_sR, kC_aN, kz_sI, upN, hv, vz]
    · have K1 := Kp.sI h 1700 r (kI h 1700 r + 1)
      have K2 := Kp.aN (sI h 1700 r (kI h 1700 r + 1)) 103 10
      have K3 := Kp.sR (aN (sI h 1700 r (kI h 1700 r + 1)) 103 10) 1701 r (kz h + 1)
      have K4 := Kp.tR (sR (aN (sI h 1700 r (kI h 1700 r + 1)) 103 10) 1701 r (kz h + 1)) (kz h + 1) 0 v
      have K5 := Kp.sI (tR (sR (aN (sI h 1700 r (kI h 1700 r + 1)) 103 10) 1701 r (kz h + 1)) (kz h + 1) 0 v) 1702 r 1
      exact (((K1.trans (K2.to (T := fun m => m = r) (fun _ z => z.elim)) (fun _ _ z => z)).trans K3 (fun _ _ z => z)).trans K4 (fun m hm z => absurd z (by omega))).trans K5 (fun _ _ z => z)
  · have k1 : kC h e = 103 := by
      rcases A.k with k | k
      · omega
      · exact k.1
    have hnq : nq n = n + max 1 (n / 2) := by unfold nq; rw [if_neg q0]
    have hnq2 : n < nq n ∧ nq n ≤ 500 := by rw [hnq]; omega
    have m0 : ∀ H : Hp, f_J10_max (Int32.ofNat 1) (Int32.ofNat (n / 2)) H = some (.inl (Int32.ofNat (max 1 (n / 2))), H) := by
      intro H
      simp only [f_J10_max, f_J10_max_10]
      by_cases z : 1 < n / 2
      · rw [if_pos ((i_lt (by omega) (by omega)).mpr z), Nat.max_eq_right (by omega)]
      · rw [if_neg (fun c => z ((i_lt (by omega) (by omega)).mp c)), Nat.max_eq_left (by omega)]
    have m1 : ∀ H : Hp, f_J12_newLength (Int32.ofNat n) (Int32.ofNat (n + 1) - Int32.ofNat n) (Int32.ofNat n >>> ((1 : Int32) &&& 31)) H = some (.inl (Int32.ofNat (nq n)), H) := by
      intro H
      have e1 : Int32.ofNat (n + 1) - Int32.ofNat n = Int32.ofNat 1 := by
        rw [← Int32.toInt_inj, Int32.toInt_sub, i_toInt (by omega), i_toInt (by omega), i_toInt (by omega), show ((n + 1 : Nat) : Int) - (n : Int) = 1 by omega]
        decide
      have e2 : Int32.ofNat n + Int32.ofNat (max 1 (n / 2)) = Int32.ofNat (nq n) := by rw [hnq, Int32.ofNat_add]
      rw [i_shr n (by omega), e1]
      simp only [f_J12_newLength, m0, bd, vl, e2]
      have p1 : ¬ Int32.ofNat (nq n) ≤ (0 : Int32) := by
        rw [Int32.le_iff_toInt_le, i_toInt (by omega)]; simp; omega
      have p2 : ¬ (2147483639 : Int32) < Int32.ofNat (nq n) := by
        rw [Int32.lt_iff_toInt_lt, i_toInt (by omega)]; simp; omega
      rw [if_neg p1, if_neg p2]
    have q4 : (Int32.ofNat (nq n)).toNatClampNeg = nq n := i_clamp (by omega)
    have q5 : ¬ (Int32.ofNat (nq n) < 0) := i_nonneg (by omega)
    have m2 : ∀ H : Hp, f_J10_min_2 (Int32.ofNat n) (Int32.ofNat (nq n)) H = some (.inl (Int32.ofNat n), H) := by
      intro H
      simp only [f_J10_min_2, f_J10_min_2_10]
      rw [if_neg (by rw [i_lt (by omega) (by omega)]; omega)]
    have g0 : ¬ Int32.ofNat n ≤ 0 := by rw [Int32.le_iff_toInt_le, i_toInt (by omega)]; simp; omega
    have g1 : (0 : Int32) < Int32.ofNat n := by rw [Int32.lt_iff_toInt_lt, i_toInt (by omega)]; simp; omega
    have vz : ¬ v = kz h + 1 := by omega
    have ra : ∀ i, i < n → ¬ a i = kz h + 1 := fun i hi => by have := l3 i hi; omega
    refine ⟨sI (tR (sR (cR (aN (sI h 1700 r (kI h 1700 r + 1)) 103 (nq n)) e 0 (kz h + 1) 0 n) 1701 r (kz h + 1)) (kz h + 1) n v) 1702 r (Int32.ofNat (n + 1)), ?_, ?_, ?_⟩
    · have z0 : ¬ ((0 : Int32) < 0) := by decide
      have z1 : (0 : Int32).toNatClampNeg = 0 := by decide
      have u1 : ¬ (Int32.ofNat n < 0 ∨ nq n ≤ n) := by rintro (z | z); exact h2 z; omega
      have u2 : Int32.ofNat n + 1 = Int32.ofNat (n + 1) := i_succ n
      have u3 : n ≤ nq n := by omega
      have u4 : nq n ≤ 60000000 := by omega
      have f1 : f_J2_grow_2_20 r (Int32.ofNat (n + 1)) (Int32.ofNat n) (sI h 1700 r (kI h 1700 r + 1)) = some (.inl (kz h + 1), sR (cR (aN (sI h 1700 r (kI h 1700 r + 1)) 103 (nq n)) e 0 (kz h + 1) 0 n) 1701 r (kz h + 1)) := by
        simp only [f_J2_grow_2_20, m1, bd, f_J13_copyOf, f_J13_copyOf_2]
        have hac : ∀ K : Hp → Rt Nat, ac_ (aN (sI h 1700 r (kI h 1700 r + 1)) 103 (nq n)) e 0 (kz h + 1) 0 (Int32.ofNat n) K = K (cR (aN (sI h 1700 r (kI h 1700 r + 1)) 103 (nq n)) e 0 (kz h + 1) 0 n) := by
          intro K
          unfold ac_
          have hs : ∀ i, i < (Int32.ofNat n).toNatClampNeg → (jR (aN (sI h 1700 r (kI h 1700 r + 1)) 103 (nq n)) e ((0 : Int32).toNatClampNeg + i) = 0 ∨ kC (aN (sI h 1700 r (kI h 1700 r + 1)) 103 (nq n)) (jR (aN (sI h 1700 r (kI h 1700 r + 1)) 103 (nq n)) e ((0 : Int32).toNatClampNeg + i)) ≠ 0) := by
            intro i hi
            rw [h4] at hi
            right
            simp [jR_aN, jR_sI, kz_sI, hne, kC_aN, kC_sI, z1, A.at_ i hi, ra i hi, A.ok i hi]
          rw [gd_t ⟨by simp [kC_aN, kC_sI, kz_sI, hne, k1], by simp [kC_aN, kz_sI], z0, z0, h2, by simp [h4, z1, kN_aN, kN_sI, kz_sI, hne, A.eq], by simp [h4, z1, kN_aN, kN_sI, kz_sI, u3], hs⟩, h4, z1]
        simp [gd, na, vl, bd, kC_sI, kR_sI, A.c, A.el, k1, q4, q5, kz_sI, kza_sI, ks_sI, ksa_sI, r1, r2, u4, kC_aN, kN_aN, hne, A.eq, kN_sI, m2, z1, h2, h4, kC_cR, hnr, u3, jR_aN, jR_sI, kR_cR, kR_aN, hac]
      have f2 : f_J2_grow r (sI h 1700 r (kI h 1700 r + 1)) = some (.inl (kz h + 1), sR (cR (aN (sI h 1700 r (kI h 1700 r + 1)) 103 (nq n)) e 0 (kz h + 1) 0 n) 1701 r (kz h + 1)) := by
        simp only [f_J2_grow, f_J2_grow_2, gd, bd, vl, kC_sI, kI_sI, A.c, if_true, A.sz, Nat.reduceEqDiff, false_and, if_false, u2, kR_sI, A.el, k1, true_or, kN_sI, A.eq, g1, f1]
      simp only [f_J2_add, f_J2_add_2, f_J2_add_2_11, gd, bd, vl, kC_sI, kI_sI, A.c, if_true, A.sz, Nat.reduceEqDiff, false_and, if_false, kR_sI, A.el, k1, true_or, kN_sI, A.eq, f2]
      simp only [kC_sR, kC_cR, kC_aN, kN_sR, kN_cR, kN_aN, kz_sI, ixo, h4, u1, kC_tR, hnr, kC_sI, A.c, hv, vz, u2, if_true, if_false, not_false_iff, and_self, or_true, ne_eq]
    · refine ⟨by simp [kC_sI, kC_tR, kC_sR, kC_cR, kC_aN, kz_sI, hnr, A.c], by simp [kR_sI, kR_tR, kR_sR], by simp only [kI_sI, and_self, if_true], ⟨by omega, by omega⟩, by simp [kN_sI, kN_tR, kN_sR, kN_cR, kN_aN, kz_sI], Or.inr ⟨by simp [kC_sI, kC_tR, kC_sR, kC_cR, kC_aN, kz_sI], by omega⟩, fun i hi => ?_, fun i hi => ?_⟩
      · simp only [jR_sI, jR_tR, jR_sR, jR_cR, jR_aN, kz_sI, upN]
        by_cases z : i = n
        · simp [z]
        · have hi2 : i < n := by omega
          simp [z, hi2, hne, A.at_ i hi2]
      · simp only [kC_sI, kC_tR, kC_sR, kC_cR, kC_aN, kz_sI, upN]
        by_cases z : i = n
        · simp [z, vz, hv]
        · simp [z, ra i (by omega), A.ok i (by omega)]
    · have K1 := Kp.sI h 1700 r (kI h 1700 r + 1)
      have K2 := Kp.aN (sI h 1700 r (kI h 1700 r + 1)) 103 (nq n)
      have K2b := Kp.cR (aN (sI h 1700 r (kI h 1700 r + 1)) 103 (nq n)) e 0 (kz h + 1) 0 n
      have K3 := Kp.sR (cR (aN (sI h 1700 r (kI h 1700 r + 1)) 103 (nq n)) e 0 (kz h + 1) 0 n) 1701 r (kz h + 1)
      have K4 := Kp.tR (sR (cR (aN (sI h 1700 r (kI h 1700 r + 1)) 103 (nq n)) e 0 (kz h + 1) 0 n) 1701 r (kz h + 1)) (kz h + 1) n v
      have K5 := Kp.sI (tR (sR (cR (aN (sI h 1700 r (kI h 1700 r + 1)) 103 (nq n)) e 0 (kz h + 1) 0 n) 1701 r (kz h + 1)) (kz h + 1) n v) 1702 r (Int32.ofNat (n + 1))
      exact ((((K1.trans (K2.to (T := fun m => m = r) (fun _ z => z.elim)) (fun _ _ z => z)).trans K2b (fun m hm z => absurd z (by omega))).trans K3 (fun _ _ z => z)).trans K4 (fun m hm z => absurd z (by omega))).trans K5 (fun _ _ z => z) |>.le (by omega) (by omega)
end P1

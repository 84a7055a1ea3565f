section P7
/-- an Int32 as an index below n, or not -/
theorem idx (x : Int32) (n : Nat) (hn : n < 1000) : (∃ i, i < n ∧ x = Int32.ofNat i) ∨ ¬ ((0 : Int64) ≤ x.toInt64 ∧ x.toInt64 ≤ (Int32.ofNat n - 1).toInt64) := by
  by_cases h : 0 ≤ x.toInt ∧ x.toInt < n
  · left
    refine ⟨x.toInt.toNat, by omega, ?_⟩
    rw [← Int32.toInt_inj, i_toInt (by omega)]; omega
  · right
    intro q
    apply h
    have e : (Int32.ofNat n - 1).toInt = (n : Int) - 1 := by
      rw [Int32.toInt_sub, i_toInt (by omega), show (1 : Int32).toInt = 1 from rfl]
      apply Int.bmod_eq_of_le <;> omega
    rw [Int64.le_iff_toInt_le, Int64.le_iff_toInt_le, Int32.toInt_toInt64, Int32.toInt_toInt64, e] at q
    have := q.1; have := q.2
    simp at *
    omega
theorem idx_in {i n : Nat} (hn : n < 1000) (hi : i < n) : (0 : Int64) ≤ (Int32.ofNat i).toInt64 ∧ (Int32.ofNat i).toInt64 ≤ (Int32.ofNat n - 1).toInt64 := by
  have e : (Int32.ofNat n - 1).toInt = (n : Int) - 1 := by
    rw [Int32.toInt_sub, i_toInt (by omega), show (1 : Int32).toInt = 1 from rfl]
    apply Int.bmod_eq_of_le <;> omega
  rw [Int64.le_iff_toInt_le, Int64.le_iff_toInt_le, Int32.toInt_toInt64, Int32.toInt_toInt64, e, i_toInt (by omega)]
  simp
  omega
theorem s_isIn (a b c : Int64) (h : Hp) : f_X1_isIn a b c h = some (.inl (if b ≤ a ∧ a ≤ c then 1 else 0), h) := by
  unfold f_X1_isIn f_X1_isIn_17 f_X1_isIn_18
  by_cases h1 : a < b
  · have : ¬ (b ≤ a ∧ a ≤ c) := fun q => absurd q.1 (Int64.not_le.mpr h1)
    simp [h1, this, gd]
  · by_cases h2 : c < a
    · have : ¬ (b ≤ a ∧ a ≤ c) := fun q => absurd q.2 (Int64.not_le.mpr h2)
      simp [h1, h2, this, gd]
    · simp [h1, h2, Int64.not_lt.mp h1, Int64.not_lt.mp h2, gd]
theorem s_isWithin (a b c : Int64) (h : Hp) : f_X4_isWithin a b c h = some (.inl (if b ≤ a ∧ a ≤ c then 1 else 0), h) := by
  unfold f_X4_isWithin f_X4_isWithin_17 f_X4_isWithin_18
  by_cases h1 : a < b
  · have : ¬ (b ≤ a ∧ a ≤ c) := fun q => absurd q.1 (Int64.not_le.mpr h1)
    simp [h1, this, gd]
  · by_cases h2 : c < a
    · have : ¬ (b ≤ a ∧ a ≤ c) := fun q => absurd q.2 (Int64.not_le.mpr h2)
      simp [h1, h2, this, gd]
    · simp [h1, h2, Int64.not_lt.mp h1, Int64.not_lt.mp h2, gd]
/-- what a row's at answers -/
theorem s_at {h : Hp} {E : Ev} {T t j r n i : Nat} {a : Nat → Nat} {R : Nat} (hR : kC h R = 2) (hl : kR h 100 R = r) (L : Lst h E T t j r n a) (hi : i < n) (ha : isN (kC h (a i))) : f_X2_at R (Int32.ofNat i) h = some (.inl (a i), h) := by
  obtain ⟨-, e, q, A, -, -⟩ := L
  have hb := A.b
  have h1 := idx_in (n := n) (by omega) hi
  have z1 : ¬ ((1 : Int32) = 0) := by decide
  simp only [f_X2_at, gd, bd, hR, hl, A.c, if_true, s_size A, s_isIn, h1, and_self, f_X1_requireIndex, z1, if_false, s_get A hi, if_pos ha]
theorem s_atX {h : Hp} {E : Ev} {T t j r n : Nat} {x : Int32} {a : Nat → Nat} {R : Nat} (hR : kC h R = 2) (hl : kR h 100 R = r) (L : Lst h E T t j r n a) (hx : ¬ ((0 : Int64) ≤ x.toInt64 ∧ x.toInt64 ≤ (Int32.ofNat n - 1).toInt64)) (r1 : kz h + 1 ≤ kza h) (r2 : ks h + 6 ≤ ksa h) : f_X2_at R x h = some (.inr (901, kz h + 1), bN h 6) := by
  obtain ⟨-, e, q, A, -, -⟩ := L
  simp only [f_X2_at, gd, bd, hR, hl, A.c, if_true, s_size A, s_isIn, if_neg hx, f_X1_requireIndex, th, r1, r2, and_self]
theorem s_isPerson {h : Hp} {E : Ev} {A : AS} (H : RM h E A) (x : Int32) : f_X4_isPerson E.m x h = some (.inl (if (0 : Int64) ≤ x.toInt64 ∧ x.toInt64 ≤ (Int32.ofNat A.np - 1).toInt64 then 1 else 0), h) := by
  obtain ⟨-, e, q, L, -, -⟩ := H.x.lp
  simp only [f_X4_isPerson, gd, bd, H.x.x.1, H.x.lr.1, L.c, if_true, s_size L, s_isWithin]
  split <;> simp
theorem s_isGood {h : Hp} {E : Ev} {A : AS} (H : RM h E A) {x y : Int32} (hx : b01 x) : f_X4_isGood E.m x y h = some (.inl x, sI h 300 E.m (if x = 0 then y else 0)) := by
  simp only [f_X4_isGood, f_X4_isGood_10, gd, vl, H.x.x.1, if_true, hx]
  split <;> rfl
theorem s_stage {h : Hp} {E : Ev} {A : AS} (H : RS h E A) : f_X1_stage E.x h = some (.inl A.stage, h) := by
  unfold AS.stage
  cases hd : A.dl with
  | false => simp [f_X1_stage, f_X1_stage_18, gd, H.x.x.1, H.x.deal.1 hd]
  | true =>
    obtain ⟨d1, d2, d3⟩ := H.x.deal.2 hd
    have hn : E.deal ≠ 0 := by
      intro z
      have := d2.1
      rw [z, H.w.c0] at this; cases this
    simp [f_X1_stage, f_X1_stage_18, gd, H.x.x.1, d1, hn, d2.1, d3 903 (by decide)]
def AS.done (A : AS) : Bool := decide (A.stage = 3 ∨ A.stage = 5)
theorem s_isDone {h : Hp} {E : Ev} {A : AS} (H : RS h E A) : f_X1_isDone E.x h = some (.inl (if A.done then 1 else 0), h) := by
  unfold AS.done
  simp only [f_X1_isDone, f_X1_isDone_16, f_X1_isDone_21, gd, bd, H.x.x.1, if_true, s_stage H]
  by_cases h3 : A.stage = 3
  · simp [h3]
  · by_cases h5 : A.stage = 5
    · simp [h5]
    · simp [h3, h5]
theorem s_isOver {h : Hp} {E : Ev} {A : AS} (H : RM h E A) (hs : A.I 309 0 = A.stage) : f_X4_isOver E.m h = some (.inl (if A.done then 1 else 0), h) := by
  have e : kI h 309 E.m = A.stage := (H.x.i (309, 309) (by decide)).trans hs
  unfold AS.done
  simp only [f_X4_isOver, f_X4_isOver_16, f_X4_isOver_21, gd, H.x.x.1, if_true, e]
  by_cases h3 : A.stage = 3
  · simp [h3]
  · by_cases h5 : A.stage = 5
    · simp [h5]
    · simp [h3, h5]
theorem s_persons {h : Hp} {E : Ev} {A : AS} (H : RS h E A) : kR h 0 E.x = E.row 0 ∧ kC h (E.row 0) = 2 ∧ kR h 100 (E.row 0) = E.rl 0 := by
  obtain ⟨a, b, c, d⟩ := H.x.row 0 (by decide)
  exact ⟨a, b.1, d⟩
theorem s_pat {h : Hp} {E : Ev} {A : AS} (H : RS h E A) {i : Nat} (hi : i < A.np) : f_X2_at (E.row 0) (Int32.ofNat i) h = some (.inl (E.sp i), h) := by
  obtain ⟨a, b, d⟩ := s_persons H
  exact s_at b d H.x.lp hi (Or.inl (H.p i hi).c.1)
end P7

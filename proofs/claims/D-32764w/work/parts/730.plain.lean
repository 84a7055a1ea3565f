section P30
theorem i_neg_msb (x : Int32) : x < 0 ↔ x.toBitVec.msb = true := by
  rw [Int32.lt_iff_toInt_lt]
  show x.toBitVec.toInt < 0 ↔ _
  rw [BitVec.msb_eq_toInt]
  simp
theorem s_floorDiv {x : Int32} {h : Hp} (hx : ¬ x < 0) : f_J10_floorDiv x 360 h = some (.inl (x / 360), h) := by
  have h1 : (0 : Int32) ≤ x ^^^ 360 := by
    rw [← Int32.not_lt, i_neg_msb]
    rw [i_neg_msb] at hx
    simp at hx
    simp [hx]
    decide
  have z : ¬ ((360 : Int32) = 0) := by decide
  simp only [f_J10_floorDiv, f_J10_floorDiv_21, gd, vl, z, not_false_iff, if_true, if_pos h1]
end P30

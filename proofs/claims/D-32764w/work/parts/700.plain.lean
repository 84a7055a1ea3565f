section P0
theorem i_toInt {n : Nat} (h : n < 2147483648) : (Int32.ofNat n).toInt = (n : Int) := Int32.toInt_ofNat_of_lt h
theorem i_inj {a b : Nat} (ha : a < 2147483648) (hb : b < 2147483648) : (Int32.ofNat a = Int32.ofNat b) ↔ a = b := by
  rw [← Int32.toInt_inj, i_toInt ha, i_toInt hb]; omega
theorem i_lt {a b : Nat} (ha : a < 2147483648) (hb : b < 2147483648) : (Int32.ofNat a < Int32.ofNat b) ↔ a < b := by
  rw [Int32.lt_iff_toInt_lt, i_toInt ha, i_toInt hb]; omega
theorem i_le {a b : Nat} (ha : a < 2147483648) (hb : b < 2147483648) : (Int32.ofNat a ≤ Int32.ofNat b) ↔ a ≤ b := by
  rw [Int32.le_iff_toInt_le, i_toInt ha, i_toInt hb]; omega
theorem i_nonneg {a : Nat} (ha : a < 2147483648) : ¬ (Int32.ofNat a < 0) := by
  rw [Int32.lt_iff_toInt_lt, i_toInt ha]; simp
theorem i_clamp {a : Nat} (ha : a < 2147483648) : (Int32.ofNat a).toNatClampNeg = a := by
  show (Int32.ofNat a).toInt.toNat = a
  rw [i_toInt ha]; rfl
theorem i_succ (a : Nat) : Int32.ofNat a + 1 = Int32.ofNat (a + 1) := by
  rw [← Int32.toInt_inj]
  simp [Int32.ofNat_add]
theorem i_shr : ∀ q, q < 1000 → (Int32.ofNat q >>> ((1 : Int32) &&& 31)) = Int32.ofNat (q / 2) := by decide +kernel
/-- a heap whose classes all lie below its end -/
abbrev WB (h : Hp) : Prop := (∀ n, kC h n ≠ 0 → n ≤ kz h) ∧ (kE h ≤ kz h) ∧ (kC h (kE h) = 0) ∧ (kN h (kE h) = 0) ∧ (kC h 0 = 0)
theorem WB.c {h : Hp} (H_ : WB h) : ∀ n, kC h n ≠ 0 → n ≤ kz h := H_.1
theorem WB.e {h : Hp} (H_ : WB h) : kE h ≤ kz h := H_.2.1
theorem WB.ec {h : Hp} (H_ : WB h) : kC h (kE h) = 0 := H_.2.2.1
theorem WB.en {h : Hp} (H_ : WB h) : kN h (kE h) = 0 := H_.2.2.2.1
theorem WB.c0 {h : Hp} (H_ : WB h) : kC h 0 = 0 := H_.2.2.2.2
/-- what is kept from h to h1: all but the refs of S, the new ones aside; at most c cells and s slots more -/
abbrev Kp (S : Nat → Prop) (c s : Nat) (h h1 : Hp) : Prop := (kz h ≤ kz h1) ∧ (kz h1 ≤ kz h + c) ∧ (ks h1 ≤ ks h + s) ∧ (kza h1 = kza h) ∧ (ksa h1 = ksa h) ∧ (kE h1 = kE h) ∧ (kM h1 = kM h) ∧ (WB h → WB h1) ∧ (∀ n, n ≤ kz h → kC h1 n = kC h n) ∧ (∀ n, n ≤ kz h → kN h1 n = kN h n) ∧ (∀ f n, n ≤ kz h → ¬ S n → kI h1 f n = kI h f n) ∧ (∀ f n, n ≤ kz h → ¬ S n → kL h1 f n = kL h f n) ∧ (∀ f n, n ≤ kz h → ¬ S n → kR h1 f n = kR h f n) ∧ (∀ n j, n ≤ kz h → ¬ S n → jI h1 n j = jI h n j) ∧ (∀ n j, n ≤ kz h → ¬ S n → jL h1 n j = jL h n j) ∧ (∀ n j, n ≤ kz h → ¬ S n → jR h1 n j = jR h n j)
theorem Kp.z {S : Nat → Prop} {c s : Nat} {h h1 : Hp} (H_ : Kp S c s h h1) : kz h ≤ kz h1 := H_.1
theorem Kp.z2 {S : Nat → Prop} {c s : Nat} {h h1 : Hp} (H_ : Kp S c s h h1) : kz h1 ≤ kz h + c := H_.2.1
theorem Kp.s2 {S : Nat → Prop} {c s : Nat} {h h1 : Hp} (H_ : Kp S c s h h1) : ks h1 ≤ ks h + s := H_.2.2.1
theorem Kp.za {S : Nat → Prop} {c s : Nat} {h h1 : Hp} (H_ : Kp S c s h h1) : kza h1 = kza h := H_.2.2.2.1
theorem Kp.sa {S : Nat → Prop} {c s : Nat} {h h1 : Hp} (H_ : Kp S c s h h1) : ksa h1 = ksa h := H_.2.2.2.2.1
theorem Kp.e {S : Nat → Prop} {c s : Nat} {h h1 : Hp} (H_ : Kp S c s h h1) : kE h1 = kE h := H_.2.2.2.2.2.1
theorem Kp.m {S : Nat → Prop} {c s : Nat} {h h1 : Hp} (H_ : Kp S c s h h1) : kM h1 = kM h := H_.2.2.2.2.2.2.1
theorem Kp.w {S : Nat → Prop} {c s : Nat} {h h1 : Hp} (H_ : Kp S c s h h1) : WB h → WB h1 := H_.2.2.2.2.2.2.2.1
theorem Kp.C {S : Nat → Prop} {c s : Nat} {h h1 : Hp} (H_ : Kp S c s h h1) : ∀ n, n ≤ kz h → kC h1 n = kC h n := H_.2.2.2.2.2.2.2.2.1
theorem Kp.N {S : Nat → Prop} {c s : Nat} {h h1 : Hp} (H_ : Kp S c s h h1) : ∀ n, n ≤ kz h → kN h1 n = kN h n := H_.2.2.2.2.2.2.2.2.2.1
theorem Kp.I {S : Nat → Prop} {c s : Nat} {h h1 : Hp} (H_ : Kp S c s h h1) : ∀ f n, n ≤ kz h → ¬ S n → kI h1 f n = kI h f n := H_.2.2.2.2.2.2.2.2.2.2.1
theorem Kp.L {S : Nat → Prop} {c s : Nat} {h h1 : Hp} (H_ : Kp S c s h h1) : ∀ f n, n ≤ kz h → ¬ S n → kL h1 f n = kL h f n := H_.2.2.2.2.2.2.2.2.2.2.2.1
theorem Kp.R {S : Nat → Prop} {c s : Nat} {h h1 : Hp} (H_ : Kp S c s h h1) : ∀ f n, n ≤ kz h → ¬ S n → kR h1 f n = kR h f n := H_.2.2.2.2.2.2.2.2.2.2.2.2.1
theorem Kp.aI {S : Nat → Prop} {c s : Nat} {h h1 : Hp} (H_ : Kp S c s h h1) : ∀ n j, n ≤ kz h → ¬ S n → jI h1 n j = jI h n j := H_.2.2.2.2.2.2.2.2.2.2.2.2.2.1
theorem Kp.aL {S : Nat → Prop} {c s : Nat} {h h1 : Hp} (H_ : Kp S c s h h1) : ∀ n j, n ≤ kz h → ¬ S n → jL h1 n j = jL h n j := H_.2.2.2.2.2.2.2.2.2.2.2.2.2.2.1
theorem Kp.aR {S : Nat → Prop} {c s : Nat} {h h1 : Hp} (H_ : Kp S c s h h1) : ∀ n j, n ≤ kz h → ¬ S n → jR h1 n j = jR h n j := H_.2.2.2.2.2.2.2.2.2.2.2.2.2.2.2
abbrev no : Nat → Prop := fun _ => False
theorem Kp.refl (S : Nat → Prop) (h : Hp) : Kp S 0 0 h h := ⟨Nat.le_refl _, Nat.le_refl _, Nat.le_refl _, rfl, rfl, rfl, rfl, id, fun _ _ => rfl, fun _ _ => rfl, fun _ _ _ _ => rfl, fun _ _ _ _ => rfl, fun _ _ _ _ => rfl, fun _ _ _ _ => rfl, fun _ _ _ _ => rfl, fun _ _ _ _ => rfl⟩
theorem Kp.trans {S T : Nat → Prop} {c s c1 s1 : Nat} {h h1 h2 : Hp} (k : Kp S c s h h1) (k1 : Kp T c1 s1 h1 h2) (hT : ∀ n, n ≤ kz h → T n → S n) : Kp S (c + c1) (s + s1) h h2 :=
  ⟨(Nat.le_trans k.z k1.z),
  (by have := k.z2; have := k1.z2; omega),
  (by have := k.s2; have := k1.s2; omega),
  (k1.za.trans k.za),
  (k1.sa.trans k.sa),
  (k1.e.trans k.e),
  (k1.m.trans k.m),
  (fun w => k1.w (k.w w)),
  (fun n hn => (k1.C n (Nat.le_trans hn k.z)).trans (k.C n hn)),
  (fun n hn => (k1.N n (Nat.le_trans hn k.z)).trans (k.N n hn)),
  (fun f n hn hs => (k1.I f n (Nat.le_trans hn k.z) (fun t => hs (hT n hn t))).trans (k.I f n hn hs)),
  (fun f n hn hs => (k1.L f n (Nat.le_trans hn k.z) (fun t => hs (hT n hn t))).trans (k.L f n hn hs)),
  (fun f n hn hs => (k1.R f n (Nat.le_trans hn k.z) (fun t => hs (hT n hn t))).trans (k.R f n hn hs)),
  (fun n j hn hs => (k1.aI n j (Nat.le_trans hn k.z) (fun t => hs (hT n hn t))).trans (k.aI n j hn hs)),
  (fun n j hn hs => (k1.aL n j (Nat.le_trans hn k.z) (fun t => hs (hT n hn t))).trans (k.aL n j hn hs)),
  (fun n j hn hs => (k1.aR n j (Nat.le_trans hn k.z) (fun t => hs (hT n hn t))).trans (k.aR n j hn hs))⟩
theorem Kp.weak {S T : Nat → Prop} {c s c1 s1 : Nat} {h h1 : Hp} (k : Kp S c s h h1) (hS : ∀ n, n ≤ kz h → S n → T n) (hc : c ≤ c1) (hs : s ≤ s1) : Kp T c1 s1 h h1 :=
  ⟨(k.z),
  (by have := k.z2; omega),
  (by have := k.s2; omega),
  (k.za),
  (k.sa),
  (k.e),
  (k.m),
  (k.w),
  (k.C),
  (k.N),
  (fun f n hn t => k.I f n hn (fun q => t (hS n hn q))),
  (fun f n hn t => k.L f n hn (fun q => t (hS n hn q))),
  (fun f n hn t => k.R f n hn (fun q => t (hS n hn q))),
  (fun n j hn t => k.aI n j hn (fun q => t (hS n hn q))),
  (fun n j hn t => k.aL n j hn (fun q => t (hS n hn q))),
  (fun n j hn t => k.aR n j hn (fun q => t (hS n hn q)))⟩
theorem Kp.to {S T : Nat → Prop} {c s : Nat} {h h1 : Hp} (k : Kp S c s h h1) (hS : ∀ n, S n → T n) : Kp T c s h h1 := k.weak (fun n _ => hS n) (Nat.le_refl _) (Nat.le_refl _)
theorem Kp.seq {S : Nat → Prop} {c s c1 s1 : Nat} {h h1 h2 : Hp} (k : Kp S c s h h1) (k1 : Kp S c1 s1 h1 h2) : Kp S (c + c1) (s + s1) h h2 := k.trans k1 (fun _ _ q => q)
theorem Kp.le {S : Nat → Prop} {c s c1 s1 : Nat} {h h1 : Hp} (k : Kp S c s h h1) (hc : c ≤ c1) (hs : s ≤ s1) : Kp S c1 s1 h h1 := k.weak (fun _ _ q => q) hc hs
theorem Kp.sI (h : Hp) (f n : Nat) (v : Int32) : Kp (fun m => m = n) 0 0 h (sI h f n v) := by (refine ⟨?_, ?_, ?_, ?_, ?_, ?_, ?_, ?_, ?_, ?_, ?_, ?_, ?_, ?_, ?_, ?_⟩ <;> first | exact Nat.le_refl _ | rfl | (intro w; exact ⟨w.c, w.e, w.ec, w.en, w.c0⟩) | (intros; rfl) | (intros; (first | simp only [kI_sI, kL_sL, kR_sR, jI_tI, jL_tL, jR_tR, jR_cR]); rw [if_neg]; intro q; first | exact absurd q.2 ‹_› | exact absurd q.1 ‹_›))
theorem Kp.sL (h : Hp) (f n : Nat) (v : Int64) : Kp (fun m => m = n) 0 0 h (sL h f n v) := by (refine ⟨?_, ?_, ?_, ?_, ?_, ?_, ?_, ?_, ?_, ?_, ?_, ?_, ?_, ?_, ?_, ?_⟩ <;> first | exact Nat.le_refl _ | rfl | (intro w; exact ⟨w.c, w.e, w.ec, w.en, w.c0⟩) | (intros; rfl) | (intros; (first | simp only [kI_sI, kL_sL, kR_sR, jI_tI, jL_tL, jR_tR, jR_cR]); rw [if_neg]; intro q; first | exact absurd q.2 ‹_› | exact absurd q.1 ‹_›))
theorem Kp.sR (h : Hp) (f n v : Nat) : Kp (fun m => m = n) 0 0 h (sR h f n v) := by (refine ⟨?_, ?_, ?_, ?_, ?_, ?_, ?_, ?_, ?_, ?_, ?_, ?_, ?_, ?_, ?_, ?_⟩ <;> first | exact Nat.le_refl _ | rfl | (intro w; exact ⟨w.c, w.e, w.ec, w.en, w.c0⟩) | (intros; rfl) | (intros; (first | simp only [kI_sI, kL_sL, kR_sR, jI_tI, jL_tL, jR_tR, jR_cR]); rw [if_neg]; intro q; first | exact absurd q.2 ‹_› | exact absurd q.1 ‹_›))
theorem Kp.tI (h : Hp) (n i : Nat) (v : Int32) : Kp (fun m => m = n) 0 0 h (tI h n i v) := by (refine ⟨?_, ?_, ?_, ?_, ?_, ?_, ?_, ?_, ?_, ?_, ?_, ?_, ?_, ?_, ?_, ?_⟩ <;> first | exact Nat.le_refl _ | rfl | (intro w; exact ⟨w.c, w.e, w.ec, w.en, w.c0⟩) | (intros; rfl) | (intros; (first | simp only [kI_sI, kL_sL, kR_sR, jI_tI, jL_tL, jR_tR, jR_cR]); rw [if_neg]; intro q; first | exact absurd q.2 ‹_› | exact absurd q.1 ‹_›))
theorem Kp.tL (h : Hp) (n i : Nat) (v : Int64) : Kp (fun m => m = n) 0 0 h (tL h n i v) := by (refine ⟨?_, ?_, ?_, ?_, ?_, ?_, ?_, ?_, ?_, ?_, ?_, ?_, ?_, ?_, ?_, ?_⟩ <;> first | exact Nat.le_refl _ | rfl | (intro w; exact ⟨w.c, w.e, w.ec, w.en, w.c0⟩) | (intros; rfl) | (intros; (first | simp only [kI_sI, kL_sL, kR_sR, jI_tI, jL_tL, jR_tR, jR_cR]); rw [if_neg]; intro q; first | exact absurd q.2 ‹_› | exact absurd q.1 ‹_›))
theorem Kp.tR (h : Hp) (n i v : Nat) : Kp (fun m => m = n) 0 0 h (tR h n i v) := by (refine ⟨?_, ?_, ?_, ?_, ?_, ?_, ?_, ?_, ?_, ?_, ?_, ?_, ?_, ?_, ?_, ?_⟩ <;> first | exact Nat.le_refl _ | rfl | (intro w; exact ⟨w.c, w.e, w.ec, w.en, w.c0⟩) | (intros; rfl) | (intros; (first | simp only [kI_sI, kL_sL, kR_sR, jI_tI, jL_tL, jR_tR, jR_cR]); rw [if_neg]; intro q; first | exact absurd q.2 ‹_› | exact absurd q.1 ‹_›))
theorem Kp.cR (h : Hp) (a sp b dp n : Nat) : Kp (fun m => m = b) 0 0 h (cR h a sp b dp n) := by (refine ⟨?_, ?_, ?_, ?_, ?_, ?_, ?_, ?_, ?_, ?_, ?_, ?_, ?_, ?_, ?_, ?_⟩ <;> first | exact Nat.le_refl _ | rfl | (intro w; exact ⟨w.c, w.e, w.ec, w.en, w.c0⟩) | (intros; rfl) | (intros; (first | simp only [kI_sI, kL_sL, kR_sR, jI_tI, jL_tL, jR_tR, jR_cR]); rw [if_neg]; intro q; first | exact absurd q.2 ‹_› | exact absurd q.1 ‹_›))
theorem Kp.oN (h : Hp) (c N : Nat) : Kp no 1 N h (oN h c N) :=
  ⟨Nat.le_succ _, Nat.le_refl _, Nat.le_refl _, rfl, rfl, rfl, rfl,
    fun w => ⟨fun n hn => by
        by_cases q : n = kz h + 1
        · rw [q]; exact Nat.le_refl _
        · rw [kC_oN, if_neg q] at hn; exact Nat.le_succ_of_le (w.c n hn),
      Nat.le_succ_of_le w.e, by rw [kC_oN, if_neg (by have := w.e; show ¬ kE h = _; omega)]; exact w.ec, w.en, by rw [kC_oN, if_neg (by omega)]; exact w.c0⟩,
    fun n hn => by rw [kC_oN, if_neg (by omega)], fun n hn => rfl, fun f n hn _ => by rw [kI_oN, if_neg (by omega)], fun f n hn _ => by rw [kL_oN, if_neg (by omega)], fun f n hn _ => by rw [kR_oN, if_neg (by omega)], fun n j hn _ => rfl, fun n j hn _ => rfl, fun n j hn _ => rfl⟩
theorem Kp.aN (h : Hp) (c N : Nat) : Kp no 1 N h (aN h c N) :=
  ⟨Nat.le_succ _, Nat.le_refl _, Nat.le_refl _, rfl, rfl, rfl, rfl,
    fun w => ⟨fun n hn => by
        by_cases q : n = kz h + 1
        · rw [q]; exact Nat.le_refl _
        · rw [kC_aN, if_neg q] at hn; exact Nat.le_succ_of_le (w.c n hn),
      Nat.le_succ_of_le w.e, by rw [kC_aN, if_neg (by have := w.e; show ¬ kE h = _; omega)]; exact w.ec, by rw [kN_aN, if_neg (by have := w.e; show ¬ kE h = _; omega)]; exact w.en, by rw [kC_aN, if_neg (by omega)]; exact w.c0⟩,
    fun n hn => by rw [kC_aN, if_neg (by omega)], fun n hn => by rw [kN_aN, if_neg (by omega)], fun f n hn _ => rfl, fun f n hn _ => rfl, fun f n hn _ => rfl, fun n j hn _ => by rw [jI_aN, if_neg (by omega)], fun n j hn _ => by rw [jL_aN, if_neg (by omega)], fun n j hn _ => by rw [jR_aN, if_neg (by omega)]⟩
theorem Kp.bN (h : Hp) (N : Nat) : Kp no 1 N h (bN h N) :=
  ⟨Nat.le_succ _, Nat.le_refl _, Nat.le_refl _, rfl, rfl, rfl, rfl, fun w => ⟨fun n hn => Nat.le_succ_of_le (w.c n hn), Nat.le_succ_of_le w.e, w.ec, w.en, w.c0⟩,
    fun n hn => rfl, fun n hn => rfl, fun f n hn _ => rfl, fun f n hn _ => rfl, fun f n hn _ => rfl, fun n j hn _ => rfl, fun n j hn _ => rfl, fun n j hn _ => rfl⟩
end P0

section P0
theorem i_toInt {n : Nat} (h : n < 2147483648) : (Int32.ofNat n).toInt = (n : Int) := Int32.toInt_ofNat_of_lt h
theorem i_inj {a b : Nat} (ha : a < 2147483648) (hb : b < 2147483648) : (Int32.ofNat a = Int32.ofNat b) ↔ a = b := by
  rw [← Int32.toInt_inj, i_toInt ha, i_toInt hb]; omega
theorem i_lt {a b : Nat} (ha : a < 2147483648) (hb : b < 2147483648) : (Int32.ofNat a < Int32.ofNat b) ↔ a < b := by
  rw [Int32.lt_iff_toInt_lt, i_toInt ha, i_toInt hb]; omega
theorem i_le {a b : Nat} (ha : a < 2147483648) (hb : b < 2147483648) : (Int32.ofNat a ≤ Int32.ofNat b) ↔ a ≤ b := by
  rw [Int32.le_iff_toInt_le, i_toInt ha, i_toInt hb]; omega
theorem i_nonneg {a : Nat} (ha : a < 2147483648) : ¬ (Int32.ofNat a < 0) := by
  rw [Int32.lt_iff_toInt_lt, i_toInt ha]; simp
theorem i_clamp {a : Nat} (ha : a < 2147483648) : (Int32.ofNat a).toNatClampNeg = a := by
  show (Int32.ofNat a).toInt.toNat = a
  rw [i_toInt ha]; rfl
theorem i_succ (a : Nat) : Int32.ofNat a + 1 = Int32.ofNat (a + 1) := by
  rw [← Int32.toInt_inj]
  simp [Int32.ofNat_add]
theorem i_shr : ∀ q, q < 1000 → (Int32.ofNat q >>> ((1 : Int32) &&& 31)) = Int32.ofNat (q / 2) := by decide +kernel
/-- a heap whose classes all lie below its end -/
structure WB (h : Hp) : Prop where
  c : ∀ n, kC h n ≠ 0 → n ≤ kz h
  e : kE h ≤ kz h
  ec : kC h (kE h) = 0
  en : kN h (kE h) = 0
  c0 : kC h 0 = 0
/-- what is kept from h to h1: all but the refs of S, the new ones aside; at most c cells and s slots more -/
structure Kp (S : Nat → Prop) (c s : Nat) (h h1 : Hp) : Prop where
  z : kz h ≤ kz h1
  z2 : kz h1 ≤ kz h + c
  s2 : ks h1 ≤ ks h + s
  za : kza h1 = kza h
  sa : ksa h1 = ksa h
  e : kE h1 = kE h
  m : kM h1 = kM h
  w : WB h → WB h1
  C : ∀ n, n ≤ kz h → kC h1 n = kC h n
  N : ∀ n, n ≤ kz h → kN h1 n = kN h n
  I : ∀ f n, n ≤ kz h → ¬ S n → kI h1 f n = kI h f n
  L : ∀ f n, n ≤ kz h → ¬ S n → kL h1 f n = kL h f n
  R : ∀ f n, n ≤ kz h → ¬ S n → kR h1 f n = kR h f n
  aI : ∀ n j, n ≤ kz h → ¬ S n → jI h1 n j = jI h n j
  aL : ∀ n j, n ≤ kz h → ¬ S n → jL h1 n j = jL h n j
  aR : ∀ n j, n ≤ kz h → ¬ S n → jR h1 n j = jR h n j
abbrev no : Nat → Prop := fun _ => False
theorem Kp.refl (S : Nat → Prop) (h : Hp) : Kp S 0 0 h h := ⟨Nat.le_refl _, Nat.le_refl _, Nat.le_refl _, rfl, rfl, rfl, rfl, id, fun _ _ => rfl, fun _ _ => rfl, fun _ _ _ _ => rfl, fun _ _ _ _ => rfl, fun _ _ _ _ => rfl, fun _ _ _ _ => rfl, fun _ _ _ _ => rfl, fun _ _ _ _ => rfl⟩
theorem Kp.trans {S T : Nat → Prop} {c s c1 s1 : Nat} {h h1 h2 : Hp} (k : Kp S c s h h1) (k1 : Kp T c1 s1 h1 h2) (hT : ∀ n, n ≤ kz h → T n → S n) : Kp S (c + c1) (s + s1) h h2 where
  z := Nat.le_trans k.z k1.z
  z2 := by have := k.z2; have := k1.z2; omega
  s2 := by have := k.s2; have := k1.s2; omega
  za := k1.za.trans k.za
  sa := k1.sa.trans k.sa
  e := k1.e.trans k.e
  m := k1.m.trans k.m
  w := fun w => k1.w (k.w w)
  C := fun n hn => (k1.C n (Nat.le_trans hn k.z)).trans (k.C n hn)
  N := fun n hn => (k1.N n (Nat.le_trans hn k.z)).trans (k.N n hn)
  I := fun f n hn hs => (k1.I f n (Nat.le_trans hn k.z) (fun t => hs (hT n hn t))).trans (k.I f n hn hs)
  L := fun f n hn hs => (k1.L f n (Nat.le_trans hn k.z) (fun t => hs (hT n hn t))).trans (k.L f n hn hs)
  R := fun f n hn hs => (k1.R f n (Nat.le_trans hn k.z) (fun t => hs (hT n hn t))).trans (k.R f n hn hs)
  aI := fun n j hn hs => (k1.aI n j (Nat.le_trans hn k.z) (fun t => hs (hT n hn t))).trans (k.aI n j hn hs)
  aL := fun n j hn hs => (k1.aL n j (Nat.le_trans hn k.z) (fun t => hs (hT n hn t))).trans (k.aL n j hn hs)
  aR := fun n j hn hs => (k1.aR n j (Nat.le_trans hn k.z) (fun t => hs (hT n hn t))).trans (k.aR n j hn hs)
theorem Kp.weak {S T : Nat → Prop} {c s c1 s1 : Nat} {h h1 : Hp} (k : Kp S c s h h1) (hS : ∀ n, n ≤ kz h → S n → T n) (hc : c ≤ c1) (hs : s ≤ s1) : Kp T c1 s1 h h1 where
  z := k.z
  z2 := by have := k.z2; omega
  s2 := by have := k.s2; omega
  za := k.za
  sa := k.sa
  e := k.e
  m := k.m
  w := k.w
  C := k.C
  N := k.N
  I := fun f n hn t => k.I f n hn (fun q => t (hS n hn q))
  L := fun f n hn t => k.L f n hn (fun q => t (hS n hn q))
  R := fun f n hn t => k.R f n hn (fun q => t (hS n hn q))
  aI := fun n j hn t => k.aI n j hn (fun q => t (hS n hn q))
  aL := fun n j hn t => k.aL n j hn (fun q => t (hS n hn q))
  aR := fun n j hn t => k.aR n j hn (fun q => t (hS n hn q))
theorem Kp.to {S T : Nat → Prop} {c s : Nat} {h h1 : Hp} (k : Kp S c s h h1) (hS : ∀ n, S n → T n) : Kp T c s h h1 := k.weak (fun n _ => hS n) (Nat.le_refl _) (Nat.le_refl _)
theorem Kp.seq {S : Nat → Prop} {c s c1 s1 : Nat} {h h1 h2 : Hp} (k : Kp S c s h h1) (k1 : Kp S c1 s1 h1 h2) : Kp S (c + c1) (s + s1) h h2 := k.trans k1 (fun _ _ q => q)
theorem Kp.le {S : Nat → Prop} {c s c1 s1 : Nat} {h h1 : Hp} (k : Kp S c s h h1) (hc : c ≤ c1) (hs : s ≤ s1) : Kp S c1 s1 h h1 := k.weak (fun _ _ q => q) hc hs
macro "kp_set" : tactic => `(tactic| (constructor <;> first | exact Nat.le_refl _ | rfl | (intro w; exact ⟨w.c, w.e, w.ec, w.en, w.c0⟩) | (intros; rfl) | (intros; (first | simp only [kI_sI, kL_sL, kR_sR, jI_tI, jL_tL, jR_tR, jR_cR]); rw [if_neg]; intro q; first | exact absurd q.2 ‹_› | exact absurd q.1 ‹_›)))
theorem Kp.sI (h : Hp) (f n : Nat) (v : Int32) : Kp (fun m => m = n) 0 0 h (sI h f n v) := by kp_set
theorem Kp.sL (h : Hp) (f n : Nat) (v : Int64) : Kp (fun m => m = n) 0 0 h (sL h f n v) := by kp_set
theorem Kp.sR (h : Hp) (f n v : Nat) : Kp (fun m => m = n) 0 0 h (sR h f n v) := by kp_set
theorem Kp.tI (h : Hp) (n i : Nat) (v : Int32) : Kp (fun m => m = n) 0 0 h (tI h n i v) := by kp_set
theorem Kp.tL (h : Hp) (n i : Nat) (v : Int64) : Kp (fun m => m = n) 0 0 h (tL h n i v) := by kp_set
theorem Kp.tR (h : Hp) (n i v : Nat) : Kp (fun m => m = n) 0 0 h (tR h n i v) := by kp_set
theorem Kp.cR (h : Hp) (a sp b dp n : Nat) : Kp (fun m => m = b) 0 0 h (cR h a sp b dp n) := by kp_set
macro "kp_new" : tactic => `(tactic| (constructor <;> first | exact Nat.le_succ _ | exact Nat.le_refl _ | rfl | (intro w; constructor <;> first | (intro n hn; simp only [kC_oN, kC_aN, kC_bN, kz_oN, kz_aN, kz_bN] at *; by_cases q : n = kz ‹Hp› + 1 <;> simp_all <;> have := w.c n <;> simp_all <;> omega) | (have := w.e; have := w.ec; have := w.en; have := w.c0; simp only [kC_oN, kC_aN, kC_bN, kz_oN, kz_aN, kz_bN, kE_oN, kE_aN, kE_bN, kN_oN, kN_aN, kN_bN] at *; first | omega | (rw [if_neg (by omega)]; assumption) | assumption)) | (intros; (first | rfl | (simp only [kC_oN, kC_aN, kN_oN, kN_aN, kI_oN, kL_oN, kR_oN, kI_aN, kL_aN, kR_aN, jI_aN, jL_aN, jR_aN, jI_oN, jL_oN, jR_oN]; rw [if_neg (by omega)])))))
theorem Kp.oN (h : Hp) (c N : Nat) : Kp no 1 N h (oN h c N) := by kp_new
theorem Kp.aN (h : Hp) (c N : Nat) : Kp no 1 N h (aN h c N) := by kp_new
theorem Kp.bN (h : Hp) (N : Nat) : Kp no 1 N h (bN h N) := by kp_new
end P0

section P8
/-- the model's own couplings; the flags are 0 or 1 -/
abbrev MI (A : AS) : Prop := (A.I 303 0 = if A.I 10 0 = 0 then 0 else 1) ∧ (A.I 10 0 ≠ 0 → A.I 304 0 = A.I 10 0 ∧ A.I 305 0 = A.I 11 0 ∧ A.I 306 0 = A.I 12 0) ∧ (A.I 309 0 = A.stage) ∧ (¬ A.I 10 0 < 0) ∧ (∀ F ∈ [408, 409, 411, 412, 414], ∀ k, k < A.np → b01 (A.I F k))
theorem MI.c303 {A : AS} (H_ : MI A) : A.I 303 0 = if A.I 10 0 = 0 then 0 else 1 := H_.1
theorem MI.c304 {A : AS} (H_ : MI A) : A.I 10 0 ≠ 0 → A.I 304 0 = A.I 10 0 ∧ A.I 305 0 = A.I 11 0 ∧ A.I 306 0 = A.I 12 0 := H_.2.1
theorem MI.c309 {A : AS} (H_ : MI A) : A.I 309 0 = A.stage := H_.2.2.1
theorem MI.pos {A : AS} (H_ : MI A) : ¬ A.I 10 0 < 0 := H_.2.2.2.1
theorem MI.bp {A : AS} (H_ : MI A) : ∀ F ∈ [408, 409, 411, 412, 414], ∀ k, k < A.np → b01 (A.I F k) := H_.2.2.2.2
def AS.fits (A : AS) (k : Nat) : Bool := decide (((A.I 10 0 >>> (A.I 403 k &&& 31)) &&& 1) = 1 ∧ ((A.I 11 0 >>> (A.I 402 k &&& 31)) &&& 1) = 1 ∧ ¬ A.I 404 k < A.I 12 0)
def AS.memb (A : AS) (k : Nat) : Bool := decide (¬ A.I 10 0 ≤ 0 ∧ A.fits k = true ∧ A.I 408 k = 0)
theorem AS.fits_pos {A : AS} (M : MI A) {k : Nat} (h : A.fits k) : ¬ A.I 10 0 ≤ 0 := by
  intro z
  have z0 : A.I 10 0 = 0 := by
    rw [← Int32.toInt_inj]
    have a := M.pos
    rw [Int32.lt_iff_toInt_lt] at a
    rw [Int32.le_iff_toInt_le] at z
    simp at *
    omega
  have h1 := (of_decide_eq_true h).1
  rw [z0] at h1
  simp at h1
/-- a loop: where it stands by P -/
theorem loop_gen {β σ : Type} (G : Nat → σ → Hp → Rt β) (P : Nat → σ → Hp → Prop) (fin : σ → Hp → Rt β) (n : Nat)
    (stop : ∀ F s h, P n s h → G (F + 1) s h = fin s h) (step : ∀ F i s h, i < n → P i s h → ∃ s' h', P (i + 1) s' h' ∧ G (F + 1) s h = G F s' h') :
    ∀ i F s h, i ≤ n → n - i < F → P i s h → ∃ s' h', P n s' h' ∧ G F s h = fin s' h' := by
  intro i F
  induction F generalizing i with
  | zero => intro s h _ h2; omega
  | succ F ih =>
    intro s h h1 h2 p
    by_cases z : i = n
    · subst z
      exact ⟨s, h, p, stop F s h p⟩
    · obtain ⟨s1, h1', p1, e1⟩ := step F i s h (by omega) p
      obtain ⟨s2, h2', p2, e2⟩ := ih (i + 1) s1 h1' (by omega) (by omega) p1
      exact ⟨s2, h2', p2, e1.trans e2⟩
section sys
variable {h : Hp} {E : Ev} {A : AS} {k : Nat}
theorem s_fits (H : RS h E A) (hk : k < A.np) : f_X5_fits (E.sp k) h = some (.inl (if A.fits k then 1 else 0), h) := by
  have P := H.p k hk
  simp only [f_X5_fits, f_X5_fits_54, f_X5_fits_55, gd, P.c.1, P.th, H.x.x.1, if_true, P.i 403 (by decide), P.i 402 (by decide), P.i 404 (by decide), H.x.i 10 (by decide), H.x.i 11 (by decide), H.x.i 12 (by decide)]
  unfold AS.fits
  by_cases a : ((A.I 10 0 >>> (A.I 403 k &&& 31)) &&& 1) = 1
  · by_cases b : ((A.I 11 0 >>> (A.I 402 k &&& 31)) &&& 1) = 1
    · by_cases c : A.I 404 k < A.I 12 0 <;> simp [a, b, c, b01]
    · simp [a, b, b01]
  · simp [a, b01]
theorem s_isMember (H : RS h E A) (hk : k < A.np) : f_X5_isMember (E.sp k) h = some (.inl (if A.memb k then 1 else 0), h) := by
  have P := H.p k hk
  simp only [f_X5_isMember, f_X5_isMember_28, f_X5_isMember_29, gd, bd, P.c.1, P.th, H.x.x.1, if_true, s_fits H hk, H.x.i 10 (by decide), P.i 408 (by decide)]
  unfold AS.memb
  by_cases a : A.I 10 0 ≤ 0
  · simp [a, b01]
  · by_cases b : A.fits k
    · by_cases c : A.I 408 k = 0 <;> simp [a, b, c, b01]
    · simp [a, b, b01]
theorem s_mfits (H : RM h E A) (M : MI A) (hk : k < A.np) : f_X4_fits E.m (E.mp k) h = some (.inl (if A.fits k then 1 else 0), h) := by
  have P := H.p k hk
  have e3 : kI h 303 E.m = A.I 303 0 := H.x.i (303, 303) (by decide)
  have e4 : kI h 304 E.m = A.I 304 0 := H.x.i (304, 304) (by decide)
  have e5 : kI h 305 E.m = A.I 305 0 := H.x.i (305, 305) (by decide)
  have e6 : kI h 306 E.m = A.I 306 0 := H.x.i (306, 306) (by decide)
  have p1 : kI h 501 (E.mp k) = A.I 402 k := P.i (501, 402) (by decide)
  have p2 : kI h 502 (E.mp k) = A.I 403 k := P.i (502, 403) (by decide)
  have p3 : kI h 503 (E.mp k) = A.I 404 k := P.i (503, 404) (by decide)
  simp only [f_X4_fits, f_X4_fits_52, f_X4_fits_53, gd, H.x.x.1, P.c.1, if_true, e3, e4, e5, e6, p1, p2, p3, M.c303]
  by_cases z : A.I 10 0 = 0
  · have : ¬ A.fits k := fun q => absurd (AS.fits_pos M q) (by rw [z]; decide)
    simp [z, this, b01]
  · obtain ⟨c1, c2, c3⟩ := M.c304 z
    simp only [z, if_false, c1, c2, c3]
    unfold AS.fits
    by_cases a : ((A.I 10 0 >>> (A.I 403 k &&& 31)) &&& 1) = 1
    · by_cases b : ((A.I 11 0 >>> (A.I 402 k &&& 31)) &&& 1) = 1
      · by_cases c : A.I 404 k < A.I 12 0 <;> simp [a, b, c, b01]
      · simp [a, b, b01]
    · simp [a, b01]
theorem s_mIsIn (H : RM h E A) (M : MI A) (hk : k < A.np) : f_X4_isIn E.m (E.mp k) h = some (.inl (if A.memb k then 1 else 0), h) := by
  have P := H.p k hk
  have p1 : kI h 510 (E.mp k) = A.I 408 k := P.i (510, 408) (by decide)
  simp only [f_X4_isIn, f_X4_isIn_19, f_X4_isIn_20, gd, bd, H.x.x.1, P.c.1, if_true, s_mfits H M hk, p1]
  unfold AS.memb
  by_cases b : A.fits k
  · have a := AS.fits_pos M b
    by_cases c : A.I 408 k = 0 <;> simp [a, b, c, b01]
  · simp [b, b01]
/-- how many -/
def cnt (p : Nat → Bool) (n : Nat) : Int32 := sumI (fun k => if p k then 1 else 0) n
theorem no_off {h1 : Hp} {f : Nat × Nat × Nat → Prop} : off h1 E no f := ⟨fun _ _ z => z.elim, fun z => z⟩
/-- a loop with an iterator: where it stands. h0: where the loop began -/
abbrev Lo (h0 : Hp) (E : Ev) (A : AS) (c s : Nat) (x r i : Nat) (h : Hp) : Prop := (Kp no c s h0 h) ∧ (It h x r i) ∧ (kz h0 < x)
theorem Lo.K {h0 : Hp} {E : Ev} {A : AS} {c s : Nat} {x r i : Nat} {h : Hp} (H_ : Lo h0 E A c s x r i h) : Kp no c s h0 h := H_.1
theorem Lo.it {h0 : Hp} {E : Ev} {A : AS} {c s : Nat} {x r i : Nat} {h : Hp} (H_ : Lo h0 E A c s x r i h) : It h x r i := H_.2.1
theorem Lo.x {h0 : Hp} {E : Ev} {A : AS} {c s : Nat} {x r i : Nat} {h : Hp} (H_ : Lo h0 E A c s x r i h) : kz h0 < x := H_.2.2
theorem Lo.rs {h0 : Hp} {c s x r i : Nat} (H : RS h0 E A) (L : Lo h0 E A c s x r i h) : RS h E A := H.keep L.K no_off
theorem Lo.next {h0 : Hp} {c s x r e q n i : Nat} {a : Nat → Nat} (H : RS h0 E A) (L : Lo h0 E A c s x r i h) (B : AL h r e q n a) (hi : i < n) : ∃ h1, f_J16_next x h = some (.inl (a i), h1) ∧ Lo h0 E A c s x r (i + 1) h1 := by
  obtain ⟨h1, e1, T1, K1⟩ := s_next (L.rs H).w B L.it hi
  exact ⟨h1, e1, (L.K.trans K1 (fun m hm z => absurd z (by have := L.x; omega))), T1, L.x⟩
theorem Lo.keep {h0 h1 : Hp} {c s x r i : Nat} (H : RS h0 E A) (L : Lo h0 E A c s x r i h) {c1 s1 : Nat} (K : Kp no c1 s1 h h1) (hr : r ≤ kz h) : Lo h0 E A (c + c1) (s + s1) x r i h1 :=
  ⟨L.K.trans K (fun _ _ z => z), L.it.keep (L.rs H).w hr K id id, L.x⟩
theorem s_members (H : RS h E A) (r1 : kz h + 1 ≤ kza h) (r2 : ks h + 4 ≤ ksa h) :
    ∃ h1, f_X1_members E.x h = some (.inl (cnt A.memb A.np), h1) ∧ Kp no 1 4 h h1 := by
  obtain ⟨p1, p2, p3⟩ := s_persons H
  obtain ⟨-, e, q, L, -, -⟩ := H.x.lp
  obtain ⟨h2, e2, T2, K2⟩ := s_iter H.w L r1 r2
  have hn := H.x.n.1
  obtain ⟨acc, h1, ⟨La, rfl⟩, e1⟩ := loop_gen (fun F (acc : Int32) h' => f_X1_members_10 F acc (kz h + 1) h') (fun i acc h' => Lo h E A 1 4 (kz h + 1) (E.rl 0) i h' ∧ acc = cnt A.memb i) (fun acc h' => some (.inl acc, h')) A.np
    (fun F acc h' ⟨Lh, _⟩ => by
      simp [f_X1_members_10, gd, bd, Lh.it.c, s_has (L.keep H.w Lh.K id id) Lh.it (Nat.le_refl _)])
    (fun F i acc h' hi ⟨Lh, ha⟩ => by
      have L' := L.keep H.w Lh.K id id
      obtain ⟨h3, e3, Lh3⟩ := Lh.next H L' hi
      have R3 := Lh3.rs H
      refine ⟨_, h3, ⟨Lh3, rfl⟩, ?_⟩
      subst ha
      by_cases z : A.memb i <;> simp [f_X1_members_10, f_X1_members_42, gd, bd, vl, Lh.it.c, s_has L' Lh.it (by omega), Nat.ne_of_lt hi, e3, (R3.p i hi).c.1, s_isMember R3 hi, z, cnt, sumI])
    0 FU 0 h2 (by omega) (by unfold FU; omega) ⟨⟨K2, T2, Nat.lt_succ_self _⟩, rfl⟩
  refine ⟨h1, ?_, La.K⟩
  simp only [f_X1_members, gd, bd, H.x.x.1, p1, p2, p3, if_true, f_X2_iterator, L.c, e2]
  exact e1
theorem s_allIn (H : RM h E A) (M : MI A) : f_X4_allIn E.m h = some (.inl (cnt A.memb A.np), h) := by
  obtain ⟨-, e, q, L, -, -⟩ := H.x.lp
  have hn := H.x.n.1
  obtain ⟨⟨acc, ix⟩, h1, ⟨rfl, rfl, rfl⟩, e1⟩ := loop_gen (fun F (acc : Int32 × Int32) h' => f_X4_allIn_4 F E.m acc.1 acc.2 h') (fun i acc h' => acc.1 = cnt A.memb i ∧ acc.2 = Int32.ofNat i ∧ h' = h) (fun acc h' => some (.inl acc.1, h')) A.np
    (fun F acc h' ⟨a1, a2, a3⟩ => by
      subst a3
      have c9 : Int32.ofNat A.np ≤ acc.2 := by rw [a2]; exact Int32.le_refl _
      simp [f_X4_allIn_4, gd, bd, H.x.x.1, H.x.lr.1, L.c, s_size L, c9])
    (fun F i acc h' hi ⟨a1, a2, a3⟩ => by
      subst a3
      have c9 : ¬ Int32.ofNat A.np ≤ Int32.ofNat i := by rw [i_le (by omega) (by omega)]; omega
      refine ⟨(cnt A.memb (i + 1), Int32.ofNat (i + 1)), h', ⟨rfl, rfl, rfl⟩, ?_⟩
      have e5 := s_get L hi
      have e6 := i_succ i
      by_cases z : A.memb i <;> simp only [f_X4_allIn_4, f_X4_allIn_39, gd, bd, vl, H.x.x.1, H.x.lr.1, L.c, s_size L, a1, a2, c9, e5, (H.p i hi).c.1, s_mIsIn H M hi, z, cnt, sumI, if_true, if_false, or_true, e6] <;> simp)
    0 FU (0, 0) h (by omega) (by unfold FU; omega) ⟨rfl, rfl, rfl⟩
  exact e1
end sys
end P8

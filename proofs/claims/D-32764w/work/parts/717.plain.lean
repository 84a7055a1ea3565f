section P17
/-- the law's own long array of one place -/
def OU (h : Hp) (E : Ev) (o : Nat) : Prop := ob h E o 102 21 0 0 ∧ kN h o = 1
/-- a step of the system: the model's cells untouched -/
def Sy (h : Hp) (E : Ev) (A : AS) (h1 : Hp) (E1 : Ev) (c s : Nat) : Prop := ∃ S, Kp S c s h h1 ∧ off h E S fM ∧ EqM h E E1 A
/-- a step of the model: the system's cells untouched -/
def Mo (h : Hp) (E : Ev) (A : AS) (h1 : Hp) (E1 : Ev) (c s : Nat) : Prop := ∃ S, Kp S c s h h1 ∧ off h E S fS ∧ EqS h E E1 A
section st
variable {h h1 h2 : Hp} {E E1 E2 : Ev} {A : AS} {o c s : Nat}
theorem Sy.rm (Q : Sy h E A h1 E1 c s) (H : RM h E A) (X : Ix A) : RM h1 E1 A := by
  obtain ⟨S, K, hS, e⟩ := Q
  have H1 : RM h E1 A := H.ev e X
  exact H1.keep K ⟨fun n hn z => by rw [e.ow n hn]; exact hS.1 n hn z, hS.2⟩
theorem Mo.rs (Q : Mo h E A h1 E1 c s) (H : RS h E A) (X : Ix A) : RS h1 E1 A := by
  obtain ⟨S, K, hS, e⟩ := Q
  have H1 : RS h E1 A := H.ev e X
  exact H1.keep K ⟨fun n hn z => by rw [e.ow n hn]; exact hS.1 n hn z, hS.2⟩
theorem Mo.ou (Q : Mo h E A h1 E1 c s) (w : WB h) (H : OU h E o) : OU h1 E1 o := by
  obtain ⟨S, K, hS, e⟩ := Q
  have l := H.1.le w (by decide)
  exact ⟨⟨(H.1.keep K w (by decide)).1, (e.ow o l).trans H.1.2⟩, (K.N o l).trans H.2⟩
theorem EqM.refl (ho : ∀ n, n ≤ kz h → E1.ow n = E.ow n := by exact fun _ _ => rfl) (hE : E1 = (Ev.u_ow E (E1.ow))) : EqM h E E1 A := by
  rw [hE]
  exact ⟨rfl, fun _ _ => rfl, rfl, rfl, fun _ _ => rfl, fun _ _ => rfl, fun _ _ => rfl, fun _ _ => rfl, fun _ _ => rfl, fun _ _ _ _ => rfl, fun _ _ _ _ => rfl, fun _ _ => rfl, fun _ _ => rfl, fun _ _ => rfl, ho⟩
/-- the write of the answer -/
theorem OU.put (w : WB h) (H : RS h E A) (U : OU h E o) (v : Int64) : RS (tL h o 0 v) E A ∧ OU (tL h o 0 v) E o ∧ jL (tL h o 0 v) o 0 = v ∧ Kp (fun m => m = o) 0 0 h (tL h o 0 v) := by
  have K := Kp.tL h o 0 v
  refine ⟨⟨K.w H.w, H.x.keep K H.w (off1 H.w U.1 (by decide) (by simp)), fun k hk => (H.p k hk).keep K H.w (off1 H.w U.1 (by decide) (by simp)), fun k hk => (H.s k hk).keep K H.w (off1 H.w U.1 (by decide) (by simp)), fun k hk => (H.d k hk).keep K H.w (off1 H.w U.1 (by decide) (by simp)), fun k hk => (H.c k hk).keep K H.w (off1 H.w U.1 (by decide) (by simp)), fun k hk => (H.l k hk).keep K H.w (off1 H.w U.1 (by decide) (by simp))⟩, U, by simp [jL_tL], K⟩
theorem s_reqA (x : Int32) (r1 : kz h + 1 ≤ kza h) (r2 : ks h + 6 ≤ ksa h) : f_X1_requireArgument x h = if x = 0 then some (.inr (902, kz h + 1), bN h 6) else some (.inl (), h) := by
  simp only [f_X1_requireArgument, th, gd, r1, r2, and_self, if_true]
theorem s_reqS (x : Int32) (r1 : kz h + 1 ≤ kza h) (r2 : ks h + 6 ≤ ksa h) : f_X1_requireState x h = if x = 0 then some (.inr (903, kz h + 1), bN h 6) else some (.inl (), h) := by
  simp only [f_X1_requireState, th, gd, r1, r2, and_self, if_true]
theorem s_reqI (x : Int32) (r1 : kz h + 1 ≤ kza h) (r2 : ks h + 6 ≤ ksa h) : f_X1_requireIndex x h = if x = 0 then some (.inr (901, kz h + 1), bN h 6) else some (.inl (), h) := by
  simp only [f_X1_requireIndex, th, gd, r1, r2, and_self, if_true]
end st
end P17

section P25
section hlp
variable {h h1 : Hp} {E E1 : Ev} {A A1 : AS} {o c s : Nat}
/-- a step of the system, then a step more -/
theorem Sy.trans {h2 : Hp} {E2 : Ev} {B : AS} {c1 s1 : Nat} (Y : Sy h E A h1 E1 c s) (Z : Sy h1 E1 A h2 E2 c1 s1) : Sy h E A h2 E2 (c + c1) (s + s1) := by
  obtain ⟨S, K, o1, e1⟩ := Y
  obtain ⟨T, K', o2, e2⟩ := Z
  refine ⟨fun m => S m ∨ (m ≤ kz h ∧ T m), (K.to (fun m z => Or.inl z)).trans K' (fun m hm z => Or.inr ⟨hm, z⟩), ⟨fun n hn z => ?_, fun z => ?_⟩, ?_⟩
  · rcases z with z | ⟨-, z⟩
    · exact o1.1 n hn z
    · have := o2.1 n (Nat.le_trans hn K.z) z
      rw [e1.ow n hn] at this
      exact this
  · rcases z with z | ⟨-, z⟩
    · exact o1.2 z
    · exact o2.2 (by rw [K.e]; exact z)
  · exact ⟨e2.m.trans e1.m, fun F hF => (e2.mr F hF).trans (e1.mr F hF), e2.mg.trans e1.mg, e2.mol.trans e1.mol, fun k hk => (e2.mp k hk).trans (e1.mp k hk), fun k hk => (e2.ms k hk).trans (e1.ms k hk), fun k hk => (e2.md k hk).trans (e1.md k hk), fun k hk => (e2.mc k hk).trans (e1.mc k hk), fun k hk => (e2.ml k hk).trans (e1.ml k hk), fun k j hk hj => (e2.my k j hk hj).trans (e1.my k j hk hj), fun k j hk hj => (e2.mw k j hk hj).trans (e1.mw k j hk hj), fun k hk => (e2.ll k hk).trans (e1.ll k hk), fun k hk => (e2.mh k hk).trans (e1.mh k hk), fun k hk => (e2.mwl k hk).trans (e1.mwl k hk), fun n hn => (e2.ow n (Nat.le_trans hn K.z)).trans (e1.ow n hn)⟩
/-- the answer written -/
theorem Sy.put {v : Int64} (Y : Sy h E A h1 E1 c s) (w : WB h1) (U : OU h1 E1 o) : Sy h E A (tL h1 o 0 v) E1 c s :=
  Y.trans (B := A) ⟨_, Kp.tL h1 o 0 v, off1 w U.1 (by decide) (by simp), EqM.refl (fun _ _ => rfl) rfl⟩
theorem sy_pI {F k : Nat} {v : Int32} (H : RS h E A) (hk : k < A.np) : Sy h E A (sI h F (E.sp k) v) E 0 0 := sy1 H.w (H.p k hk).c (by decide) (by decide)
/-- an exception made -/
theorem sy_bN (H : RS h E A) (U : OU h E o) : RS (bN h 6) E A ∧ OU (bN h 6) E o ∧ Sy h E A (bN h 6) E 1 6 :=
  ⟨H.keep (Kp.bN h 6) no_off, U, ⟨no, Kp.bN h 6, no_off, EqM.refl (fun _ _ => rfl) rfl⟩⟩
/-- the model's thrown written, then a step more -/
theorem Mo.trans {h2 : Hp} {E2 : Ev} {c1 s1 : Nat} (Y : Mo h E A h1 E1 c s) (Z : Mo h1 E1 A h2 E2 c1 s1) : Mo h E A h2 E2 (c + c1) (s + s1) := by
  obtain ⟨S, K, o1, e1⟩ := Y
  obtain ⟨T, K', o2, e2⟩ := Z
  refine ⟨fun m => S m ∨ (m ≤ kz h ∧ T m), (K.to (fun m z => Or.inl z)).trans K' (fun m hm z => Or.inr ⟨hm, z⟩), ⟨fun n hn z => ?_, fun z => ?_⟩, ?_⟩
  · rcases z with z | ⟨-, z⟩
    · exact o1.1 n hn z
    · have := o2.1 n (Nat.le_trans hn K.z) z
      rw [e1.ow n hn] at this
      exact this
  · rcases z with z | ⟨-, z⟩
    · exact o1.2 z
    · exact o2.2 (by rw [K.e]; exact z)
  · exact ⟨e2.x.trans e1.x, fun F hF => ⟨(e2.row F hF).1.trans (e1.row F hF).1, (e2.row F hF).2.trans (e1.row F hF).2⟩, e2.gd.trans e1.gd, fun i hi => (e2.gr i hi).trans (e1.gr i hi), e2.vs.trans e1.vs, e2.vm.trans e1.vm, e2.out.trans e1.out, e2.ol.trans e1.ol, fun d => (e2.deal d).trans (e1.deal d), fun k hk => (e2.sp k hk).trans (e1.sp k hk), fun k hk => (e2.ss k hk).trans (e1.ss k hk), fun k hk => (e2.sd k hk).trans (e1.sd k hk), fun k hk => (e2.sc k hk).trans (e1.sc k hk), fun k hk => (e2.sl k hk).trans (e1.sl k hk), fun k j hk hj => (e2.sy k j hk hj).trans (e1.sy k j hk hj), fun k j hk hj => (e2.sw k j hk hj).trans (e1.sw k j hk hj), fun k hk => (e2.yl k hk).trans (e1.yl k hk), fun k hk z => (e2.he k hk z).trans (e1.he k hk z), fun k hk => (e2.wl k hk).trans (e1.wl k hk), fun n hn => (e2.ow n (Nat.le_trans hn K.z)).trans (e1.ow n hn)⟩
theorem mo1 {f : Nat} {v : Int32} {r cc t i j : Nat} {B : AS} (w : WB h) (oo : ob h E r cc t i j) (hc : cc ≠ 0) (ht : 1000 ≤ t) : Mo h E B (sI h f r v) E 0 0 :=
  ⟨_, Kp.sI h f r v, off1 w oo hc (by simp; omega), EqS.refl (fun _ _ => rfl) rfl⟩
theorem mo_pI {F k : Nat} {v : Int32} {B : AS} (H : RM h E A) (hk : k < A.np) : Mo h E B (sI h F (E.mp k) v) E 0 0 := mo1 H.w (H.p k hk).c (by decide) (by decide)
end hlp
end P25

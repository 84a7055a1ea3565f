section P12
abbrev EqM (h : Hp) (E E1 : Ev) (A : AS) : Prop := (E1.m = E.m) ∧ (∀ F, F < 5 → E1.mr F = E.mr F) ∧ (E1.mg = E.mg) ∧ (E1.mol = E.mol) ∧ (∀ k, k < A.np → E1.mp k = E.mp k) ∧ (∀ k, k < A.ns → E1.ms k = E.ms k) ∧ (∀ k, k < A.nd → E1.md k = E.md k) ∧ (∀ k, k < A.nc → E1.mc k = E.mc k) ∧ (∀ k, k < A.nl → E1.ml k = E.ml k) ∧ (∀ k j, k < A.np → j < A.ny k → E1.my k j = E.my k j) ∧ (∀ k j, k < A.nc → j < A.nw k → E1.mw k j = E.mw k j) ∧ (∀ k, k < A.np → E1.ll k = E.ll k) ∧ (∀ k, k < A.np → E1.mh k = E.mh k) ∧ (∀ k, k < A.nc → E1.mwl k = E.mwl k) ∧ (∀ n, n ≤ kz h → E1.ow n = E.ow n)
theorem EqM.m {h : Hp} {E E1 : Ev} {A : AS} (H_ : EqM h E E1 A) : E1.m = E.m := H_.1
theorem EqM.mr {h : Hp} {E E1 : Ev} {A : AS} (H_ : EqM h E E1 A) : ∀ F, F < 5 → E1.mr F = E.mr F := H_.2.1
theorem EqM.mg {h : Hp} {E E1 : Ev} {A : AS} (H_ : EqM h E E1 A) : E1.mg = E.mg := H_.2.2.1
theorem EqM.mol {h : Hp} {E E1 : Ev} {A : AS} (H_ : EqM h E E1 A) : E1.mol = E.mol := H_.2.2.2.1
theorem EqM.mp {h : Hp} {E E1 : Ev} {A : AS} (H_ : EqM h E E1 A) : ∀ k, k < A.np → E1.mp k = E.mp k := H_.2.2.2.2.1
theorem EqM.ms {h : Hp} {E E1 : Ev} {A : AS} (H_ : EqM h E E1 A) : ∀ k, k < A.ns → E1.ms k = E.ms k := H_.2.2.2.2.2.1
theorem EqM.md {h : Hp} {E E1 : Ev} {A : AS} (H_ : EqM h E E1 A) : ∀ k, k < A.nd → E1.md k = E.md k := H_.2.2.2.2.2.2.1
theorem EqM.mc {h : Hp} {E E1 : Ev} {A : AS} (H_ : EqM h E E1 A) : ∀ k, k < A.nc → E1.mc k = E.mc k := H_.2.2.2.2.2.2.2.1
theorem EqM.ml {h : Hp} {E E1 : Ev} {A : AS} (H_ : EqM h E E1 A) : ∀ k, k < A.nl → E1.ml k = E.ml k := H_.2.2.2.2.2.2.2.2.1
theorem EqM.my {h : Hp} {E E1 : Ev} {A : AS} (H_ : EqM h E E1 A) : ∀ k j, k < A.np → j < A.ny k → E1.my k j = E.my k j := H_.2.2.2.2.2.2.2.2.2.1
theorem EqM.mw {h : Hp} {E E1 : Ev} {A : AS} (H_ : EqM h E E1 A) : ∀ k j, k < A.nc → j < A.nw k → E1.mw k j = E.mw k j := H_.2.2.2.2.2.2.2.2.2.2.1
theorem EqM.ll {h : Hp} {E E1 : Ev} {A : AS} (H_ : EqM h E E1 A) : ∀ k, k < A.np → E1.ll k = E.ll k := H_.2.2.2.2.2.2.2.2.2.2.2.1
theorem EqM.mh {h : Hp} {E E1 : Ev} {A : AS} (H_ : EqM h E E1 A) : ∀ k, k < A.np → E1.mh k = E.mh k := H_.2.2.2.2.2.2.2.2.2.2.2.2.1
theorem EqM.mwl {h : Hp} {E E1 : Ev} {A : AS} (H_ : EqM h E E1 A) : ∀ k, k < A.nc → E1.mwl k = E.mwl k := H_.2.2.2.2.2.2.2.2.2.2.2.2.2.1
theorem EqM.ow {h : Hp} {E E1 : Ev} {A : AS} (H_ : EqM h E E1 A) : ∀ n, n ≤ kz h → E1.ow n = E.ow n := H_.2.2.2.2.2.2.2.2.2.2.2.2.2.2
section ev
variable {h : Hp} {E E1 : Ev} {A : AS} {k : Nat}
theorem RM.ev (H : RM h E A) (Q : EqM h E E1 A) (X : Ix A) : RM h E1 A := by
  have w := H.w
  have ho := Q.ow
  have S := H.x
  refine ⟨w, ⟨?_, ?_, ?_, ?_, ?_, ?_, ?_, ?_, ?_, S.n, ?_, ?_⟩, fun k hk => ?_, fun k hk => ?_, fun k hk => ?_, fun k hk => ?_, fun k hk => ?_⟩
  · rw [Q.m]; exact S.x.ev w ho (by decide)
  · rw [Q.m]; exact S.i
  · rw [Q.m]; exact S.l
  · rw [Q.m, Q.mr 0 (by decide), Q.mr 1 (by decide), Q.mr 2 (by decide), Q.mr 3 (by decide), Q.mr 4 (by decide)]; exact S.lr
  · rw [Q.mr 0 (by decide)]; exact S.lp.ev w ho Q.mp
  · rw [Q.mr 1 (by decide)]; exact S.ls.ev w ho Q.ms
  · rw [Q.mr 2 (by decide)]; exact S.ld.ev w ho Q.md
  · rw [Q.mr 3 (by decide)]; exact S.lc.ev w ho Q.mc
  · rw [Q.mr 4 (by decide)]; exact S.ll.ev w ho Q.ml
  · rw [Q.m, Q.mg]; exact ⟨S.g.1, S.g.2.1.ev w ho (by decide), S.g.2.2⟩
  · rw [Q.m, Q.mol]; exact ⟨S.ol.1, S.ol.2.1.ev w ho (by decide), S.ol.2.2⟩
  · have P := H.p k hk
    have hc : (if A.pc k = 0 then 0 else E1.mc (A.pc k - 1)) = (if A.pc k = 0 then 0 else E.mc (A.pc k - 1)) := by
      have := X.pc k hk
      split
      · rfl
      · exact Q.mc _ (by omega)
    refine ⟨?_, ?_, ?_, ?_, ?_, fun j hj => ?_, ?_⟩
    · rw [Q.mp k hk]; exact P.c.ev w ho (by decide)
    · rw [Q.mp k hk]; exact P.i
    · rw [Q.mp k hk]; exact P.l
    · rw [Q.mp k hk, hc]; exact P.cl
    · rw [Q.mp k hk, Q.ll k hk]; exact ⟨P.yl.1, P.yl.2.ev w ho (fun j hj => Q.my k j hk hj)⟩
    · rw [Q.my k j hk hj]; exact ⟨(P.y j hj).1.ev w ho (by decide), (P.y j hj).2⟩
    · rw [Q.mp k hk, Q.mh k hk]; exact ⟨P.he.1, P.he.2.1.ev w ho (by decide), P.he.2.2⟩
  · have P := H.s k hk
    rw [RMs, Q.ms k hk]
    exact ⟨P.c.ev w ho (by decide), P.n, P.i⟩
  · have P := H.d k hk
    rw [RMd, Q.md k hk]
    exact ⟨P.c.ev w ho (by decide), P.i, P.l⟩
  · have P := H.c k hk
    refine ⟨?_, ?_, ?_, ?_, ?_, fun j hj => ?_⟩
    · rw [Q.mc k hk]; exact P.c.ev w ho (by decide)
    · rw [Q.mc k hk]; exact P.i
    · rw [Q.mc k hk]; exact P.l
    · rw [Q.mc k hk, Q.mp _ (X.co k hk)]; exact P.co
    · rw [Q.mc k hk, Q.mwl k hk]; exact ⟨P.wl.1, P.wl.2.1.ev w ho (fun j hj => Q.mw k j hk hj), P.wl.2.2⟩
    · rw [Q.mw k j hk hj]; exact ⟨(P.w j hj).1.ev w ho (by decide), (P.w j hj).2⟩
  · have P := H.l k hk
    refine ⟨?_, ?_, ?_⟩
    · rw [Q.ml k hk]; exact P.c.ev w ho (by decide)
    · rw [Q.ml k hk]; exact P.i
    · rw [Q.ml k hk, Q.mp _ (X.lo k hk)]; exact P.lo
end ev
/-- a write into a list's own two cells -/
theorem off_list {h : Hp} {E : Ev} {T t i r n e : Nat} {a : Nat → Nat} {f : Nat × Nat × Nat → Prop} (w : WB h) (L : Lst h E T t i r n a) (he : kR h 1701 r = e) (h1 : ¬ f (t, i, 0)) (h2 : ¬ f (T, r, 0)) : off h E (fun m => m = r ∨ (m = e ∧ kC h e = 103)) f := by
  obtain ⟨o, e1, q, A, hq, hk⟩ := L
  obtain rfl : e1 = e := A.el.symm.trans he
  refine ⟨fun n hn z => ?_, fun z => ?_⟩
  · rcases z with rfl | ⟨rfl, z⟩
    · rw [o]; exact h1
    · rw [hk z]; exact h2
  · rcases z with z | ⟨z, z2⟩
    · have := A.c; rw [← z, w.ec] at this; cases this
    · rw [← z, w.ec] at z2; cases z2
end P12

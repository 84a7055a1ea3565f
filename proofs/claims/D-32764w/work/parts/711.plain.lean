section P11
abbrev EqS (h : Hp) (E E1 : Ev) (A : AS) : Prop := (E1.x = E.x) ∧ (∀ F, F < 5 → E1.row F = E.row F ∧ E1.rl F = E.rl F) ∧ (E1.gd = E.gd) ∧ (∀ i, i < 5 → E1.gr i = E.gr i) ∧ (E1.vs = E.vs) ∧ (E1.vm = E.vm) ∧ (E1.out = E.out) ∧ (E1.ol = E.ol) ∧ (A.dl = true → E1.deal = E.deal) ∧ (∀ k, k < A.np → E1.sp k = E.sp k) ∧ (∀ k, k < A.ns → E1.ss k = E.ss k) ∧ (∀ k, k < A.nd → E1.sd k = E.sd k) ∧ (∀ k, k < A.nc → E1.sc k = E.sc k) ∧ (∀ k, k < A.nl → E1.sl k = E.sl k) ∧ (∀ k j, k < A.np → j < A.ny k → E1.sy k j = E.sy k j) ∧ (∀ k j, k < A.nc → j < A.nw k → E1.sw k j = E.sw k j) ∧ (∀ k, k < A.np → E1.yl k = E.yl k) ∧ (∀ k, k < A.np → A.nh k ≠ 0 → E1.he k = E.he k) ∧ (∀ k, k < A.nc → E1.wl k = E.wl k) ∧ (∀ n, n ≤ kz h → E1.ow n = E.ow n)
theorem EqS.x {h : Hp} {E E1 : Ev} {A : AS} (H_ : EqS h E E1 A) : E1.x = E.x := H_.1
theorem EqS.row {h : Hp} {E E1 : Ev} {A : AS} (H_ : EqS h E E1 A) : ∀ F, F < 5 → E1.row F = E.row F ∧ E1.rl F = E.rl F := H_.2.1
theorem EqS.gd {h : Hp} {E E1 : Ev} {A : AS} (H_ : EqS h E E1 A) : E1.gd = E.gd := H_.2.2.1
theorem EqS.gr {h : Hp} {E E1 : Ev} {A : AS} (H_ : EqS h E E1 A) : ∀ i, i < 5 → E1.gr i = E.gr i := H_.2.2.2.1
theorem EqS.vs {h : Hp} {E E1 : Ev} {A : AS} (H_ : EqS h E E1 A) : E1.vs = E.vs := H_.2.2.2.2.1
theorem EqS.vm {h : Hp} {E E1 : Ev} {A : AS} (H_ : EqS h E E1 A) : E1.vm = E.vm := H_.2.2.2.2.2.1
theorem EqS.out {h : Hp} {E E1 : Ev} {A : AS} (H_ : EqS h E E1 A) : E1.out = E.out := H_.2.2.2.2.2.2.1
theorem EqS.ol {h : Hp} {E E1 : Ev} {A : AS} (H_ : EqS h E E1 A) : E1.ol = E.ol := H_.2.2.2.2.2.2.2.1
theorem EqS.deal {h : Hp} {E E1 : Ev} {A : AS} (H_ : EqS h E E1 A) : A.dl = true → E1.deal = E.deal := H_.2.2.2.2.2.2.2.2.1
theorem EqS.sp {h : Hp} {E E1 : Ev} {A : AS} (H_ : EqS h E E1 A) : ∀ k, k < A.np → E1.sp k = E.sp k := H_.2.2.2.2.2.2.2.2.2.1
theorem EqS.ss {h : Hp} {E E1 : Ev} {A : AS} (H_ : EqS h E E1 A) : ∀ k, k < A.ns → E1.ss k = E.ss k := H_.2.2.2.2.2.2.2.2.2.2.1
theorem EqS.sd {h : Hp} {E E1 : Ev} {A : AS} (H_ : EqS h E E1 A) : ∀ k, k < A.nd → E1.sd k = E.sd k := H_.2.2.2.2.2.2.2.2.2.2.2.1
theorem EqS.sc {h : Hp} {E E1 : Ev} {A : AS} (H_ : EqS h E E1 A) : ∀ k, k < A.nc → E1.sc k = E.sc k := H_.2.2.2.2.2.2.2.2.2.2.2.2.1
theorem EqS.sl {h : Hp} {E E1 : Ev} {A : AS} (H_ : EqS h E E1 A) : ∀ k, k < A.nl → E1.sl k = E.sl k := H_.2.2.2.2.2.2.2.2.2.2.2.2.2.1
theorem EqS.sy {h : Hp} {E E1 : Ev} {A : AS} (H_ : EqS h E E1 A) : ∀ k j, k < A.np → j < A.ny k → E1.sy k j = E.sy k j := H_.2.2.2.2.2.2.2.2.2.2.2.2.2.2.1
theorem EqS.sw {h : Hp} {E E1 : Ev} {A : AS} (H_ : EqS h E E1 A) : ∀ k j, k < A.nc → j < A.nw k → E1.sw k j = E.sw k j := H_.2.2.2.2.2.2.2.2.2.2.2.2.2.2.2.1
theorem EqS.yl {h : Hp} {E E1 : Ev} {A : AS} (H_ : EqS h E E1 A) : ∀ k, k < A.np → E1.yl k = E.yl k := H_.2.2.2.2.2.2.2.2.2.2.2.2.2.2.2.2.1
theorem EqS.he {h : Hp} {E E1 : Ev} {A : AS} (H_ : EqS h E E1 A) : ∀ k, k < A.np → A.nh k ≠ 0 → E1.he k = E.he k := H_.2.2.2.2.2.2.2.2.2.2.2.2.2.2.2.2.2.1
theorem EqS.wl {h : Hp} {E E1 : Ev} {A : AS} (H_ : EqS h E E1 A) : ∀ k, k < A.nc → E1.wl k = E.wl k := H_.2.2.2.2.2.2.2.2.2.2.2.2.2.2.2.2.2.2.1
theorem EqS.ow {h : Hp} {E E1 : Ev} {A : AS} (H_ : EqS h E E1 A) : ∀ n, n ≤ kz h → E1.ow n = E.ow n := H_.2.2.2.2.2.2.2.2.2.2.2.2.2.2.2.2.2.2.2
/-- the numbers point at what is there -/
abbrev Ix (A : AS) : Prop := (∀ k, k < A.np → A.pc k ≤ A.nc) ∧ (∀ k, k < A.nc → A.co k < A.np) ∧ (∀ k, k < A.nl → A.lo k < A.np)
theorem Ix.pc {A : AS} (H_ : Ix A) : ∀ k, k < A.np → A.pc k ≤ A.nc := H_.1
theorem Ix.co {A : AS} (H_ : Ix A) : ∀ k, k < A.nc → A.co k < A.np := H_.2.1
theorem Ix.lo {A : AS} (H_ : Ix A) : ∀ k, k < A.nl → A.lo k < A.np := H_.2.2
section ev
variable {h : Hp} {E E1 : Ev} {A : AS} {k : Nat}
theorem ob.ev {r c t i j : Nat} (w : WB h) (ho : ∀ n, n ≤ kz h → E1.ow n = E.ow n) (H : ob h E r c t i j) (hc : c ≠ 0) : ob h E1 r c t i j := ⟨H.1, (ho r (H.le w hc)).trans H.2⟩
theorem Lst.ev {T t i r n : Nat} {a b : Nat → Nat} (w : WB h) (ho : ∀ n, n ≤ kz h → E1.ow n = E.ow n) (H : Lst h E T t i r n a) (hb : ∀ k, k < n → b k = a k) : Lst h E1 T t i r n b := by
  obtain ⟨o, e, q, L, hq, hk⟩ := H
  obtain ⟨l1, l2, -, -⟩ := L.lt w
  exact ⟨(ho r l1).trans o, e, q, L.ext hb, hq, fun z => (ho e l2).trans (hk z)⟩
theorem RS.ev (H : RS h E A) (Q : EqS h E E1 A) (X : Ix A) : RS h E1 A := by
  have w := H.w
  have ho := Q.ow
  have S := H.x
  refine ⟨w, ⟨?_, ?_, ?_, fun F hF => ?_, ?_, ?_, ?_, ?_, ?_, S.n, ?_, fun i hi => ?_, fun i j hi hj => ?_, ?_, ?_, ?_, ?_, ?_⟩, fun k hk => ?_, fun k hk => ?_, fun k hk => ?_, fun k hk => ?_, fun k hk => ?_⟩
  · rw [Q.x]; exact S.x.ev w ho (by decide)
  · rw [Q.x]; exact S.i
  · rw [Q.x]; exact S.f
  · obtain ⟨a1, a2, a3, a4⟩ := S.row F hF
    rw [Q.x, (Q.row F hF).1, (Q.row F hF).2]
    exact ⟨a1, a2.ev w ho (by decide), a3, a4⟩
  · rw [(Q.row 0 (by decide)).2]; exact S.lp.ev w ho Q.sp
  · rw [(Q.row 1 (by decide)).2]; exact S.ls.ev w ho Q.ss
  · rw [(Q.row 2 (by decide)).2]; exact S.ld.ev w ho Q.sd
  · rw [(Q.row 3 (by decide)).2]; exact S.lc.ev w ho Q.sc
  · rw [(Q.row 4 (by decide)).2]; exact S.ll.ev w ho Q.sl
  · rw [Q.x, Q.gd]; exact ⟨S.gd.1, S.gd.2.1.ev w ho (by decide), S.gd.2.2⟩
  · rw [Q.gd, Q.gr i hi]; exact ⟨(S.gr i hi).1, (S.gr i hi).2.1.ev w ho (by decide), (S.gr i hi).2.2⟩
  · rw [Q.gr i hi]; exact S.g i j hi hj
  · rw [Q.x, Q.vs]; exact ⟨S.vs.1, S.vs.2.1.ev w ho (by decide), S.vs.2.2⟩
  · rw [Q.x, Q.vm]; exact ⟨S.vm.1, S.vm.2.1.ev w ho (by decide), S.vm.2.2⟩
  · rw [Q.x, Q.out]; exact ⟨S.out.1, S.out.2.1.ev w ho (by decide), S.out.2.2⟩
  · rw [Q.out, Q.ol]; exact ⟨S.ol.1, S.ol.2.1.ev w ho (by decide), S.ol.2.2⟩
  · rw [Q.x]
    refine ⟨S.deal.1, fun z => ?_⟩
    rw [Q.deal z]
    exact ⟨(S.deal.2 z).1, (S.deal.2 z).2.1.ev w ho (by decide), (S.deal.2 z).2.2⟩
  · have P := H.p k hk
    have hc : (if A.pc k = 0 then 0 else E1.sc (A.pc k - 1)) = (if A.pc k = 0 then 0 else E.sc (A.pc k - 1)) := by
      have := X.pc k hk
      split
      · rfl
      · exact Q.sc _ (by omega)
    refine ⟨?_, ?_, ?_, ?_, ?_, ?_, ?_, fun j hj => ?_, ?_, fun z => ?_⟩
    · rw [Q.sp k hk]; exact P.c.ev w ho (by decide)
    · rw [Q.sp k hk]; exact P.no
    · rw [Q.sp k hk, Q.x]; exact P.th
    · rw [Q.sp k hk]; exact P.i
    · rw [Q.sp k hk]; exact P.l
    · rw [Q.sp k hk, hc]; exact P.cl
    · rw [Q.sp k hk, Q.yl k hk]; exact ⟨P.yl.1, P.yl.2.ev w ho (fun j hj => Q.sy k j hk hj)⟩
    · rw [Q.sy k j hk hj, Q.x]; exact ⟨(P.y j hj).1.ev w ho (by decide), (P.y j hj).2⟩
    · rw [Q.sp k hk]; exact P.he.1
    · rw [Q.sp k hk, Q.he k hk z]
      obtain ⟨a1, a2, a3⟩ := P.he.2 z
      exact ⟨a1, a2.ev w ho (by decide), a3⟩
  · have P := H.s k hk
    rw [RSs, Q.ss k hk]
    exact ⟨P.c.ev w ho (by decide), P.no, P.i⟩
  · have P := H.d k hk
    rw [RSd, Q.sd k hk]
    exact ⟨P.c.ev w ho (by decide), P.no, P.i, P.l⟩
  · have P := H.c k hk
    refine ⟨?_, ?_, ?_, ?_, ?_, ?_, ?_, fun j hj => ?_⟩
    · rw [Q.sc k hk]; exact P.c.ev w ho (by decide)
    · rw [Q.sc k hk]; exact P.no
    · rw [Q.sc k hk, Q.x]; exact P.th
    · rw [Q.sc k hk]; exact P.i
    · rw [Q.sc k hk]; exact P.l
    · rw [Q.sc k hk, Q.sp _ (X.co k hk)]; exact P.co
    · rw [Q.sc k hk, Q.wl k hk]; exact ⟨P.wl.1, P.wl.2.1.ev w ho (fun j hj => Q.sw k j hk hj), P.wl.2.2⟩
    · rw [Q.sw k j hk hj]; exact ⟨(P.w j hj).1.ev w ho (by decide), (P.w j hj).2⟩
  · have P := H.l k hk
    refine ⟨?_, ?_, ?_, ?_⟩
    · rw [Q.sl k hk]; exact P.c.ev w ho (by decide)
    · rw [Q.sl k hk]; exact P.no
    · rw [Q.sl k hk]; exact P.i
    · rw [Q.sl k hk, Q.sp _ (X.lo k hk)]; exact P.lo
end ev
end P11

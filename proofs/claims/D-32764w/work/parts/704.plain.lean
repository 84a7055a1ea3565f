section P4
/-- a sum of longs -/
def sumL (f : Nat → Int64) : Nat → Int64
  | 0 => 0
  | n + 1 => sumL f n + f n
def sumI (f : Nat → Int32) : Nat → Int32
  | 0 => 0
  | n + 1 => sumI f n + f n
theorem sumL_congr {f g : Nat → Int64} : ∀ {n : Nat}, (∀ k, k < n → f k = g k) → sumL f n = sumL g n
  | 0, _ => rfl
  | n + 1, h => by rw [sumL, sumL, sumL_congr (fun k hk => h k (by omega)), h n (by omega)]
theorem sumI_congr {f g : Nat → Int32} : ∀ {n : Nat}, (∀ k, k < n → f k = g k) → sumI f n = sumI g n
  | 0, _ => rfl
  | n + 1, h => by rw [sumI, sumI, sumI_congr (fun k hk => h k (by omega)), h n (by omega)]
/-- votes as the model writes them -/
def vmap (v : Int32) : Int32 := if v = -1 then 0 else if v = 1 then 1 else 2
def AS.stage (A : AS) : Int32 := if A.dl then A.I 903 0 else 0
abbrev mxI : List (Nat × Nat) := [(301, 18), (303, 303), (304, 304), (305, 305), (306, 306), (309, 309), (311, 311), (312, 312), (313, 313), (314, 314), (316, 13), (317, 14), (318, 15), (319, 16)]
abbrev mxL : List (Nat × Nat) := [(310, 310), (322, 17), (323, 323), (324, 200), (326, 202), (327, 204), (328, 205)]
abbrev mpI : List (Nat × Nat) := [(500, 401), (501, 402), (502, 403), (503, 404), (504, 405), (505, 406), (506, 506), (508, 409), (509, 410), (510, 408), (511, 407), (512, 411), (513, 513), (514, 514), (515, 515), (516, 414)]
abbrev mpL : List (Nat × Nat) := [(518, 416), (519, 417), (520, 418)]
abbrev mdI : List (Nat × Nat) := [(800, 701), (804, 705)]
abbrev mdL : List (Nat × Nat) := [(801, 801), (802, 703), (803, 704)]
abbrev mcI : List (Nat × Nat) := [(1201, 1102), (1202, 1103), (1203, 1104), (1204, 1109), (1205, 1110), (1206, 1206), (1207, 1105)]
abbrev mcL : List (Nat × Nat) := [(1208, 1106)]
abbrev mlI : List (Nat × Nat) := [(1601, 1503), (1602, 1502)]
abbrev RMx (h : Hp) (E : Ev) (A : AS) : Prop := (ob h E E.m 4 1000 0 0) ∧ (∀ p ∈ mxI, kI h p.1 E.m = A.I p.2 0) ∧ (∀ p ∈ mxL, kL h p.1 E.m = A.L p.2 0) ∧ (kR h 302 E.m = E.mr 0 ∧ kR h 307 E.m = E.mr 1 ∧ kR h 308 E.m = E.mr 2 ∧ kR h 320 E.m = E.mr 3 ∧ kR h 321 E.m = E.mr 4) ∧ (Lst h E 1001 1003 0 (E.mr 0) A.np E.mp) ∧ (Lst h E 1001 1003 1 (E.mr 1) A.ns E.ms) ∧ (Lst h E 1001 1003 2 (E.mr 2) A.nd E.md) ∧ (Lst h E 1001 1003 3 (E.mr 3) A.nc E.mc) ∧ (Lst h E 1001 1003 4 (E.mr 4) A.nl E.ml) ∧ (A.np ≤ 50 ∧ A.ns ≤ 4 ∧ A.nd ≤ 4 ∧ A.nc ≤ 50 ∧ A.nl ≤ 20) ∧ (kR h 315 E.m = E.mg ∧ ob h E E.mg 101 1004 0 0 ∧ kN h E.mg = 20 ∧ ∀ i j, i < 5 → j < 4 → jI h E.mg (4 * i + j) = A.g i j) ∧ (kR h 325 E.m = E.mol ∧ ob h E E.mol 102 1005 0 0 ∧ kN h E.mol = 6 ∧ ∀ i, i < 6 → jL h E.mol i = A.ol i)
theorem RMx.x {h : Hp} {E : Ev} {A : AS} (H_ : RMx h E A) : ob h E E.m 4 1000 0 0 := H_.1
theorem RMx.i {h : Hp} {E : Ev} {A : AS} (H_ : RMx h E A) : ∀ p ∈ mxI, kI h p.1 E.m = A.I p.2 0 := H_.2.1
theorem RMx.l {h : Hp} {E : Ev} {A : AS} (H_ : RMx h E A) : ∀ p ∈ mxL, kL h p.1 E.m = A.L p.2 0 := H_.2.2.1
theorem RMx.lr {h : Hp} {E : Ev} {A : AS} (H_ : RMx h E A) : kR h 302 E.m = E.mr 0 ∧ kR h 307 E.m = E.mr 1 ∧ kR h 308 E.m = E.mr 2 ∧ kR h 320 E.m = E.mr 3 ∧ kR h 321 E.m = E.mr 4 := H_.2.2.2.1
theorem RMx.lp {h : Hp} {E : Ev} {A : AS} (H_ : RMx h E A) : Lst h E 1001 1003 0 (E.mr 0) A.np E.mp := H_.2.2.2.2.1
theorem RMx.ls {h : Hp} {E : Ev} {A : AS} (H_ : RMx h E A) : Lst h E 1001 1003 1 (E.mr 1) A.ns E.ms := H_.2.2.2.2.2.1
theorem RMx.ld {h : Hp} {E : Ev} {A : AS} (H_ : RMx h E A) : Lst h E 1001 1003 2 (E.mr 2) A.nd E.md := H_.2.2.2.2.2.2.1
theorem RMx.lc {h : Hp} {E : Ev} {A : AS} (H_ : RMx h E A) : Lst h E 1001 1003 3 (E.mr 3) A.nc E.mc := H_.2.2.2.2.2.2.2.1
theorem RMx.ll {h : Hp} {E : Ev} {A : AS} (H_ : RMx h E A) : Lst h E 1001 1003 4 (E.mr 4) A.nl E.ml := H_.2.2.2.2.2.2.2.2.1
theorem RMx.n {h : Hp} {E : Ev} {A : AS} (H_ : RMx h E A) : A.np ≤ 50 ∧ A.ns ≤ 4 ∧ A.nd ≤ 4 ∧ A.nc ≤ 50 ∧ A.nl ≤ 20 := H_.2.2.2.2.2.2.2.2.2.1
theorem RMx.g {h : Hp} {E : Ev} {A : AS} (H_ : RMx h E A) : kR h 315 E.m = E.mg ∧ ob h E E.mg 101 1004 0 0 ∧ kN h E.mg = 20 ∧ ∀ i j, i < 5 → j < 4 → jI h E.mg (4 * i + j) = A.g i j := H_.2.2.2.2.2.2.2.2.2.2.1
theorem RMx.ol {h : Hp} {E : Ev} {A : AS} (H_ : RMx h E A) : kR h 325 E.m = E.mol ∧ ob h E E.mol 102 1005 0 0 ∧ kN h E.mol = 6 ∧ ∀ i, i < 6 → jL h E.mol i = A.ol i := H_.2.2.2.2.2.2.2.2.2.2.2
abbrev RMp (h : Hp) (E : Ev) (A : AS) (k : Nat) : Prop := (ob h E (E.mp k) 6 1011 k 0) ∧ (∀ p ∈ mpI, kI h p.1 (E.mp k) = A.I p.2 k) ∧ (∀ p ∈ mpL, kL h p.1 (E.mp k) = A.L p.2 k) ∧ (kR h 517 (E.mp k) = (if A.pc k = 0 then 0 else E.mc (A.pc k - 1))) ∧ (kR h 521 (E.mp k) = E.ll k ∧ Lst h E 1001 1012 k (E.ll k) (A.ny k) (E.my k)) ∧ (∀ j, j < A.ny k → ob h E (E.my k j) 15 1013 k j ∧ kL h 1400 (E.my k j) = A.yL k j ∧ kI h 1401 (E.my k j) = A.yI k j ∧ kI h 1402 (E.my k j) = A.yD k j ∧ kI h 1403 (E.my k j) = A.yY k j) ∧ (kR h 507 (E.mp k) = E.mh k ∧ ob h E (E.mh k) 102 1014 k 0 ∧ kN h (E.mh k) = 3 ∧ ∀ j, j < 3 → jL h (E.mh k) j = A.hv k j)
theorem RMp.c {h : Hp} {E : Ev} {A : AS} {k : Nat} (H_ : RMp h E A k) : ob h E (E.mp k) 6 1011 k 0 := H_.1
theorem RMp.i {h : Hp} {E : Ev} {A : AS} {k : Nat} (H_ : RMp h E A k) : ∀ p ∈ mpI, kI h p.1 (E.mp k) = A.I p.2 k := H_.2.1
theorem RMp.l {h : Hp} {E : Ev} {A : AS} {k : Nat} (H_ : RMp h E A k) : ∀ p ∈ mpL, kL h p.1 (E.mp k) = A.L p.2 k := H_.2.2.1
theorem RMp.cl {h : Hp} {E : Ev} {A : AS} {k : Nat} (H_ : RMp h E A k) : kR h 517 (E.mp k) = (if A.pc k = 0 then 0 else E.mc (A.pc k - 1)) := H_.2.2.2.1
theorem RMp.yl {h : Hp} {E : Ev} {A : AS} {k : Nat} (H_ : RMp h E A k) : kR h 521 (E.mp k) = E.ll k ∧ Lst h E 1001 1012 k (E.ll k) (A.ny k) (E.my k) := H_.2.2.2.2.1
theorem RMp.y {h : Hp} {E : Ev} {A : AS} {k : Nat} (H_ : RMp h E A k) : ∀ j, j < A.ny k → ob h E (E.my k j) 15 1013 k j ∧ kL h 1400 (E.my k j) = A.yL k j ∧ kI h 1401 (E.my k j) = A.yI k j ∧ kI h 1402 (E.my k j) = A.yD k j ∧ kI h 1403 (E.my k j) = A.yY k j := H_.2.2.2.2.2.1
theorem RMp.he {h : Hp} {E : Ev} {A : AS} {k : Nat} (H_ : RMp h E A k) : kR h 507 (E.mp k) = E.mh k ∧ ob h E (E.mh k) 102 1014 k 0 ∧ kN h (E.mh k) = 3 ∧ ∀ j, j < 3 → jL h (E.mh k) j = A.hv k j := H_.2.2.2.2.2.2
abbrev RMs (h : Hp) (E : Ev) (A : AS) (k : Nat) : Prop := (ob h E (E.ms k) 101 1015 k 0) ∧ (kN h (E.ms k) = 3) ∧ (jI h (E.ms k) 0 = A.I 601 k ∧ jI h (E.ms k) 1 = A.I 602 k ∧ jI h (E.ms k) 2 = A.I 603 k)
theorem RMs.c {h : Hp} {E : Ev} {A : AS} {k : Nat} (H_ : RMs h E A k) : ob h E (E.ms k) 101 1015 k 0 := H_.1
theorem RMs.n {h : Hp} {E : Ev} {A : AS} {k : Nat} (H_ : RMs h E A k) : kN h (E.ms k) = 3 := H_.2.1
theorem RMs.i {h : Hp} {E : Ev} {A : AS} {k : Nat} (H_ : RMs h E A k) : jI h (E.ms k) 0 = A.I 601 k ∧ jI h (E.ms k) 1 = A.I 602 k ∧ jI h (E.ms k) 2 = A.I 603 k := H_.2.2
abbrev RMd (h : Hp) (E : Ev) (A : AS) (k : Nat) : Prop := (ob h E (E.md k) 9 1016 k 0) ∧ (∀ p ∈ mdI, kI h p.1 (E.md k) = A.I p.2 k) ∧ (∀ p ∈ mdL, kL h p.1 (E.md k) = A.L p.2 k)
theorem RMd.c {h : Hp} {E : Ev} {A : AS} {k : Nat} (H_ : RMd h E A k) : ob h E (E.md k) 9 1016 k 0 := H_.1
theorem RMd.i {h : Hp} {E : Ev} {A : AS} {k : Nat} (H_ : RMd h E A k) : ∀ p ∈ mdI, kI h p.1 (E.md k) = A.I p.2 k := H_.2.1
theorem RMd.l {h : Hp} {E : Ev} {A : AS} {k : Nat} (H_ : RMd h E A k) : ∀ p ∈ mdL, kL h p.1 (E.md k) = A.L p.2 k := H_.2.2
abbrev RMc (h : Hp) (E : Ev) (A : AS) (k : Nat) : Prop := (ob h E (E.mc k) 13 1017 k 0) ∧ (∀ p ∈ mcI, kI h p.1 (E.mc k) = A.I p.2 k) ∧ (∀ p ∈ mcL, kL h p.1 (E.mc k) = A.L p.2 k) ∧ (kR h 1200 (E.mc k) = E.mp (A.co k)) ∧ (kR h 1209 (E.mc k) = E.mwl k ∧ Lst h E 1001 1018 k (E.mwl k) (A.nw k) (E.mw k) ∧ 0 < A.nw k ∧ A.nw k ≤ 4) ∧ (∀ j, j < A.nw k → ob h E (E.mw k j) 101 1019 k j ∧ kN h (E.mw k j) = 2 ∧ jI h (E.mw k j) 0 = A.wI k j ∧ jI h (E.mw k j) 1 = A.wD k j)
theorem RMc.c {h : Hp} {E : Ev} {A : AS} {k : Nat} (H_ : RMc h E A k) : ob h E (E.mc k) 13 1017 k 0 := H_.1
theorem RMc.i {h : Hp} {E : Ev} {A : AS} {k : Nat} (H_ : RMc h E A k) : ∀ p ∈ mcI, kI h p.1 (E.mc k) = A.I p.2 k := H_.2.1
theorem RMc.l {h : Hp} {E : Ev} {A : AS} {k : Nat} (H_ : RMc h E A k) : ∀ p ∈ mcL, kL h p.1 (E.mc k) = A.L p.2 k := H_.2.2.1
theorem RMc.co {h : Hp} {E : Ev} {A : AS} {k : Nat} (H_ : RMc h E A k) : kR h 1200 (E.mc k) = E.mp (A.co k) := H_.2.2.2.1
theorem RMc.wl {h : Hp} {E : Ev} {A : AS} {k : Nat} (H_ : RMc h E A k) : kR h 1209 (E.mc k) = E.mwl k ∧ Lst h E 1001 1018 k (E.mwl k) (A.nw k) (E.mw k) ∧ 0 < A.nw k ∧ A.nw k ≤ 4 := H_.2.2.2.2.1
theorem RMc.w {h : Hp} {E : Ev} {A : AS} {k : Nat} (H_ : RMc h E A k) : ∀ j, j < A.nw k → ob h E (E.mw k j) 101 1019 k j ∧ kN h (E.mw k j) = 2 ∧ jI h (E.mw k j) 0 = A.wI k j ∧ jI h (E.mw k j) 1 = A.wD k j := H_.2.2.2.2.2
abbrev RMl (h : Hp) (E : Ev) (A : AS) (k : Nat) : Prop := (ob h E (E.ml k) 17 1020 k 0) ∧ (∀ p ∈ mlI, kI h p.1 (E.ml k) = A.I p.2 k) ∧ (kR h 1600 (E.ml k) = E.mp (A.lo k))
theorem RMl.c {h : Hp} {E : Ev} {A : AS} {k : Nat} (H_ : RMl h E A k) : ob h E (E.ml k) 17 1020 k 0 := H_.1
theorem RMl.i {h : Hp} {E : Ev} {A : AS} {k : Nat} (H_ : RMl h E A k) : ∀ p ∈ mlI, kI h p.1 (E.ml k) = A.I p.2 k := H_.2.1
theorem RMl.lo {h : Hp} {E : Ev} {A : AS} {k : Nat} (H_ : RMl h E A k) : kR h 1600 (E.ml k) = E.mp (A.lo k) := H_.2.2
abbrev RM (h : Hp) (E : Ev) (A : AS) : Prop := (WB h) ∧ (RMx h E A) ∧ (∀ k, k < A.np → RMp h E A k) ∧ (∀ k, k < A.ns → RMs h E A k) ∧ (∀ k, k < A.nd → RMd h E A k) ∧ (∀ k, k < A.nc → RMc h E A k) ∧ (∀ k, k < A.nl → RMl h E A k)
theorem RM.w {h : Hp} {E : Ev} {A : AS} (H_ : RM h E A) : WB h := H_.1
theorem RM.x {h : Hp} {E : Ev} {A : AS} (H_ : RM h E A) : RMx h E A := H_.2.1
theorem RM.p {h : Hp} {E : Ev} {A : AS} (H_ : RM h E A) : ∀ k, k < A.np → RMp h E A k := H_.2.2.1
theorem RM.s {h : Hp} {E : Ev} {A : AS} (H_ : RM h E A) : ∀ k, k < A.ns → RMs h E A k := H_.2.2.2.1
theorem RM.d {h : Hp} {E : Ev} {A : AS} (H_ : RM h E A) : ∀ k, k < A.nd → RMd h E A k := H_.2.2.2.2.1
theorem RM.c {h : Hp} {E : Ev} {A : AS} (H_ : RM h E A) : ∀ k, k < A.nc → RMc h E A k := H_.2.2.2.2.2.1
theorem RM.l {h : Hp} {E : Ev} {A : AS} (H_ : RM h E A) : ∀ k, k < A.nl → RMl h E A k := H_.2.2.2.2.2.2
section keep
variable {h h1 : Hp} {E : Ev} {A : AS} {S : Nat → Prop} {c s : Nat}
abbrev fxm (E : Ev) : Nat × Nat × Nat → Prop := fun z => z.1 = 1000 ∨ (1003 ≤ z.1 ∧ z.1 ≤ 1005) ∨ (z.1 = 1001 ∧ ∃ F, F < 5 ∧ z.2.1 = E.mr F)
abbrev fpm (E : Ev) (k : Nat) : Nat × Nat × Nat → Prop := fun z => (1011 ≤ z.1 ∧ z.1 ≤ 1014 ∧ z.2.1 = k) ∨ (z.1 = 1001 ∧ z.2.1 = E.ll k)
abbrev fsm (k : Nat) : Nat × Nat × Nat → Prop := fun z => z = (1015, k, 0)
abbrev fdm (k : Nat) : Nat × Nat × Nat → Prop := fun z => z = (1016, k, 0)
abbrev fcm (E : Ev) (k : Nat) : Nat × Nat × Nat → Prop := fun z => (1017 ≤ z.1 ∧ z.1 ≤ 1019 ∧ z.2.1 = k) ∨ (z.1 = 1001 ∧ z.2.1 = E.mwl k)
abbrev flm (k : Nat) : Nat × Nat × Nat → Prop := fun z => z = (1020, k, 0)
abbrev fM : Nat × Nat × Nat → Prop := fun z => 1000 ≤ z.1
theorem RMx.keep (K : Kp S c s h h1) (w : WB h) (H : RMx h E A) (hS : off h E S (fxm E)) : RMx h1 E A := by
  have kp : ∀ {r cc t i j : Nat}, ob h E r cc t i j → cc ≠ 0 → (fxm E) (t, i, j) → ob h1 E r cc t i j ∧ r ≤ kz h ∧ ¬ S r := fun o a b => ⟨o.keep K w a, o.le w a, o.off w a hS b⟩
  obtain ⟨x1, x2, x3⟩ := kp H.x (by decide) (Or.inl rfl)
  refine ⟨x1, fun F hF => (K.I _ _ x2 x3).trans (H.i F hF), fun F hF => (K.L _ _ x2 x3).trans (H.l F hF), ?_, H.lp.off K w hS (Or.inr (Or.inl (by simp))) (Or.inr (Or.inr ⟨rfl, 0, by decide, rfl⟩)), H.ls.off K w hS (Or.inr (Or.inl (by simp))) (Or.inr (Or.inr ⟨rfl, 1, by decide, rfl⟩)), H.ld.off K w hS (Or.inr (Or.inl (by simp))) (Or.inr (Or.inr ⟨rfl, 2, by decide, rfl⟩)), H.lc.off K w hS (Or.inr (Or.inl (by simp))) (Or.inr (Or.inr ⟨rfl, 3, by decide, rfl⟩)), H.ll.off K w hS (Or.inr (Or.inl (by simp))) (Or.inr (Or.inr ⟨rfl, 4, by decide, rfl⟩)), H.n, ?_, ?_⟩
  · obtain ⟨a1, a2, a3, a4, a5⟩ := H.lr
    exact ⟨(K.R _ _ x2 x3).trans a1, (K.R _ _ x2 x3).trans a2, (K.R _ _ x2 x3).trans a3, (K.R _ _ x2 x3).trans a4, (K.R _ _ x2 x3).trans a5⟩
  · obtain ⟨a1, a2, a3, a4⟩ := H.g
    obtain ⟨b1, b2, b3⟩ := kp a2 (by decide) (Or.inr (Or.inl (by simp)))
    exact ⟨(K.R _ _ x2 x3).trans a1, b1, (K.N _ b2).trans a3, fun i j hi hj => (K.aI _ _ b2 b3).trans (a4 i j hi hj)⟩
  · obtain ⟨a1, a2, a3, a4⟩ := H.ol
    obtain ⟨b1, b2, b3⟩ := kp a2 (by decide) (Or.inr (Or.inl (by simp)))
    exact ⟨(K.R _ _ x2 x3).trans a1, b1, (K.N _ b2).trans a3, fun i hi => (K.aL _ _ b2 b3).trans (a4 i hi)⟩
theorem RMp.keep {k : Nat} (K : Kp S c s h h1) (w : WB h) (H : RMp h E A k) (hS : off h E S (fpm E k)) : RMp h1 E A k := by
  have kp : ∀ {r cc t i j : Nat}, ob h E r cc t i j → cc ≠ 0 → (fpm E k) (t, i, j) → ob h1 E r cc t i j ∧ r ≤ kz h ∧ ¬ S r := fun o a b => ⟨o.keep K w a, o.le w a, o.off w a hS b⟩
  obtain ⟨x1, x2, x3⟩ := kp H.c (by decide) (Or.inl ⟨by simp, by simp, rfl⟩)
  refine ⟨x1, fun F hF => (K.I _ _ x2 x3).trans (H.i F hF), fun F hF => (K.L _ _ x2 x3).trans (H.l F hF), (K.R _ _ x2 x3).trans H.cl, ⟨(K.R _ _ x2 x3).trans H.yl.1, H.yl.2.off K w hS (Or.inl ⟨by simp, by simp, rfl⟩) (Or.inr ⟨rfl, rfl⟩)⟩, fun j hj => ?_, ?_⟩
  · obtain ⟨a1, a2, a3, a4, a5⟩ := H.y j hj
    obtain ⟨b1, b2, b3⟩ := kp a1 (by decide) (Or.inl ⟨by simp, by simp, rfl⟩)
    exact ⟨b1, (K.L _ _ b2 b3).trans a2, (K.I _ _ b2 b3).trans a3, (K.I _ _ b2 b3).trans a4, (K.I _ _ b2 b3).trans a5⟩
  · obtain ⟨a1, a2, a3, a5⟩ := H.he
    obtain ⟨b1, b2, b3⟩ := kp a2 (by decide) (Or.inl ⟨by simp, by simp, rfl⟩)
    exact ⟨(K.R _ _ x2 x3).trans a1, b1, (K.N _ b2).trans a3, fun j hj => (K.aL _ _ b2 b3).trans (a5 j hj)⟩
theorem RMs.keep {k : Nat} (K : Kp S c s h h1) (w : WB h) (H : RMs h E A k) (hS : off h E S (fsm k)) : RMs h1 E A k := by
  have x2 := H.c.le w (by decide)
  have x3 := H.c.off w (by decide) hS rfl
  exact ⟨H.c.keep K w (by decide), (K.N _ x2).trans H.n, (K.aI _ _ x2 x3).trans H.i.1, (K.aI _ _ x2 x3).trans H.i.2.1, (K.aI _ _ x2 x3).trans H.i.2.2⟩
theorem RMd.keep {k : Nat} (K : Kp S c s h h1) (w : WB h) (H : RMd h E A k) (hS : off h E S (fdm k)) : RMd h1 E A k := by
  have x2 := H.c.le w (by decide)
  have x3 := H.c.off w (by decide) hS rfl
  exact ⟨H.c.keep K w (by decide), fun F hF => (K.I _ _ x2 x3).trans (H.i F hF), fun F hF => (K.L _ _ x2 x3).trans (H.l F hF)⟩
theorem RMl.keep {k : Nat} (K : Kp S c s h h1) (w : WB h) (H : RMl h E A k) (hS : off h E S (flm k)) : RMl h1 E A k := by
  have x2 := H.c.le w (by decide)
  have x3 := H.c.off w (by decide) hS rfl
  exact ⟨H.c.keep K w (by decide), fun F hF => (K.I _ _ x2 x3).trans (H.i F hF), (K.R _ _ x2 x3).trans H.lo⟩
theorem RMc.keep {k : Nat} (K : Kp S c s h h1) (w : WB h) (H : RMc h E A k) (hS : off h E S (fcm E k)) : RMc h1 E A k := by
  have kp : ∀ {r cc t i j : Nat}, ob h E r cc t i j → cc ≠ 0 → (fcm E k) (t, i, j) → ob h1 E r cc t i j ∧ r ≤ kz h ∧ ¬ S r := fun o a b => ⟨o.keep K w a, o.le w a, o.off w a hS b⟩
  obtain ⟨x1, x2, x3⟩ := kp H.c (by decide) (Or.inl ⟨by simp, by simp, rfl⟩)
  refine ⟨x1, fun F hF => (K.I _ _ x2 x3).trans (H.i F hF), fun F hF => (K.L _ _ x2 x3).trans (H.l F hF), (K.R _ _ x2 x3).trans H.co, ⟨(K.R _ _ x2 x3).trans H.wl.1, H.wl.2.1.off K w hS (Or.inl ⟨by simp, by simp, rfl⟩) (Or.inr ⟨rfl, rfl⟩), H.wl.2.2⟩, fun j hj => ?_⟩
  obtain ⟨a1, a2, a3, a4⟩ := H.w j hj
  obtain ⟨b1, b2, b3⟩ := kp a1 (by decide) (Or.inl ⟨by simp, by simp, rfl⟩)
  exact ⟨b1, (K.N _ b2).trans a2, (K.aI _ _ b2 b3).trans a3, (K.aI _ _ b2 b3).trans a4⟩
theorem RM.keep (K : Kp S c s h h1) (H : RM h E A) (hS : off h E S fM) : RM h1 E A := by
  have g : ∀ f : Nat × Nat × Nat → Prop, (∀ z, f z → fM z) → off h E S f := fun f hf => ⟨fun n hn q z => hS.1 n hn q (hf _ z), hS.2⟩
  refine ⟨K.w H.w, H.x.keep K H.w (g _ ?_), fun k hk => (H.p k hk).keep K H.w (g _ ?_), fun k hk => (H.s k hk).keep K H.w (g _ ?_), fun k hk => (H.d k hk).keep K H.w (g _ ?_), fun k hk => (H.c k hk).keep K H.w (g _ ?_), fun k hk => (H.l k hk).keep K H.w (g _ ?_)⟩
  · rintro ⟨a, b, c⟩ (z | z | z) <;> simp at z ⊢ <;> omega
  · rintro ⟨a, b, c⟩ (z | z) <;> simp at z ⊢ <;> omega
  · rintro _ rfl; simp
  · rintro _ rfl; simp
  · rintro ⟨a, b, c⟩ (z | z) <;> simp at z ⊢ <;> omega
  · rintro _ rfl; simp
end keep
end P4

section P3
/-- what there is, without addresses: I, L by the system's field number and the index -/
structure AS where
  I : Nat → Nat → Int32
  L : Nat → Nat → Int64
  np : Nat
  ns : Nat
  nd : Nat
  nc : Nat
  nl : Nat
  pc : Nat → Nat
  co : Nat → Nat
  lo : Nat → Nat
  ny : Nat → Nat
  yL : Nat → Nat → Int64
  yI : Nat → Nat → Int32
  yD : Nat → Nat → Int32
  yY : Nat → Nat → Int32
  nh : Nat → Nat
  hv : Nat → Nat → Int64
  nw : Nat → Nat
  wI : Nat → Nat → Int32
  wD : Nat → Nat → Int32
  g : Nat → Nat → Int32
  vs : Nat → Int64
  vm : Nat → Int32
  ol : Nat → Int64
  dl : Bool
def upd2 {α : Type} (f : Nat → Nat → α) (i j : Nat) (v : α) : Nat → Nat → α := fun a b => if a = i ∧ b = j then v else f a b
abbrev AS.sI (A : AS) (F k : Nat) (v : Int32) : AS := { A with I := upd2 A.I F k v }
abbrev AS.sL (A : AS) (F k : Nat) (v : Int64) : AS := { A with L := upd2 A.L F k v }
/-- addresses, and whose each is: (tag, number, number); tags below 1000 are the system's -/
structure Ev where
  x : Nat
  m : Nat
  out : Nat
  deal : Nat
  gd : Nat
  gr : Nat → Nat
  vs : Nat
  vm : Nat
  ol : Nat
  row : Nat → Nat
  rl : Nat → Nat
  sp : Nat → Nat
  ss : Nat → Nat
  sd : Nat → Nat
  sc : Nat → Nat
  sl : Nat → Nat
  sy : Nat → Nat → Nat
  sw : Nat → Nat → Nat
  yl : Nat → Nat
  he : Nat → Nat
  wl : Nat → Nat
  mp : Nat → Nat
  ms : Nat → Nat
  md : Nat → Nat
  mc : Nat → Nat
  ml : Nat → Nat
  my : Nat → Nat → Nat
  mw : Nat → Nat → Nat
  mr : Nat → Nat
  mh : Nat → Nat
  mwl : Nat → Nat
  ll : Nat → Nat
  mg : Nat
  mol : Nat
  ow : Nat → Nat × Nat × Nat
/-- the object at r is of class c, and is (t, i, j) -/
def ob (h : Hp) (E : Ev) (r c t i j : Nat) : Prop := kC h r = c ∧ E.ow r = (t, i, j)
/-- a list owned by tag T -/
def LS (h : Hp) (E : Ev) (T t i r n : Nat) (a : Nat → Nat) : Prop := E.ow r = (t, i, 0) ∧ ∃ e q, AL h r e q n a ∧ q ≤ 300 ∧ (kC h e = 103 → E.ow e = (T, r, 0))
def mostOf : Nat → Int32 := fun F => if F = 0 then 50 else if F = 1 then 4 else if F = 2 then 4 else if F = 3 then 50 else 20
abbrev xF : List Nat := [10, 11, 12, 13, 14, 15, 16, 18]
abbrev pF : List Nat := [401, 402, 403, 404, 405, 406, 407, 408, 409, 410, 411, 412, 413, 414]
abbrev cF : List Nat := [1102, 1103, 1104, 1105, 1108, 1109, 1110]
abbrev dF : List Nat := [900, 901, 902, 903, 904, 905]
structure RSx (h : Hp) (E : Ev) (A : AS) : Prop where
  x : ob h E E.x 1 1 0 0
  i : ∀ F ∈ xF, kI h F E.x = A.I F 0
  f : kL h 17 E.x = A.L 17 0
  row : ∀ F, F < 5 → kR h F E.x = E.row F ∧ ob h E (E.row F) 2 2 F 0 ∧ kI h 101 (E.row F) = mostOf F ∧ kR h 100 (E.row F) = E.rl F
  lp : LS h E 0 3 0 (E.rl 0) A.np E.sp
  ls : LS h E 0 3 1 (E.rl 1) A.ns E.ss
  ld : LS h E 0 3 2 (E.rl 2) A.nd E.sd
  lc : LS h E 0 3 3 (E.rl 3) A.nc E.sc
  ll : LS h E 0 3 4 (E.rl 4) A.nl E.sl
  n : A.np ≤ 50 ∧ A.ns ≤ 4 ∧ A.nd ≤ 4 ∧ A.nc ≤ 50 ∧ A.nl ≤ 20
  gd : kR h 5 E.x = E.gd ∧ ob h E E.gd 104 4 0 0 ∧ kN h E.gd = 5
  gr : ∀ i, i < 5 → jR h E.gd i = E.gr i ∧ ob h E (E.gr i) 101 5 i 0 ∧ kN h (E.gr i) = 4
  g : ∀ i j, i < 5 → j < 4 → jI h (E.gr i) j = A.g i j
  vs : kR h 6 E.x = E.vs ∧ ob h E E.vs 102 6 0 0 ∧ kN h E.vs = 5 ∧ ∀ i, i < 5 → jL h E.vs i = A.vs i
  vm : kR h 7 E.x = E.vm ∧ ob h E E.vm 101 7 0 0 ∧ kN h E.vm = 5 ∧ ∀ i, i < 5 → jI h E.vm i = A.vm i
  out : kR h 8 E.x = E.out ∧ ob h E E.out 3 8 0 0 ∧ ∀ F ∈ [200, 202, 203, 204, 205], kL h F E.out = A.L F 0
  ol : kR h 201 E.out = E.ol ∧ ob h E E.ol 102 9 0 0 ∧ kN h E.ol = 6 ∧ ∀ i, i < 6 → jL h E.ol i = A.ol i
  deal : (A.dl = false → kR h 9 E.x = 0) ∧ (A.dl = true → kR h 9 E.x = E.deal ∧ ob h E E.deal 10 10 0 0 ∧ ∀ F ∈ dF, kI h F E.deal = A.I F 0)
structure RSp (h : Hp) (E : Ev) (A : AS) (k : Nat) : Prop where
  c : ob h E (E.sp k) 5 11 k 0
  no : kI h 400 (E.sp k) = Int32.ofNat k
  th : kR h 421 (E.sp k) = E.x
  i : ∀ F ∈ pF, kI h F (E.sp k) = A.I F k
  l : ∀ F ∈ [416, 417, 418], kL h F (E.sp k) = A.L F k
  cl : kR h 415 (E.sp k) = (if A.pc k = 0 then 0 else E.sc (A.pc k - 1)) ∧ A.pc k ≤ A.nc
  yl : kR h 419 (E.sp k) = E.yl k ∧ LS h E 0 12 k (E.yl k) (A.ny k) (E.sy k)
  y : ∀ j, j < A.ny k → ob h E (E.sy k j) 14 13 k j ∧ kL h 1300 (E.sy k j) = A.yL k j ∧ kI h 1301 (E.sy k j) = A.yI k j ∧ kI h 1302 (E.sy k j) = A.yD k j ∧ kR h 1303 (E.sy k j) = E.x
  he : (A.nh k = 0 → kR h 420 (E.sp k) = 0) ∧ (A.nh k ≠ 0 → kR h 420 (E.sp k) = E.he k ∧ ob h E (E.he k) 102 14 k 0 ∧ kN h (E.he k) = A.nh k ∧ A.nh k ≤ 3 ∧ ∀ j, j < A.nh k → jL h (E.he k) j = A.hv k j)
structure RSs (h : Hp) (E : Ev) (A : AS) (k : Nat) : Prop where
  c : ob h E (E.ss k) 7 15 k 0
  no : kI h 600 (E.ss k) = Int32.ofNat k
  i : ∀ F ∈ [601, 602, 603], kI h F (E.ss k) = A.I F k
structure RSd (h : Hp) (E : Ev) (A : AS) (k : Nat) : Prop where
  c : ob h E (E.sd k) 8 16 k 0
  no : kI h 700 (E.sd k) = Int32.ofNat k
  i : ∀ F ∈ [701, 702, 705], kI h F (E.sd k) = A.I F k
  l : ∀ F ∈ [703, 704], kL h F (E.sd k) = A.L F k
structure RSc (h : Hp) (E : Ev) (A : AS) (k : Nat) : Prop where
  c : ob h E (E.sc k) 12 17 k 0
  no : kI h 1100 (E.sc k) = Int32.ofNat k
  th : kR h 1112 (E.sc k) = E.x
  i : ∀ F ∈ cF, kI h F (E.sc k) = A.I F k
  l : ∀ F ∈ [1106, 1107], kL h F (E.sc k) = A.L F k
  co : kR h 1101 (E.sc k) = E.sp (A.co k) ∧ A.co k < A.np
  wl : kR h 1111 (E.sc k) = E.wl k ∧ LS h E 0 18 k (E.wl k) (A.nw k) (E.sw k) ∧ 0 < A.nw k ∧ A.nw k ≤ 4
  w : ∀ j, j < A.nw k → ob h E (E.sw k j) 101 19 k j ∧ kN h (E.sw k j) = 2 ∧ jI h (E.sw k j) 0 = A.wI k j ∧ jI h (E.sw k j) 1 = A.wD k j
structure RSl (h : Hp) (E : Ev) (A : AS) (k : Nat) : Prop where
  c : ob h E (E.sl k) 16 20 k 0
  no : kI h 1500 (E.sl k) = Int32.ofNat k
  i : ∀ F ∈ [1502, 1503], kI h F (E.sl k) = A.I F k
  lo : kR h 1501 (E.sl k) = E.sp (A.lo k) ∧ A.lo k < A.np
structure RS (h : Hp) (E : Ev) (A : AS) : Prop where
  w : WB h
  x : RSx h E A
  p : ∀ k, k < A.np → RSp h E A k
  s : ∀ k, k < A.ns → RSs h E A k
  d : ∀ k, k < A.nd → RSd h E A k
  c : ∀ k, k < A.nc → RSc h E A k
  l : ∀ k, k < A.nl → RSl h E A k
/-! keeping -/
section keep
variable {h h1 : Hp} {E : Ev} {A : AS} {S : Nat → Prop} {c s : Nat}
theorem ob.keep {r cc t i j : Nat} (K : Kp S c s h h1) (w : WB h) (H : ob h E r cc t i j) (hc : cc ≠ 0) : ob h1 E r cc t i j := ⟨(K.C r (w.c r (by rw [H.1]; exact hc))).trans H.1, H.2⟩
theorem ob.le {r cc t i j : Nat} (w : WB h) (H : ob h E r cc t i j) (hc : cc ≠ 0) : r ≤ kz h := w.c r (by rw [H.1]; exact hc)
theorem LS.keep {T t i r n : Nat} {a : Nat → Nat} (K : Kp S c s h h1) (w : WB h) (H : LS h E T t i r n a) (hr : ¬ S r) (he : ∀ e, e ≤ kz h → E.ow e = (T, r, 0) → ¬ S e) (hk : ¬ S (kE h)) : LS h1 E T t i r n a := by
  obtain ⟨o, e, q, L, hq, ho⟩ := H
  obtain ⟨l1, l2, -, -⟩ := L.lt w
  refine ⟨o, e, q, L.keep w K hr ?_, hq, fun z => ho ((K.C e l2).symm.trans z)⟩
  rcases L.k with k | k
  · rw [k.1]; exact hk
  · exact he e l2 (ho k.1)
abbrev off (h : Hp) (E : Ev) (S : Nat → Prop) (f : Nat × Nat × Nat → Prop) : Prop := (∀ n, n ≤ kz h → S n → ¬ f (E.ow n)) ∧ ¬ S (kE h)
abbrev fx (E : Ev) : Nat × Nat × Nat → Prop := fun z => (1 ≤ z.1 ∧ z.1 ≤ 10) ∨ (z.1 = 0 ∧ ∃ F, F < 5 ∧ z.2.1 = E.rl F)
abbrev fp (E : Ev) (k : Nat) : Nat × Nat × Nat → Prop := fun z => (11 ≤ z.1 ∧ z.1 ≤ 14 ∧ z.2.1 = k) ∨ (z.1 = 0 ∧ z.2.1 = E.yl k)
abbrev fs (k : Nat) : Nat × Nat × Nat → Prop := fun z => z = (15, k, 0)
abbrev fd (k : Nat) : Nat × Nat × Nat → Prop := fun z => z = (16, k, 0)
abbrev fc (E : Ev) (k : Nat) : Nat × Nat × Nat → Prop := fun z => (17 ≤ z.1 ∧ z.1 ≤ 19 ∧ z.2.1 = k) ∨ (z.1 = 0 ∧ z.2.1 = E.wl k)
abbrev fl (k : Nat) : Nat × Nat × Nat → Prop := fun z => z = (20, k, 0)
abbrev fS : Nat × Nat × Nat → Prop := fun z => z.1 < 1000
theorem ob.off {f : Nat × Nat × Nat → Prop} {r cc t i j : Nat} (w : WB h) (H : ob h E r cc t i j) (hc : cc ≠ 0) (hS : off h E S f) (ht : f (t, i, j)) : ¬ S r := fun z => hS.1 r (H.le w hc) z (by rw [H.2]; exact ht)
theorem LS.off {f : Nat × Nat × Nat → Prop} {T t i r n : Nat} {a : Nat → Nat} (K : Kp S c s h h1) (w : WB h) (H : LS h E T t i r n a) (hS : off h E S f) (ht : f (t, i, 0)) (hT : f (T, r, 0)) : LS h1 E T t i r n a :=
  H.keep K w (fun z => hS.1 r (by obtain ⟨o, e, q, L, -, -⟩ := H; exact (L.lt w).1) z (by rw [H.1]; exact ht)) (fun e he o z => hS.1 e he z (by rw [o]; exact hT)) hS.2
theorem RSx.keep (K : Kp S c s h h1) (w : WB h) (H : RSx h E A) (hS : off h E S (fx E)) : RSx h1 E A := by
  have kp : ∀ {r cc t i j : Nat}, ob h E r cc t i j → cc ≠ 0 → (fx E) (t, i, j) → ob h1 E r cc t i j ∧ r ≤ kz h ∧ ¬ S r := fun o a b => ⟨o.keep K w a, o.le w a, o.off w a hS b⟩
  obtain ⟨x1, x2, x3⟩ := kp H.x (by decide) (Or.inl (by simp))
  refine ⟨x1, fun F hF => (K.I F _ x2 x3).trans (H.i F hF), (K.L _ _ x2 x3).trans H.f, fun F hF => ?_, H.lp.off K w hS (Or.inl (by simp)) (Or.inr ⟨rfl, 0, by decide, rfl⟩), H.ls.off K w hS (Or.inl (by simp)) (Or.inr ⟨rfl, 1, by decide, rfl⟩), H.ld.off K w hS (Or.inl (by simp)) (Or.inr ⟨rfl, 2, by decide, rfl⟩), H.lc.off K w hS (Or.inl (by simp)) (Or.inr ⟨rfl, 3, by decide, rfl⟩), H.ll.off K w hS (Or.inl (by simp)) (Or.inr ⟨rfl, 4, by decide, rfl⟩), H.n, ?_, fun i hi => ?_, fun i j hi hj => ?_, ?_, ?_, ?_, ?_, ?_⟩
  · obtain ⟨a1, a2, a3, a4⟩ := H.row F hF
    obtain ⟨b1, b2, b3⟩ := kp a2 (by decide) (Or.inl (by simp))
    exact ⟨(K.R _ _ x2 x3).trans a1, b1, (K.I _ _ b2 b3).trans a3, (K.R _ _ b2 b3).trans a4⟩
  · obtain ⟨a1, a2, a3⟩ := H.gd
    obtain ⟨b1, b2, b3⟩ := kp a2 (by decide) (Or.inl (by simp))
    exact ⟨(K.R _ _ x2 x3).trans a1, b1, (K.N _ b2).trans a3⟩
  · obtain ⟨a1, a2, a3⟩ := H.gr i hi
    obtain ⟨b1, b2, b3⟩ := kp a2 (by decide) (Or.inl (by simp))
    obtain ⟨c1, c2, c3⟩ := kp H.gd.2.1 (by decide) (Or.inl (by simp))
    exact ⟨(K.aR _ _ c2 c3).trans a1, b1, (K.N _ b2).trans a3⟩
  · obtain ⟨b1, b2, b3⟩ := kp (H.gr i hi).2.1 (by decide) (Or.inl (by simp))
    exact (K.aI _ _ b2 b3).trans (H.g i j hi hj)
  · obtain ⟨a1, a2, a3, a4⟩ := H.vs
    obtain ⟨b1, b2, b3⟩ := kp a2 (by decide) (Or.inl (by simp))
    exact ⟨(K.R _ _ x2 x3).trans a1, b1, (K.N _ b2).trans a3, fun i hi => (K.aL _ _ b2 b3).trans (a4 i hi)⟩
  · obtain ⟨a1, a2, a3, a4⟩ := H.vm
    obtain ⟨b1, b2, b3⟩ := kp a2 (by decide) (Or.inl (by simp))
    exact ⟨(K.R _ _ x2 x3).trans a1, b1, (K.N _ b2).trans a3, fun i hi => (K.aI _ _ b2 b3).trans (a4 i hi)⟩
  · obtain ⟨a1, a2, a4⟩ := H.out
    obtain ⟨b1, b2, b3⟩ := kp a2 (by decide) (Or.inl (by simp))
    exact ⟨(K.R _ _ x2 x3).trans a1, b1, fun F hF => (K.L _ _ b2 b3).trans (a4 F hF)⟩
  · obtain ⟨a1, a2, a3, a4⟩ := H.ol
    obtain ⟨b1, b2, b3⟩ := kp a2 (by decide) (Or.inl (by simp))
    obtain ⟨c1, c2, c3⟩ := kp H.out.2.1 (by decide) (Or.inl (by simp))
    exact ⟨(K.R _ _ c2 c3).trans a1, b1, (K.N _ b2).trans a3, fun i hi => (K.aL _ _ b2 b3).trans (a4 i hi)⟩
  · refine ⟨fun z => (K.R _ _ x2 x3).trans (H.deal.1 z), fun z => ?_⟩
    obtain ⟨a1, a2, a4⟩ := H.deal.2 z
    obtain ⟨b1, b2, b3⟩ := kp a2 (by decide) (Or.inl (by simp))
    exact ⟨(K.R _ _ x2 x3).trans a1, b1, fun F hF => (K.I _ _ b2 b3).trans (a4 F hF)⟩
theorem RSp.keep {k : Nat} (K : Kp S c s h h1) (w : WB h) (H : RSp h E A k) (hS : off h E S (fp E k)) : RSp h1 E A k := by
  have kp : ∀ {r cc t i j : Nat}, ob h E r cc t i j → cc ≠ 0 → (fp E k) (t, i, j) → ob h1 E r cc t i j ∧ r ≤ kz h ∧ ¬ S r := fun o a b => ⟨o.keep K w a, o.le w a, o.off w a hS b⟩
  obtain ⟨x1, x2, x3⟩ := kp H.c (by decide) (Or.inl ⟨by simp, by simp, rfl⟩)
  refine ⟨x1, (K.I _ _ x2 x3).trans H.no, (K.R _ _ x2 x3).trans H.th, fun F hF => (K.I _ _ x2 x3).trans (H.i F hF), fun F hF => (K.L _ _ x2 x3).trans (H.l F hF), ⟨(K.R _ _ x2 x3).trans H.cl.1, H.cl.2⟩, ⟨(K.R _ _ x2 x3).trans H.yl.1, H.yl.2.off K w hS (Or.inl ⟨by simp, by simp, rfl⟩) (Or.inr ⟨rfl, rfl⟩)⟩, fun j hj => ?_, fun z => (K.R _ _ x2 x3).trans (H.he.1 z), fun z => ?_⟩
  · obtain ⟨a1, a2, a3, a4, a5⟩ := H.y j hj
    obtain ⟨b1, b2, b3⟩ := kp a1 (by decide) (Or.inl ⟨by simp, by simp, rfl⟩)
    exact ⟨b1, (K.L _ _ b2 b3).trans a2, (K.I _ _ b2 b3).trans a3, (K.I _ _ b2 b3).trans a4, (K.R _ _ b2 b3).trans a5⟩
  · obtain ⟨a1, a2, a3, a4, a5⟩ := H.he.2 z
    obtain ⟨b1, b2, b3⟩ := kp a2 (by decide) (Or.inl ⟨by simp, by simp, rfl⟩)
    exact ⟨(K.R _ _ x2 x3).trans a1, b1, (K.N _ b2).trans a3, a4, fun j hj => (K.aL _ _ b2 b3).trans (a5 j hj)⟩
theorem RSs.keep {k : Nat} (K : Kp S c s h h1) (w : WB h) (H : RSs h E A k) (hS : off h E S (fs k)) : RSs h1 E A k := by
  have x2 := H.c.le w (by decide)
  have x3 := H.c.off w (by decide) hS rfl
  exact ⟨H.c.keep K w (by decide), (K.I _ _ x2 x3).trans H.no, fun F hF => (K.I _ _ x2 x3).trans (H.i F hF)⟩
theorem RSd.keep {k : Nat} (K : Kp S c s h h1) (w : WB h) (H : RSd h E A k) (hS : off h E S (fd k)) : RSd h1 E A k := by
  have x2 := H.c.le w (by decide)
  have x3 := H.c.off w (by decide) hS rfl
  exact ⟨H.c.keep K w (by decide), (K.I _ _ x2 x3).trans H.no, fun F hF => (K.I _ _ x2 x3).trans (H.i F hF), fun F hF => (K.L _ _ x2 x3).trans (H.l F hF)⟩
theorem RSl.keep {k : Nat} (K : Kp S c s h h1) (w : WB h) (H : RSl h E A k) (hS : off h E S (fl k)) : RSl h1 E A k := by
  have x2 := H.c.le w (by decide)
  have x3 := H.c.off w (by decide) hS rfl
  exact ⟨H.c.keep K w (by decide), (K.I _ _ x2 x3).trans H.no, fun F hF => (K.I _ _ x2 x3).trans (H.i F hF), (K.R _ _ x2 x3).trans H.lo.1, H.lo.2⟩
theorem RSc.keep {k : Nat} (K : Kp S c s h h1) (w : WB h) (H : RSc h E A k) (hS : off h E S (fc E k)) : RSc h1 E A k := by
  have kp : ∀ {r cc t i j : Nat}, ob h E r cc t i j → cc ≠ 0 → (fc E k) (t, i, j) → ob h1 E r cc t i j ∧ r ≤ kz h ∧ ¬ S r := fun o a b => ⟨o.keep K w a, o.le w a, o.off w a hS b⟩
  obtain ⟨x1, x2, x3⟩ := kp H.c (by decide) (Or.inl ⟨by simp, by simp, rfl⟩)
  refine ⟨x1, (K.I _ _ x2 x3).trans H.no, (K.R _ _ x2 x3).trans H.th, fun F hF => (K.I _ _ x2 x3).trans (H.i F hF), fun F hF => (K.L _ _ x2 x3).trans (H.l F hF), ⟨(K.R _ _ x2 x3).trans H.co.1, H.co.2⟩, ⟨(K.R _ _ x2 x3).trans H.wl.1, H.wl.2.1.off K w hS (Or.inl ⟨by simp, by simp, rfl⟩) (Or.inr ⟨rfl, rfl⟩), H.wl.2.2⟩, fun j hj => ?_⟩
  obtain ⟨a1, a2, a3, a4⟩ := H.w j hj
  obtain ⟨b1, b2, b3⟩ := kp a1 (by decide) (Or.inl ⟨by simp, by simp, rfl⟩)
  exact ⟨b1, (K.N _ b2).trans a2, (K.aI _ _ b2 b3).trans a3, (K.aI _ _ b2 b3).trans a4⟩
theorem RS.keep (K : Kp S c s h h1) (H : RS h E A) (hS : off h E S fS) : RS h1 E A := by
  have g : ∀ f : Nat × Nat × Nat → Prop, (∀ z, f z → fS z) → off h E S f := fun f hf => ⟨fun n hn q z => hS.1 n hn q (hf _ z), hS.2⟩
  refine ⟨K.w H.w, H.x.keep K H.w (g _ ?_), fun k hk => (H.p k hk).keep K H.w (g _ ?_), fun k hk => (H.s k hk).keep K H.w (g _ ?_), fun k hk => (H.d k hk).keep K H.w (g _ ?_), fun k hk => (H.c k hk).keep K H.w (g _ ?_), fun k hk => (H.l k hk).keep K H.w (g _ ?_)⟩
  · rintro ⟨a, b, c⟩ (z | z) <;> simp at z ⊢ <;> omega
  · rintro ⟨a, b, c⟩ (z | z) <;> simp at z ⊢ <;> omega
  · rintro _ rfl; simp
  · rintro _ rfl; simp
  · rintro ⟨a, b, c⟩ (z | z) <;> simp at z ⊢ <;> omega
  · rintro _ rfl; simp
end keep
end P3

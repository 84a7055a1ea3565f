section P16
section add
variable {h : Hp} {E : Ev} {A : AS} {k : Nat} {o1 : Nat → Nat × Nat × Nat}
theorem RMp.ow (w : WB h) (ho : ∀ m, m ≤ kz h → o1 m = E.ow m) (P : RMp h E A k) : RMp h (Ev.u_ow E (o1)) A k :=
  ⟨P.c.ev w ho (by decide), P.i, P.l, P.cl, ⟨P.yl.1, P.yl.2.ev w ho (fun _ _ => rfl)⟩, fun j hj => ⟨(P.y j hj).1.ev w ho (by decide), (P.y j hj).2⟩, ⟨P.he.1, P.he.2.1.ev w ho (by decide), P.he.2.2⟩⟩
theorem RMs.ow (w : WB h) (ho : ∀ m, m ≤ kz h → o1 m = E.ow m) (P : RMs h E A k) : RMs h (Ev.u_ow E (o1)) A k := ⟨P.c.ev w ho (by decide), P.n, P.i⟩
theorem RMd.ow (w : WB h) (ho : ∀ m, m ≤ kz h → o1 m = E.ow m) (P : RMd h E A k) : RMd h (Ev.u_ow E (o1)) A k := ⟨P.c.ev w ho (by decide), P.i, P.l⟩
theorem RMc.ow (w : WB h) (ho : ∀ m, m ≤ kz h → o1 m = E.ow m) (P : RMc h E A k) : RMc h (Ev.u_ow E (o1)) A k :=
  ⟨P.c.ev w ho (by decide), P.i, P.l, P.co, ⟨P.wl.1, P.wl.2.1.ev w ho (fun _ _ => rfl), P.wl.2.2⟩, fun j hj => ⟨(P.w j hj).1.ev w ho (by decide), (P.w j hj).2⟩⟩
theorem RMl.ow (w : WB h) (ho : ∀ m, m ≤ kz h → o1 m = E.ow m) (P : RMl h E A k) : RMl h (Ev.u_ow E (o1)) A k := ⟨P.c.ev w ho (by decide), P.i, P.lo⟩
theorem mr_ow (H : RM h E A) {F : Nat} (hF : F < 5) : E.ow (E.mr F) = (1003, F, 0) := by
  have X := H.x
  match F, hF with
  | 0, _ => exact X.lp.1
  | 1, _ => exact X.ls.1
  | 2, _ => exact X.ld.1
  | 3, _ => exact X.lc.1
  | 4, _ => exact X.ll.1
theorem mr_ne (H : RM h E A) {F G : Nat} (hF : F < 5) (hG : G < 5) (hne : F ≠ G) : E.mr F ≠ E.mr G := by
  intro e
  have a := mr_ow H hF
  rw [e, mr_ow H hG] at a
  simp at a
  exact hne a.symm
theorem RMx.lists {h1 : Hp} {S : Nat → Prop} {c s : Nat} (K : Kp S c s h h1) (w : WB h) (H : RMx h E A) (hS : off h E S (fun z => z.1 = 1000 ∨ z.1 = 1004 ∨ z.1 = 1005)) {np ns nd nc nl : Nat}
    (lp : Lst h1 E 1001 1003 0 (E.mr 0) np E.mp) (ls : Lst h1 E 1001 1003 1 (E.mr 1) ns E.ms) (ld : Lst h1 E 1001 1003 2 (E.mr 2) nd E.md) (lc : Lst h1 E 1001 1003 3 (E.mr 3) nc E.mc) (ll : Lst h1 E 1001 1003 4 (E.mr 4) nl E.ml) (n : np ≤ 50 ∧ ns ≤ 4 ∧ nd ≤ 4 ∧ nc ≤ 50 ∧ nl ≤ 20) :
    RMx h1 E (AS.u_nl (AS.u_nc (AS.u_nd (AS.u_ns (AS.u_np A (np)) (ns)) (nd)) (nc)) (nl)) := by
  have kp : ∀ {r cc t i j : Nat}, ob h E r cc t i j → cc ≠ 0 → (t = 1000 ∨ t = 1004 ∨ t = 1005) → ob h1 E r cc t i j ∧ r ≤ kz h ∧ ¬ S r := fun o a b => ⟨o.keep K w a, o.le w a, o.off w a hS b⟩
  obtain ⟨x1, x2, x3⟩ := kp H.x (by decide) (by simp)
  refine ⟨x1, fun F hF => (K.I _ _ x2 x3).trans (H.i F hF), fun F hF => (K.L _ _ x2 x3).trans (H.l F hF), ?_, lp, ls, ld, lc, ll, n, ?_, ?_⟩
  · obtain ⟨a1, a2, a3, a4, a5⟩ := H.lr
    exact ⟨(K.R _ _ x2 x3).trans a1, (K.R _ _ x2 x3).trans a2, (K.R _ _ x2 x3).trans a3, (K.R _ _ x2 x3).trans a4, (K.R _ _ x2 x3).trans a5⟩
  · obtain ⟨a1, a2, a3, a4⟩ := H.g
    obtain ⟨b1, b2, b3⟩ := kp a2 (by decide) (by simp)
    exact ⟨(K.R _ _ x2 x3).trans a1, b1, (K.N _ b2).trans a3, fun i j hi hj => (K.aI _ _ b2 b3).trans (a4 i j hi hj)⟩
  · obtain ⟨a1, a2, a3, a4⟩ := H.ol
    obtain ⟨b1, b2, b3⟩ := kp a2 (by decide) (by simp)
    exact ⟨(K.R _ _ x2 x3).trans a1, b1, (K.N _ b2).trans a3, fun i hi => (K.aL _ _ b2 b3).trans (a4 i hi)⟩
theorem mr_off (H : RM h E A) {F : Nat} (hF : F < 5) {n : Nat} {a : Nat → Nat} (L : Lst h E 1001 1003 F (E.mr F) n a) :
    off h E (wl_ h (E.mr F)) (fun z => z.1 = 1000 ∨ z.1 = 1004 ∨ z.1 = 1005) ∧ (∀ k, k < A.np + 1 → (k = A.np → RMp h E A k) → off h E (wl_ h (E.mr F)) (fpm E k)) ∧ (∀ k, off h E (wl_ h (E.mr F)) (fsm k)) ∧ (∀ k, off h E (wl_ h (E.mr F)) (fdm k)) ∧ (∀ k, k < A.nc + 1 → (k = A.nc → RMc h E A k) → off h E (wl_ h (E.mr F)) (fcm E k)) ∧ (∀ k, off h E (wl_ h (E.mr F)) (flm k)) ∧ (∀ G, G < 5 → G ≠ F → off h E (wl_ h (E.mr F)) (fun z => z = (1003, G, 0) ∨ z = (1001, E.mr G, 0))) := by
  have w := H.w
  have ho := mr_ow H hF
  refine ⟨lst_wl w L (by simp) (by simp), fun k hk hp => lst_wl w L (by simp) ?_, fun k => lst_wl w L (by simp) (by simp), fun k => lst_wl w L (by simp) (by simp), fun k hk hc => lst_wl w L (by simp) ?_, fun k => lst_wl w L (by simp) (by simp), fun G hG hne => lst_wl w L (by simp; omega) ?_⟩
  · have P : RMp h E A k := by
      by_cases e : k = A.np
      · exact hp e
      · exact H.p k (by omega)
    have hy := P.yl.2.1
    simp
    intro e
    rw [← e, ho] at hy
    simp at hy
  · have P : RMc h E A k := by
      by_cases e : k = A.nc
      · exact hc e
      · exact H.c k (by omega)
    have hy := P.wl.2.1.1
    simp
    intro e
    rw [← e, ho] at hy
    simp at hy
  · have := mr_ne H hF hG (Ne.symm hne)
    simp
    exact this
theorem RM.addP (H : RM h E A) (X : Ix A) (P : RMp h E A A.np) (hn : A.np < 50) (r1 : kz h + 1 ≤ kza h) (r2 : ks h + 300 ≤ ksa h) :
    ∃ h1 o1, f_J2_add (E.mr 0) (E.mp A.np) h = some (.inl 1, h1) ∧ (∀ m, m ≤ kz h → o1 m = E.ow m) ∧ RM h1 (Ev.u_ow E (o1)) (AS.u_np A (A.np + 1)) ∧ Kp (wl_ h (E.mr 0)) 1 300 h h1 := by
  have w := H.w
  have n := H.x.n
  obtain ⟨h1, o1, e1, ho, L1, K⟩ := Lst.add w H.x.lp (v := E.mp A.np) (by rw [P.c.1]; decide) (by omega) r1 r2
  have H1 := H.ev (eqM_ow H ho) X
  have P1 := P.ow w ho
  obtain ⟨f1, f2, f3, f4, f5, f6, f7⟩ := mr_off H1 (F := 0) (by decide) H1.x.lp
  refine ⟨h1, o1, e1, ho, ⟨K.w w, ?_, fun k hk => ?_, fun k hk => (H1.s k hk).keep K w (f3 k), fun k hk => (H1.d k hk).keep K w (f4 k), fun k hk => (H1.c k hk).keep K w (f5 k (Nat.lt_succ_of_lt hk) (fun e => absurd hk (by rw [e]; exact Nat.lt_irrefl _))), fun k hk => (H1.l k hk).keep K w (f6 k)⟩, K⟩
  · have LL : ∀ G, G < 5 → G ≠ 0 → ∀ n a, Lst h (Ev.u_ow E (o1)) 1001 1003 G (E.mr G) n a → Lst h1 (Ev.u_ow E (o1)) 1001 1003 G (E.mr G) n a := fun G hG hne n a L => L.off K w (f7 G hG hne) (Or.inl rfl) (Or.inr rfl)
    have L2 : Lst h1 (Ev.u_ow E (o1)) 1001 1003 0 (E.mr 0) (A.np + 1) E.mp := by
      obtain ⟨o, e, q, B, hq, hk⟩ := L1
      refine ⟨o, e, q, B.ext (fun i hi => ?_), hq, hk⟩
      unfold upN
      split
      · rename_i z; rw [z]
      · rfl
    exact H1.x.lists K w f1 L2 (LL 1 (by decide) (by decide) _ _ H1.x.ls) (LL 2 (by decide) (by decide) _ _ H1.x.ld) (LL 3 (by decide) (by decide) _ _ H1.x.lc) (LL 4 (by decide) (by decide) _ _ H1.x.ll) ⟨hn, n.2.1, n.2.2.1, n.2.2.2.1, n.2.2.2.2⟩
  · have Pk : RMp h (Ev.u_ow E (o1)) A k := by
      by_cases e : k = A.np
      · rw [e]; exact P1
      · exact H1.p k (by have : k < A.np + 1 := hk; omega)
    exact Pk.keep K w (f2 k hk (fun e => e ▸ P1))
theorem RM.addS (H : RM h E A) (X : Ix A) (P : RMs h E A A.ns) (hn : A.ns < 4) (r1 : kz h + 1 ≤ kza h) (r2 : ks h + 300 ≤ ksa h) :
    ∃ h1 o1, f_J2_add (E.mr 1) (E.ms A.ns) h = some (.inl 1, h1) ∧ (∀ m, m ≤ kz h → o1 m = E.ow m) ∧ RM h1 (Ev.u_ow E (o1)) (AS.u_ns A (A.ns + 1)) ∧ Kp (wl_ h (E.mr 1)) 1 300 h h1 := by
  have w := H.w
  have n := H.x.n
  obtain ⟨h1, o1, e1, ho, L1, K⟩ := Lst.add w H.x.ls (v := E.ms A.ns) (by rw [P.c.1]; decide) (by omega) r1 r2
  have H1 := H.ev (eqM_ow H ho) X
  have P1 := P.ow w ho
  obtain ⟨f1, f2, f3, f4, f5, f6, f7⟩ := mr_off H1 (F := 1) (by decide) H1.x.ls
  refine ⟨h1, o1, e1, ho, ⟨K.w w, ?_, fun k hk => (H1.p k hk).keep K w (f2 k (Nat.lt_succ_of_lt hk) (fun e => absurd hk (by rw [e]; exact Nat.lt_irrefl _))), fun k hk => ?_, fun k hk => (H1.d k hk).keep K w (f4 k), fun k hk => (H1.c k hk).keep K w (f5 k (Nat.lt_succ_of_lt hk) (fun e => absurd hk (by rw [e]; exact Nat.lt_irrefl _))), fun k hk => (H1.l k hk).keep K w (f6 k)⟩, K⟩
  · have LL : ∀ G, G < 5 → G ≠ 1 → ∀ n a, Lst h (Ev.u_ow E (o1)) 1001 1003 G (E.mr G) n a → Lst h1 (Ev.u_ow E (o1)) 1001 1003 G (E.mr G) n a := fun G hG hne n a L => L.off K w (f7 G hG hne) (Or.inl rfl) (Or.inr rfl)
    have L2 : Lst h1 (Ev.u_ow E (o1)) 1001 1003 1 (E.mr 1) (A.ns + 1) E.ms := by
      obtain ⟨o, e, q, B, hq, hk⟩ := L1
      refine ⟨o, e, q, B.ext (fun i hi => ?_), hq, hk⟩
      unfold upN
      split
      · rename_i z; rw [z]
      · rfl
    exact H1.x.lists K w f1 (LL 0 (by decide) (by decide) _ _ H1.x.lp) L2 (LL 2 (by decide) (by decide) _ _ H1.x.ld) (LL 3 (by decide) (by decide) _ _ H1.x.lc) (LL 4 (by decide) (by decide) _ _ H1.x.ll) ⟨n.1, hn, n.2.2.1, n.2.2.2.1, n.2.2.2.2⟩
  · have Pk : RMs h (Ev.u_ow E (o1)) A k := by
      by_cases e : k = A.ns
      · rw [e]; exact P1
      · exact H1.s k (by have : k < A.ns + 1 := hk; omega)
    exact Pk.keep K w (f3 k)
theorem RM.addD (H : RM h E A) (X : Ix A) (P : RMd h E A A.nd) (hn : A.nd < 4) (r1 : kz h + 1 ≤ kza h) (r2 : ks h + 300 ≤ ksa h) :
    ∃ h1 o1, f_J2_add (E.mr 2) (E.md A.nd) h = some (.inl 1, h1) ∧ (∀ m, m ≤ kz h → o1 m = E.ow m) ∧ RM h1 (Ev.u_ow E (o1)) (AS.u_nd A (A.nd + 1)) ∧ Kp (wl_ h (E.mr 2)) 1 300 h h1 := by
  have w := H.w
  have n := H.x.n
  obtain ⟨h1, o1, e1, ho, L1, K⟩ := Lst.add w H.x.ld (v := E.md A.nd) (by rw [P.c.1]; decide) (by omega) r1 r2
  have H1 := H.ev (eqM_ow H ho) X
  have P1 := P.ow w ho
  obtain ⟨f1, f2, f3, f4, f5, f6, f7⟩ := mr_off H1 (F := 2) (by decide) H1.x.ld
  refine ⟨h1, o1, e1, ho, ⟨K.w w, ?_, fun k hk => (H1.p k hk).keep K w (f2 k (Nat.lt_succ_of_lt hk) (fun e => absurd hk (by rw [e]; exact Nat.lt_irrefl _))), fun k hk => (H1.s k hk).keep K w (f3 k), fun k hk => ?_, fun k hk => (H1.c k hk).keep K w (f5 k (Nat.lt_succ_of_lt hk) (fun e => absurd hk (by rw [e]; exact Nat.lt_irrefl _))), fun k hk => (H1.l k hk).keep K w (f6 k)⟩, K⟩
  · have LL : ∀ G, G < 5 → G ≠ 2 → ∀ n a, Lst h (Ev.u_ow E (o1)) 1001 1003 G (E.mr G) n a → Lst h1 (Ev.u_ow E (o1)) 1001 1003 G (E.mr G) n a := fun G hG hne n a L => L.off K w (f7 G hG hne) (Or.inl rfl) (Or.inr rfl)
    have L2 : Lst h1 (Ev.u_ow E (o1)) 1001 1003 2 (E.mr 2) (A.nd + 1) E.md := by
      obtain ⟨o, e, q, B, hq, hk⟩ := L1
      refine ⟨o, e, q, B.ext (fun i hi => ?_), hq, hk⟩
      unfold upN
      split
      · rename_i z; rw [z]
      · rfl
    exact H1.x.lists K w f1 (LL 0 (by decide) (by decide) _ _ H1.x.lp) (LL 1 (by decide) (by decide) _ _ H1.x.ls) L2 (LL 3 (by decide) (by decide) _ _ H1.x.lc) (LL 4 (by decide) (by decide) _ _ H1.x.ll) ⟨n.1, n.2.1, hn, n.2.2.2.1, n.2.2.2.2⟩
  · have Pk : RMd h (Ev.u_ow E (o1)) A k := by
      by_cases e : k = A.nd
      · rw [e]; exact P1
      · exact H1.d k (by have : k < A.nd + 1 := hk; omega)
    exact Pk.keep K w (f4 k)
theorem RM.addC (H : RM h E A) (X : Ix A) (P : RMc h E A A.nc) (hn : A.nc < 50) (r1 : kz h + 1 ≤ kza h) (r2 : ks h + 300 ≤ ksa h) :
    ∃ h1 o1, f_J2_add (E.mr 3) (E.mc A.nc) h = some (.inl 1, h1) ∧ (∀ m, m ≤ kz h → o1 m = E.ow m) ∧ RM h1 (Ev.u_ow E (o1)) (AS.u_nc A (A.nc + 1)) ∧ Kp (wl_ h (E.mr 3)) 1 300 h h1 := by
  have w := H.w
  have n := H.x.n
  obtain ⟨h1, o1, e1, ho, L1, K⟩ := Lst.add w H.x.lc (v := E.mc A.nc) (by rw [P.c.1]; decide) (by omega) r1 r2
  have H1 := H.ev (eqM_ow H ho) X
  have P1 := P.ow w ho
  obtain ⟨f1, f2, f3, f4, f5, f6, f7⟩ := mr_off H1 (F := 3) (by decide) H1.x.lc
  refine ⟨h1, o1, e1, ho, ⟨K.w w, ?_, fun k hk => (H1.p k hk).keep K w (f2 k (Nat.lt_succ_of_lt hk) (fun e => absurd hk (by rw [e]; exact Nat.lt_irrefl _))), fun k hk => (H1.s k hk).keep K w (f3 k), fun k hk => (H1.d k hk).keep K w (f4 k), fun k hk => ?_, fun k hk => (H1.l k hk).keep K w (f6 k)⟩, K⟩
  · have LL : ∀ G, G < 5 → G ≠ 3 → ∀ n a, Lst h (Ev.u_ow E (o1)) 1001 1003 G (E.mr G) n a → Lst h1 (Ev.u_ow E (o1)) 1001 1003 G (E.mr G) n a := fun G hG hne n a L => L.off K w (f7 G hG hne) (Or.inl rfl) (Or.inr rfl)
    have L2 : Lst h1 (Ev.u_ow E (o1)) 1001 1003 3 (E.mr 3) (A.nc + 1) E.mc := by
      obtain ⟨o, e, q, B, hq, hk⟩ := L1
      refine ⟨o, e, q, B.ext (fun i hi => ?_), hq, hk⟩
      unfold upN
      split
      · rename_i z; rw [z]
      · rfl
    exact H1.x.lists K w f1 (LL 0 (by decide) (by decide) _ _ H1.x.lp) (LL 1 (by decide) (by decide) _ _ H1.x.ls) (LL 2 (by decide) (by decide) _ _ H1.x.ld) L2 (LL 4 (by decide) (by decide) _ _ H1.x.ll) ⟨n.1, n.2.1, n.2.2.1, hn, n.2.2.2.2⟩
  · have Pk : RMc h (Ev.u_ow E (o1)) A k := by
      by_cases e : k = A.nc
      · rw [e]; exact P1
      · exact H1.c k (by have : k < A.nc + 1 := hk; omega)
    exact Pk.keep K w (f5 k hk (fun e => e ▸ P1))
theorem RM.addL (H : RM h E A) (X : Ix A) (P : RMl h E A A.nl) (hn : A.nl < 20) (r1 : kz h + 1 ≤ kza h) (r2 : ks h + 300 ≤ ksa h) :
    ∃ h1 o1, f_J2_add (E.mr 4) (E.ml A.nl) h = some (.inl 1, h1) ∧ (∀ m, m ≤ kz h → o1 m = E.ow m) ∧ RM h1 (Ev.u_ow E (o1)) (AS.u_nl A (A.nl + 1)) ∧ Kp (wl_ h (E.mr 4)) 1 300 h h1 := by
  have w := H.w
  have n := H.x.n
  obtain ⟨h1, o1, e1, ho, L1, K⟩ := Lst.add w H.x.ll (v := E.ml A.nl) (by rw [P.c.1]; decide) (by omega) r1 r2
  have H1 := H.ev (eqM_ow H ho) X
  have P1 := P.ow w ho
  obtain ⟨f1, f2, f3, f4, f5, f6, f7⟩ := mr_off H1 (F := 4) (by decide) H1.x.ll
  refine ⟨h1, o1, e1, ho, ⟨K.w w, ?_, fun k hk => (H1.p k hk).keep K w (f2 k (Nat.lt_succ_of_lt hk) (fun e => absurd hk (by rw [e]; exact Nat.lt_irrefl _))), fun k hk => (H1.s k hk).keep K w (f3 k), fun k hk => (H1.d k hk).keep K w (f4 k), fun k hk => (H1.c k hk).keep K w (f5 k (Nat.lt_succ_of_lt hk) (fun e => absurd hk (by rw [e]; exact Nat.lt_irrefl _))), fun k hk => ?_⟩, K⟩
  · have LL : ∀ G, G < 5 → G ≠ 4 → ∀ n a, Lst h (Ev.u_ow E (o1)) 1001 1003 G (E.mr G) n a → Lst h1 (Ev.u_ow E (o1)) 1001 1003 G (E.mr G) n a := fun G hG hne n a L => L.off K w (f7 G hG hne) (Or.inl rfl) (Or.inr rfl)
    have L2 : Lst h1 (Ev.u_ow E (o1)) 1001 1003 4 (E.mr 4) (A.nl + 1) E.ml := by
      obtain ⟨o, e, q, B, hq, hk⟩ := L1
      refine ⟨o, e, q, B.ext (fun i hi => ?_), hq, hk⟩
      unfold upN
      split
      · rename_i z; rw [z]
      · rfl
    exact H1.x.lists K w f1 (LL 0 (by decide) (by decide) _ _ H1.x.lp) (LL 1 (by decide) (by decide) _ _ H1.x.ls) (LL 2 (by decide) (by decide) _ _ H1.x.ld) (LL 3 (by decide) (by decide) _ _ H1.x.lc) L2 ⟨n.1, n.2.1, n.2.2.1, n.2.2.2.1, hn⟩
  · have Pk : RMl h (Ev.u_ow E (o1)) A k := by
      by_cases e : k = A.nl
      · rw [e]; exact P1
      · exact H1.l k (by have : k < A.nl + 1 := hk; omega)
    exact Pk.keep K w (f6 k)
end add
end P16

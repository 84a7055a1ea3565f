section P14
section add
variable {h : Hp} {E : Ev} {A : AS} {k : Nat} {o1 : Nat → Nat × Nat × Nat}
theorem RSp.ow (w : WB h) (ho : ∀ m, m ≤ kz h → o1 m = E.ow m) (P : RSp h E A k) : RSp h (Ev.u_ow E (o1)) A k :=
  ⟨P.c.ev w ho (by decide), P.no, P.th, P.i, P.l, P.cl, ⟨P.yl.1, P.yl.2.ev w ho (fun _ _ => rfl)⟩, fun j hj => ⟨(P.y j hj).1.ev w ho (by decide), (P.y j hj).2⟩, P.he.1, fun z => ⟨(P.he.2 z).1, (P.he.2 z).2.1.ev w ho (by decide), (P.he.2 z).2.2⟩⟩
theorem RSs.ow (w : WB h) (ho : ∀ m, m ≤ kz h → o1 m = E.ow m) (P : RSs h E A k) : RSs h (Ev.u_ow E (o1)) A k := ⟨P.c.ev w ho (by decide), P.no, P.i⟩
theorem RSd.ow (w : WB h) (ho : ∀ m, m ≤ kz h → o1 m = E.ow m) (P : RSd h E A k) : RSd h (Ev.u_ow E (o1)) A k := ⟨P.c.ev w ho (by decide), P.no, P.i, P.l⟩
theorem RSc.ow (w : WB h) (ho : ∀ m, m ≤ kz h → o1 m = E.ow m) (P : RSc h E A k) : RSc h (Ev.u_ow E (o1)) A k :=
  ⟨P.c.ev w ho (by decide), P.no, P.th, P.i, P.l, P.co, ⟨P.wl.1, P.wl.2.1.ev w ho (fun _ _ => rfl), P.wl.2.2⟩, fun j hj => ⟨(P.w j hj).1.ev w ho (by decide), (P.w j hj).2⟩⟩
theorem RSl.ow (w : WB h) (ho : ∀ m, m ≤ kz h → o1 m = E.ow m) (P : RSl h E A k) : RSl h (Ev.u_ow E (o1)) A k := ⟨P.c.ev w ho (by decide), P.no, P.i, P.lo⟩
theorem rl_ne (H : RS h E A) {F G : Nat} (hF : F < 5) (hG : G < 5) (hne : F ≠ G) : E.rl F ≠ E.rl G := by
  have g : ∀ F, F < 5 → E.ow (E.rl F) = (3, F, 0) := by
    intro F hF
    have X := H.x
    match F, hF with
    | 0, _ => exact X.lp.1
    | 1, _ => exact X.ls.1
    | 2, _ => exact X.ld.1
    | 3, _ => exact X.lc.1
    | 4, _ => exact X.ll.1
  intro e
  have a := g F hF
  rw [e, g G hG] at a
  simp at a
  exact hne a.symm
theorem rl_ow (H : RS h E A) {F : Nat} (hF : F < 5) : E.ow (E.rl F) = (3, F, 0) := by
  have X := H.x
  match F, hF with
  | 0, _ => exact X.lp.1
  | 1, _ => exact X.ls.1
  | 2, _ => exact X.ld.1
  | 3, _ => exact X.lc.1
  | 4, _ => exact X.ll.1
/-- a write into the row list F leaves the rest -/
theorem rl_off (H : RS h E A) {F : Nat} (hF : F < 5) {n : Nat} {a : Nat → Nat} (L : Lst h E 0 3 F (E.rl F) n a) :
    off h E (wl_ h (E.rl F)) (fun z => 1 ≤ z.1 ∧ z.1 ≤ 10 ∧ z.1 ≠ 3) ∧ (∀ k, k < A.np + 1 → (k = A.np → RSp h E A k) → off h E (wl_ h (E.rl F)) (fp E k)) ∧ (∀ k, off h E (wl_ h (E.rl F)) (fs k)) ∧ (∀ k, off h E (wl_ h (E.rl F)) (fd k)) ∧ (∀ k, k < A.nc + 1 → (k = A.nc → RSc h E A k) → off h E (wl_ h (E.rl F)) (fc E k)) ∧ (∀ k, off h E (wl_ h (E.rl F)) (fl k)) ∧ (∀ G, G < 5 → G ≠ F → off h E (wl_ h (E.rl F)) (fun z => z = (3, G, 0) ∨ z = (0, E.rl G, 0))) := by
  have w := H.w
  have ho := rl_ow H hF
  refine ⟨lst_wl w L (by simp) (by simp), fun k hk hp => lst_wl w L (by simp) ?_, fun k => lst_wl w L (by simp) (by simp), fun k => lst_wl w L (by simp) (by simp), fun k hk hc => lst_wl w L (by simp) ?_, fun k => lst_wl w L (by simp) (by simp), fun G hG hne => lst_wl w L (by simp; omega) ?_⟩
  · have P : RSp h E A k := by
      by_cases e : k = A.np
      · exact hp e
      · exact H.p k (by omega)
    have hy := P.yl.2.1
    simp
    intro e
    rw [← e, ho] at hy
    simp at hy
  · have P : RSc h E A k := by
      by_cases e : k = A.nc
      · exact hc e
      · exact H.c k (by omega)
    have hy := P.wl.2.1.1
    simp
    intro e
    rw [← e, ho] at hy
    simp at hy
  · have := rl_ne H hF hG (Ne.symm hne)
    simp
    exact this
theorem RS.addP (H : RS h E A) (X : Ix A) (P : RSp h E A A.np) (hn : A.np < 50) (r1 : kz h + 1 ≤ kza h) (r2 : ks h + 300 ≤ ksa h) :
    ∃ h1 o1, f_J2_add (E.rl 0) (E.sp A.np) h = some (.inl 1, h1) ∧ (∀ m, m ≤ kz h → o1 m = E.ow m) ∧ RS h1 (Ev.u_ow E (o1)) (AS.u_np A (A.np + 1)) ∧ Kp (wl_ h (E.rl 0)) 1 300 h h1 := by
  have w := H.w
  obtain ⟨h1, o1, e1, ho, L1, K⟩ := Lst.add w H.x.lp (v := E.sp A.np) (by rw [P.c.1]; decide) (by omega) r1 r2
  have H1 := H.ev (eqS_ow H ho) X
  have P1 := P.ow w ho
  obtain ⟨f1, f2, f3, f4, f5, f6, f7⟩ := rl_off H1 (F := 0) (by decide) H1.x.lp
  have n := H.x.n
  refine ⟨h1, o1, e1, ho, ⟨K.w w, ?_, fun k hk => ?_, fun k hk => (H1.s k hk).keep K w (f3 k), fun k hk => (H1.d k hk).keep K w (f4 k), fun k hk => (H1.c k hk).keep K w (f5 k (Nat.lt_succ_of_lt hk) (fun e => absurd hk (by rw [e]; exact Nat.lt_irrefl _))), fun k hk => (H1.l k hk).keep K w (f6 k)⟩, K⟩
  · have LL : ∀ G, G < 5 → G ≠ 0 → ∀ n a, Lst h (Ev.u_ow E (o1)) 0 3 G (E.rl G) n a → Lst h1 (Ev.u_ow E (o1)) 0 3 G (E.rl G) n a := fun G hG hne n a L => L.off K w (f7 G hG hne) (Or.inl rfl) (Or.inr rfl)
    have L2 : Lst h1 (Ev.u_ow E (o1)) 0 3 0 (E.rl 0) (A.np + 1) E.sp := by
      obtain ⟨o, e, q, B, hq, hk⟩ := L1
      refine ⟨o, e, q, B.ext (fun i hi => ?_), hq, hk⟩
      unfold upN
      split
      · rename_i z; rw [z]
      · rfl
    exact H1.x.lists K w f1 L2 (LL 1 (by decide) (by decide) _ _ H1.x.ls) (LL 2 (by decide) (by decide) _ _ H1.x.ld) (LL 3 (by decide) (by decide) _ _ H1.x.lc) (LL 4 (by decide) (by decide) _ _ H1.x.ll) ⟨by omega, n.2⟩
  · have Pk : RSp h (Ev.u_ow E (o1)) A k := by
      by_cases e : k = A.np
      · rw [e]; exact P1
      · exact H1.p k (by have : k < A.np + 1 := hk; omega)
    exact Pk.keep K w (f2 k hk (fun e => e ▸ P1))
end add
end P14

section P15
section add
variable {h : Hp} {E : Ev} {A : AS} {k : Nat}
theorem RS.addS (H : RS h E A) (X : Ix A) (P : RSs h E A A.ns) (hn : A.ns < 4) (r1 : kz h + 1 ≤ kza h) (r2 : ks h + 300 ≤ ksa h) :
    ∃ h1 o1, f_J2_add (E.rl 1) (E.ss A.ns) h = some (.inl 1, h1) ∧ (∀ m, m ≤ kz h → o1 m = E.ow m) ∧ RS h1 (Ev.u_ow E (o1)) (AS.u_ns A (A.ns + 1)) ∧ Kp (wl_ h (E.rl 1)) 1 300 h h1 := by
  have w := H.w
  have n := H.x.n
  obtain ⟨h1, o1, e1, ho, L1, K⟩ := Lst.add w H.x.ls (v := E.ss A.ns) (by rw [P.c.1]; decide) (by omega) r1 r2
  have H1 := H.ev (eqS_ow H ho) X
  have P1 := P.ow w ho
  obtain ⟨f1, f2, f3, f4, f5, f6, f7⟩ := rl_off H1 (F := 1) (by decide) H1.x.ls
  refine ⟨h1, o1, e1, ho, ⟨K.w w, ?_, fun k hk => (H1.p k hk).keep K w (f2 k (Nat.lt_succ_of_lt hk) (fun e => absurd hk (by rw [e]; exact Nat.lt_irrefl _))), fun k hk => ?_, fun k hk => (H1.d k hk).keep K w (f4 k), fun k hk => (H1.c k hk).keep K w (f5 k (Nat.lt_succ_of_lt hk) (fun e => absurd hk (by rw [e]; exact Nat.lt_irrefl _))), fun k hk => (H1.l k hk).keep K w (f6 k)⟩, K⟩
  · have LL : ∀ G, G < 5 → G ≠ 1 → ∀ n a, Lst h (Ev.u_ow E (o1)) 0 3 G (E.rl G) n a → Lst h1 (Ev.u_ow E (o1)) 0 3 G (E.rl G) n a := fun G hG hne n a L => L.off K w (f7 G hG hne) (Or.inl rfl) (Or.inr rfl)
    have L2 : Lst h1 (Ev.u_ow E (o1)) 0 3 1 (E.rl 1) (A.ns + 1) E.ss := by
      obtain ⟨o, e, q, B, hq, hk⟩ := L1
      refine ⟨o, e, q, B.ext (fun i hi => ?_), hq, hk⟩
      unfold upN
      split
      · rename_i z; rw [z]
      · rfl
    exact H1.x.lists K w f1 (LL 0 (by decide) (by decide) _ _ H1.x.lp) L2 (LL 2 (by decide) (by decide) _ _ H1.x.ld) (LL 3 (by decide) (by decide) _ _ H1.x.lc) (LL 4 (by decide) (by decide) _ _ H1.x.ll) ⟨n.1, hn, n.2.2.1, n.2.2.2.1, n.2.2.2.2⟩
  · have Pk : RSs h (Ev.u_ow E (o1)) A k := by
      by_cases e : k = A.ns
      · rw [e]; exact P1
      · exact H1.s k (by have : k < A.ns + 1 := hk; omega)
    exact Pk.keep K w (f3 k)
theorem RS.addD (H : RS h E A) (X : Ix A) (P : RSd h E A A.nd) (hn : A.nd < 4) (r1 : kz h + 1 ≤ kza h) (r2 : ks h + 300 ≤ ksa h) :
    ∃ h1 o1, f_J2_add (E.rl 2) (E.sd A.nd) h = some (.inl 1, h1) ∧ (∀ m, m ≤ kz h → o1 m = E.ow m) ∧ RS h1 (Ev.u_ow E (o1)) (AS.u_nd A (A.nd + 1)) ∧ Kp (wl_ h (E.rl 2)) 1 300 h h1 := by
  have w := H.w
  have n := H.x.n
  obtain ⟨h1, o1, e1, ho, L1, K⟩ := Lst.add w H.x.ld (v := E.sd A.nd) (by rw [P.c.1]; decide) (by omega) r1 r2
  have H1 := H.ev (eqS_ow H ho) X
  have P1 := P.ow w ho
  obtain ⟨f1, f2, f3, f4, f5, f6, f7⟩ := rl_off H1 (F := 2) (by decide) H1.x.ld
  refine ⟨h1, o1, e1, ho, ⟨K.w w, ?_, fun k hk => (H1.p k hk).keep K w (f2 k (Nat.lt_succ_of_lt hk) (fun e => absurd hk (by rw [e]; exact Nat.lt_irrefl _))), fun k hk => (H1.s k hk).keep K w (f3 k), fun k hk => ?_, fun k hk => (H1.c k hk).keep K w (f5 k (Nat.lt_succ_of_lt hk) (fun e => absurd hk (by rw [e]; exact Nat.lt_irrefl _))), fun k hk => (H1.l k hk).keep K w (f6 k)⟩, K⟩
  · have LL : ∀ G, G < 5 → G ≠ 2 → ∀ n a, Lst h (Ev.u_ow E (o1)) 0 3 G (E.rl G) n a → Lst h1 (Ev.u_ow E (o1)) 0 3 G (E.rl G) n a := fun G hG hne n a L => L.off K w (f7 G hG hne) (Or.inl rfl) (Or.inr rfl)
    have L2 : Lst h1 (Ev.u_ow E (o1)) 0 3 2 (E.rl 2) (A.nd + 1) E.sd := by
      obtain ⟨o, e, q, B, hq, hk⟩ := L1
      refine ⟨o, e, q, B.ext (fun i hi => ?_), hq, hk⟩
      unfold upN
      split
      · rename_i z; rw [z]
      · rfl
    exact H1.x.lists K w f1 (LL 0 (by decide) (by decide) _ _ H1.x.lp) (LL 1 (by decide) (by decide) _ _ H1.x.ls) L2 (LL 3 (by decide) (by decide) _ _ H1.x.lc) (LL 4 (by decide) (by decide) _ _ H1.x.ll) ⟨n.1, n.2.1, hn, n.2.2.2.1, n.2.2.2.2⟩
  · have Pk : RSd h (Ev.u_ow E (o1)) A k := by
      by_cases e : k = A.nd
      · rw [e]; exact P1
      · exact H1.d k (by have : k < A.nd + 1 := hk; omega)
    exact Pk.keep K w (f4 k)
theorem RS.addC (H : RS h E A) (X : Ix A) (P : RSc h E A A.nc) (hn : A.nc < 50) (r1 : kz h + 1 ≤ kza h) (r2 : ks h + 300 ≤ ksa h) :
    ∃ h1 o1, f_J2_add (E.rl 3) (E.sc A.nc) h = some (.inl 1, h1) ∧ (∀ m, m ≤ kz h → o1 m = E.ow m) ∧ RS h1 (Ev.u_ow E (o1)) (AS.u_nc A (A.nc + 1)) ∧ Kp (wl_ h (E.rl 3)) 1 300 h h1 := by
  have w := H.w
  have n := H.x.n
  obtain ⟨h1, o1, e1, ho, L1, K⟩ := Lst.add w H.x.lc (v := E.sc A.nc) (by rw [P.c.1]; decide) (by omega) r1 r2
  have H1 := H.ev (eqS_ow H ho) X
  have P1 := P.ow w ho
  obtain ⟨f1, f2, f3, f4, f5, f6, f7⟩ := rl_off H1 (F := 3) (by decide) H1.x.lc
  refine ⟨h1, o1, e1, ho, ⟨K.w w, ?_, fun k hk => (H1.p k hk).keep K w (f2 k (Nat.lt_succ_of_lt hk) (fun e => absurd hk (by rw [e]; exact Nat.lt_irrefl _))), fun k hk => (H1.s k hk).keep K w (f3 k), fun k hk => (H1.d k hk).keep K w (f4 k), fun k hk => ?_, fun k hk => (H1.l k hk).keep K w (f6 k)⟩, K⟩
  · have LL : ∀ G, G < 5 → G ≠ 3 → ∀ n a, Lst h (Ev.u_ow E (o1)) 0 3 G (E.rl G) n a → Lst h1 (Ev.u_ow E (o1)) 0 3 G (E.rl G) n a := fun G hG hne n a L => L.off K w (f7 G hG hne) (Or.inl rfl) (Or.inr rfl)
    have L2 : Lst h1 (Ev.u_ow E (o1)) 0 3 3 (E.rl 3) (A.nc + 1) E.sc := by
      obtain ⟨o, e, q, B, hq, hk⟩ := L1
      refine ⟨o, e, q, B.ext (fun i hi => ?_), hq, hk⟩
      unfold upN
      split
      · rename_i z; rw [z]
      · rfl
    exact H1.x.lists K w f1 (LL 0 (by decide) (by decide) _ _ H1.x.lp) (LL 1 (by decide) (by decide) _ _ H1.x.ls) (LL 2 (by decide) (by decide) _ _ H1.x.ld) L2 (LL 4 (by decide) (by decide) _ _ H1.x.ll) ⟨n.1, n.2.1, n.2.2.1, hn, n.2.2.2.2⟩
  · have Pk : RSc h (Ev.u_ow E (o1)) A k := by
      by_cases e : k = A.nc
      · rw [e]; exact P1
      · exact H1.c k (by have : k < A.nc + 1 := hk; omega)
    exact Pk.keep K w (f5 k hk (fun e => e ▸ P1))
theorem RS.addL (H : RS h E A) (X : Ix A) (P : RSl h E A A.nl) (hn : A.nl < 20) (r1 : kz h + 1 ≤ kza h) (r2 : ks h + 300 ≤ ksa h) :
    ∃ h1 o1, f_J2_add (E.rl 4) (E.sl A.nl) h = some (.inl 1, h1) ∧ (∀ m, m ≤ kz h → o1 m = E.ow m) ∧ RS h1 (Ev.u_ow E (o1)) (AS.u_nl A (A.nl + 1)) ∧ Kp (wl_ h (E.rl 4)) 1 300 h h1 := by
  have w := H.w
  have n := H.x.n
  obtain ⟨h1, o1, e1, ho, L1, K⟩ := Lst.add w H.x.ll (v := E.sl A.nl) (by rw [P.c.1]; decide) (by omega) r1 r2
  have H1 := H.ev (eqS_ow H ho) X
  have P1 := P.ow w ho
  obtain ⟨f1, f2, f3, f4, f5, f6, f7⟩ := rl_off H1 (F := 4) (by decide) H1.x.ll
  refine ⟨h1, o1, e1, ho, ⟨K.w w, ?_, fun k hk => (H1.p k hk).keep K w (f2 k (Nat.lt_succ_of_lt hk) (fun e => absurd hk (by rw [e]; exact Nat.lt_irrefl _))), fun k hk => (H1.s k hk).keep K w (f3 k), fun k hk => (H1.d k hk).keep K w (f4 k), fun k hk => (H1.c k hk).keep K w (f5 k (Nat.lt_succ_of_lt hk) (fun e => absurd hk (by rw [e]; exact Nat.lt_irrefl _))), fun k hk => ?_⟩, K⟩
  · have LL : ∀ G, G < 5 → G ≠ 4 → ∀ n a, Lst h (Ev.u_ow E (o1)) 0 3 G (E.rl G) n a → Lst h1 (Ev.u_ow E (o1)) 0 3 G (E.rl G) n a := fun G hG hne n a L => L.off K w (f7 G hG hne) (Or.inl rfl) (Or.inr rfl)
    have L2 : Lst h1 (Ev.u_ow E (o1)) 0 3 4 (E.rl 4) (A.nl + 1) E.sl := by
      obtain ⟨o, e, q, B, hq, hk⟩ := L1
      refine ⟨o, e, q, B.ext (fun i hi => ?_), hq, hk⟩
      unfold upN
      split
      · rename_i z; rw [z]
      · rfl
    exact H1.x.lists K w f1 (LL 0 (by decide) (by decide) _ _ H1.x.lp) (LL 1 (by decide) (by decide) _ _ H1.x.ls) (LL 2 (by decide) (by decide) _ _ H1.x.ld) (LL 3 (by decide) (by decide) _ _ H1.x.lc) L2 ⟨n.1, n.2.1, n.2.2.1, n.2.2.2.1, hn⟩
  · have Pk : RSl h (Ev.u_ow E (o1)) A k := by
      by_cases e : k = A.nl
      · rw [e]; exact P1
      · exact H1.l k (by have : k < A.nl + 1 := hk; omega)
    exact Pk.keep K w (f6 k)
end add
end P15

section P13
section add
variable {h : Hp} {E : Ev} {A : AS} {k : Nat}
/-- what the write of a list's add may touch -/
abbrev wl_ (h : Hp) (r : Nat) : Nat → Prop := fun m => m = r ∨ (m = kR h 1701 r ∧ kC h (kR h 1701 r) = 103)
theorem Lst.add {T t i r n v : Nat} {a : Nat → Nat} (w : WB h) (H : Lst h E T t i r n a) (hv : kC h v ≠ 0) (hn : n < 200) (r1 : kz h + 1 ≤ kza h) (r2 : ks h + 300 ≤ ksa h) :
    ∃ h1 o1, f_J2_add r v h = some (.inl 1, h1) ∧ (∀ m, m ≤ kz h → o1 m = E.ow m) ∧ Lst h1 (Ev.u_ow E (o1)) T t i r (n + 1) (upN a n v) ∧ Kp (wl_ h r) 1 300 h h1 := by
  obtain ⟨o, e, q, L, hq, hk⟩ := H
  have hb := L.b
  obtain ⟨l1, l2, -, -⟩ := L.lt w
  by_cases hc : n < q
  · obtain ⟨h1, e1, A1, K1⟩ := s_addN w L hv hc
    have k1 : kC h e = 103 := by
      rcases L.k with k | k
      · omega
      · exact k.1
    refine ⟨h1, E.ow, e1, fun _ _ => rfl, ⟨o, e, q, A1, hq, fun z => hk k1⟩, (K1.to (fun m z => z.imp id (fun z => ?_))).le (by omega) (by omega)⟩
    rw [L.el]
    exact ⟨z, k1⟩
  · have hn2 : n = q := by omega
    have hq2 : nq q ≤ 300 := by
      unfold nq
      split <;> omega
    obtain ⟨h1, e1, A1, K1⟩ := s_addG w L hv hn2 hq r1 (by omega)
    refine ⟨h1, upN E.ow (kz h + 1) (T, r, 0), e1, fun m hm => upN_ne _ _ (by omega), ⟨?_, _, _, A1, hq2, fun z => ?_⟩, (K1.to (fun _ => Or.inl)).le (by omega) hq2⟩
    · show upN E.ow (kz h + 1) (T, r, 0) r = _
      rw [upN_ne _ _ (by omega)]; exact o
    · exact upN_at _ _ _
theorem lst_wl {f : Nat × Nat × Nat → Prop} {T t i r n : Nat} {a : Nat → Nat} (w : WB h) (H : Lst h E T t i r n a) (h1 : ¬ f (t, i, 0)) (h2 : ¬ f (T, r, 0)) : off h E (wl_ h r) f := off_list w H rfl h1 h2
theorem eqS_ow (H : RS h E A) {o1 : Nat → Nat × Nat × Nat} (ho : ∀ m, m ≤ kz h → o1 m = E.ow m) : EqS h E (Ev.u_ow E (o1)) A :=
  ⟨rfl, fun _ _ => ⟨rfl, rfl⟩, rfl, fun _ _ => rfl, rfl, rfl, rfl, rfl, fun _ => rfl, fun _ _ => rfl, fun _ _ => rfl, fun _ _ => rfl, fun _ _ => rfl, fun _ _ => rfl, fun _ _ _ _ => rfl, fun _ _ _ _ => rfl, fun _ _ => rfl, fun _ _ _ => rfl, fun _ _ => rfl, ho⟩
theorem eqM_ow (H : RM h E A) {o1 : Nat → Nat × Nat × Nat} (ho : ∀ m, m ≤ kz h → o1 m = E.ow m) : EqM h E (Ev.u_ow E (o1)) A :=
  ⟨rfl, fun _ _ => rfl, rfl, rfl, fun _ _ => rfl, fun _ _ => rfl, fun _ _ => rfl, fun _ _ => rfl, fun _ _ => rfl, fun _ _ _ _ => rfl, fun _ _ _ _ => rfl, fun _ _ => rfl, fun _ _ => rfl, fun _ _ => rfl, ho⟩
/-- the parts of RSx but the five lists are kept by a write into one of these lists -/
theorem RSx.lists {h1 : Hp} {S : Nat → Prop} {c s : Nat} (K : Kp S c s h h1) (w : WB h) (H : RSx h E A) (hS : off h E S (fun z => 1 ≤ z.1 ∧ z.1 ≤ 10 ∧ z.1 ≠ 3)) {np ns nd nc nl : Nat}
    (lp : Lst h1 E 0 3 0 (E.rl 0) np E.sp) (ls : Lst h1 E 0 3 1 (E.rl 1) ns E.ss) (ld : Lst h1 E 0 3 2 (E.rl 2) nd E.sd) (lc : Lst h1 E 0 3 3 (E.rl 3) nc E.sc) (ll : Lst h1 E 0 3 4 (E.rl 4) nl E.sl) (n : np ≤ 50 ∧ ns ≤ 4 ∧ nd ≤ 4 ∧ nc ≤ 50 ∧ nl ≤ 20) :
    RSx h1 E (AS.u_nl (AS.u_nc (AS.u_nd (AS.u_ns (AS.u_np A (np)) (ns)) (nd)) (nc)) (nl)) := by
  have kp : ∀ {r cc t i j : Nat}, ob h E r cc t i j → cc ≠ 0 → (1 ≤ t ∧ t ≤ 10 ∧ t ≠ 3) → ob h1 E r cc t i j ∧ r ≤ kz h ∧ ¬ S r := fun o a b => ⟨o.keep K w a, o.le w a, o.off w a hS b⟩
  obtain ⟨x1, x2, x3⟩ := kp H.x (by decide) (by simp)
  refine ⟨x1, fun F hF => (K.I F _ x2 x3).trans (H.i F hF), (K.L _ _ x2 x3).trans H.f, fun F hF => ?_, lp, ls, ld, lc, ll, n, ?_, fun i hi => ?_, fun i j hi hj => ?_, ?_, ?_, ?_, ?_, ?_⟩
  · obtain ⟨a1, a2, a3, a4⟩ := H.row F hF
    obtain ⟨b1, b2, b3⟩ := kp a2 (by decide) (by simp)
    exact ⟨(K.R _ _ x2 x3).trans a1, b1, (K.I _ _ b2 b3).trans a3, (K.R _ _ b2 b3).trans a4⟩
  · obtain ⟨a1, a2, a3⟩ := H.gd
    obtain ⟨b1, b2, b3⟩ := kp a2 (by decide) (by simp)
    exact ⟨(K.R _ _ x2 x3).trans a1, b1, (K.N _ b2).trans a3⟩
  · obtain ⟨a1, a2, a3⟩ := H.gr i hi
    obtain ⟨b1, b2, b3⟩ := kp a2 (by decide) (by simp)
    obtain ⟨c1, c2, c3⟩ := kp H.gd.2.1 (by decide) (by simp)
    exact ⟨(K.aR _ _ c2 c3).trans a1, b1, (K.N _ b2).trans a3⟩
  · obtain ⟨b1, b2, b3⟩ := kp (H.gr i hi).2.1 (by decide) (by simp)
    exact (K.aI _ _ b2 b3).trans (H.g i j hi hj)
  · obtain ⟨a1, a2, a3, a4⟩ := H.vs
    obtain ⟨b1, b2, b3⟩ := kp a2 (by decide) (by simp)
    exact ⟨(K.R _ _ x2 x3).trans a1, b1, (K.N _ b2).trans a3, fun i hi => (K.aL _ _ b2 b3).trans (a4 i hi)⟩
  · obtain ⟨a1, a2, a3, a4⟩ := H.vm
    obtain ⟨b1, b2, b3⟩ := kp a2 (by decide) (by simp)
    exact ⟨(K.R _ _ x2 x3).trans a1, b1, (K.N _ b2).trans a3, fun i hi => (K.aI _ _ b2 b3).trans (a4 i hi)⟩
  · obtain ⟨a1, a2, a4⟩ := H.out
    obtain ⟨b1, b2, b3⟩ := kp a2 (by decide) (by simp)
    exact ⟨(K.R _ _ x2 x3).trans a1, b1, fun F hF => (K.L _ _ b2 b3).trans (a4 F hF)⟩
  · obtain ⟨a1, a2, a3, a4⟩ := H.ol
    obtain ⟨b1, b2, b3⟩ := kp a2 (by decide) (by simp)
    obtain ⟨c1, c2, c3⟩ := kp H.out.2.1 (by decide) (by simp)
    exact ⟨(K.R _ _ c2 c3).trans a1, b1, (K.N _ b2).trans a3, fun i hi => (K.aL _ _ b2 b3).trans (a4 i hi)⟩
  · refine ⟨fun z => (K.R _ _ x2 x3).trans (H.deal.1 z), fun z => ?_⟩
    obtain ⟨a1, a2, a4⟩ := H.deal.2 z
    obtain ⟨b1, b2, b3⟩ := kp a2 (by decide) (by simp)
    exact ⟨(K.R _ _ x2 x3).trans a1, b1, fun F hF => (K.I _ _ b2 b3).trans (a4 F hF)⟩
end add
end P13

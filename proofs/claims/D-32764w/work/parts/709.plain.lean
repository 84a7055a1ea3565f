section P9
section arr
variable {h : Hp} {E : Ev} {A : AS} {k i j : Nat}
theorem lt_eq {α : Type} {f g : Nat → α} {n i : Nat} {v : α} (H : ∀ j, j < n → f j = g j) : ∀ j, j < n → (if j = i then v else f j) = upN g i v j := by
  intro j hj
  unfold upN
  split
  · rfl
  · exact H j hj
theorem RS.ol (v : Int64) (H : RS h E A) : RS (tL h E.ol i v) E (AS.u_ol A (upN A.ol i v)) := by
  have K := Kp.tL h E.ol i v
  have o := H.x.ol.2.1
  have X := H.x
  refine ⟨K.w H.w, ⟨X.x, X.i, X.f, X.row, X.lp, X.ls, X.ld, X.lc, X.ll, X.n, X.gd, X.gr, X.g, ⟨X.vs.1, X.vs.2.1, X.vs.2.2.1, fun a ha => ?_⟩, X.vm, X.out, ⟨X.ol.1, o, X.ol.2.2.1, fun a ha => ?_⟩, X.deal⟩, fun k' hk' => (H.p k' hk').keep K H.w (off1 H.w o (by decide) (by simp)), fun k' hk' => (H.s k' hk').keep K H.w (off1 H.w o (by decide) (by simp)), fun k' hk' => (H.d k' hk').keep K H.w (off1 H.w o (by decide) (by simp)), fun k' hk' => (H.c k' hk').keep K H.w (off1 H.w o (by decide) (by simp)), fun k' hk' => (H.l k' hk').keep K H.w (off1 H.w o (by decide) (by simp))⟩
  · rw [jL_tL, if_neg (fun z => ?_)]
    · exact X.vs.2.2.2 a ha
    · have e1 := X.vs.2.1.2
      rw [z.1, o.2] at e1
      simp at e1
  · simp only [jL_tL, true_and]
    exact lt_eq X.ol.2.2.2 a ha
theorem RS.vs (v : Int64) (H : RS h E A) : RS (tL h E.vs i v) E (AS.u_vs A (upN A.vs i v)) := by
  have K := Kp.tL h E.vs i v
  have o := H.x.vs.2.1
  have X := H.x
  refine ⟨K.w H.w, ⟨X.x, X.i, X.f, X.row, X.lp, X.ls, X.ld, X.lc, X.ll, X.n, X.gd, X.gr, X.g, ⟨X.vs.1, X.vs.2.1, X.vs.2.2.1, fun a ha => ?_⟩, X.vm, X.out, ⟨X.ol.1, X.ol.2.1, X.ol.2.2.1, fun a ha => ?_⟩, X.deal⟩, fun k' hk' => (H.p k' hk').keep K H.w (off1 H.w o (by decide) (by simp)), fun k' hk' => (H.s k' hk').keep K H.w (off1 H.w o (by decide) (by simp)), fun k' hk' => (H.d k' hk').keep K H.w (off1 H.w o (by decide) (by simp)), fun k' hk' => (H.c k' hk').keep K H.w (off1 H.w o (by decide) (by simp)), fun k' hk' => (H.l k' hk').keep K H.w (off1 H.w o (by decide) (by simp))⟩
  · simp only [jL_tL, true_and]
    exact lt_eq X.vs.2.2.2 a ha
  · rw [jL_tL, if_neg (fun z => ?_)]
    · exact X.ol.2.2.2 a ha
    · have e1 := X.ol.2.1.2
      rw [z.1, o.2] at e1
      simp at e1
theorem RS.vm (v : Int32) (H : RS h E A) : RS (tI h E.vm i v) E (AS.u_vm A (upN A.vm i v)) := by
  have K := Kp.tI h E.vm i v
  have o := H.x.vm.2.1
  have X := H.x
  refine ⟨K.w H.w, ⟨X.x, X.i, X.f, X.row, X.lp, X.ls, X.ld, X.lc, X.ll, X.n, X.gd, X.gr, fun a b ha hb => ?_, X.vs, ⟨X.vm.1, X.vm.2.1, X.vm.2.2.1, fun a ha => ?_⟩, X.out, X.ol, X.deal⟩, fun k' hk' => (H.p k' hk').keep K H.w (off1 H.w o (by decide) (by simp)), fun k' hk' => (H.s k' hk').keep K H.w (off1 H.w o (by decide) (by simp)), fun k' hk' => (H.d k' hk').keep K H.w (off1 H.w o (by decide) (by simp)), fun k' hk' => (H.c k' hk').keep K H.w (off1 H.w o (by decide) (by simp)), fun k' hk' => (H.l k' hk').keep K H.w (off1 H.w o (by decide) (by simp))⟩
  · rw [jI_tI, if_neg (fun z => ?_)]
    · exact X.g a b ha hb
    · have e1 := (X.gr a ha).2.1.2
      rw [z.1, o.2] at e1
      simp at e1
  · simp only [jI_tI, true_and]
    exact lt_eq X.vm.2.2.2 a ha
theorem RS.g (v : Int32) (H : RS h E A) (hi : i < 5) : RS (tI h (E.gr i) j v) E (AS.u_g A (upd2 A.g i j v)) := by
  have K := Kp.tI h (E.gr i) j v
  have o := (H.x.gr i hi).2.1
  have X := H.x
  refine ⟨K.w H.w, ⟨X.x, X.i, X.f, X.row, X.lp, X.ls, X.ld, X.lc, X.ll, X.n, X.gd, X.gr, fun a b ha hb => ?_, X.vs, ⟨X.vm.1, X.vm.2.1, X.vm.2.2.1, fun a ha => ?_⟩, X.out, X.ol, X.deal⟩, fun k' hk' => (H.p k' hk').keep K H.w (off1 H.w o (by decide) (by simp)), fun k' hk' => (H.s k' hk').keep K H.w (off1 H.w o (by decide) (by simp)), fun k' hk' => (H.d k' hk').keep K H.w (off1 H.w o (by decide) (by simp)), fun k' hk' => (H.c k' hk').keep K H.w (off1 H.w o (by decide) (by simp)), fun k' hk' => (H.l k' hk').keep K H.w (off1 H.w o (by decide) (by simp))⟩
  · show (if E.gr a = E.gr i ∧ b = j then v else jI h (E.gr a) b) = (if a = i ∧ b = j then v else A.g a b)
    by_cases z : a = i
    · subst z
      simp only [true_and]
      split
      · rfl
      · exact X.g a b ha hb
    · rw [if_neg (fun q => z ?_), if_neg (fun q => z q.1)]
      · exact X.g a b ha hb
      · have e1 := (X.gr a ha).2.1.2
        rw [q.1, o.2] at e1
        simp at e1
        exact e1.symm
  · rw [jI_tI, if_neg (fun z => ?_)]
    · exact X.vm.2.2.2 a ha
    · have e1 := X.vm.2.1.2
      rw [z.1, o.2] at e1
      simp at e1
theorem RS.hv (v : Int64) (H : RS h E A) (hk : k < A.np) (hn : A.nh k ≠ 0) : RS (tL h (E.he k) j v) E (AS.u_hv A (upd2 A.hv k j v)) := by
  have K := Kp.tL h (E.he k) j v
  have o := ((H.p k hk).he.2 hn).2.1
  refine ⟨K.w H.w, H.x.keep K H.w (off1 H.w o (by decide) (by simp)), fun k' hk' => ?_, fun k' hk' => (H.s k' hk').keep K H.w (off1 H.w o (by decide) (by simp)), fun k' hk' => (H.d k' hk').keep K H.w (off1 H.w o (by decide) (by simp)), fun k' hk' => (H.c k' hk').keep K H.w (off1 H.w o (by decide) (by simp)), fun k' hk' => (H.l k' hk').keep K H.w (off1 H.w o (by decide) (by simp))⟩
  by_cases e : k' = k
  · subst e
    have P := H.p k' hk
    refine ⟨P.c, P.no, P.th, P.i, P.l, P.cl, P.yl, P.y, P.he.1, fun z => ?_⟩
    obtain ⟨a1, a2, a3, a4, a5⟩ := P.he.2 z
    refine ⟨a1, a2, a3, a4, fun b hb => ?_⟩
    show (if E.he k' = E.he k' ∧ b = j then v else jL h (E.he k') b) = (if k' = k' ∧ b = j then v else A.hv k' b)
    simp only [true_and]
    split
    · rfl
    · exact a5 b hb
  · have Q := (H.p k' hk').keep K H.w (off1 H.w o (by decide) (by simp; omega))
    refine ⟨Q.c, Q.no, Q.th, Q.i, Q.l, Q.cl, Q.yl, Q.y, Q.he.1, fun z => ?_⟩
    obtain ⟨a1, a2, a3, a4, a5⟩ := Q.he.2 z
    refine ⟨a1, a2, a3, a4, fun b hb => ?_⟩
    show _ = (if k' = k ∧ b = j then v else A.hv k' b)
    rw [if_neg (fun q => e q.1)]
    exact a5 b hb
end arr
end P9

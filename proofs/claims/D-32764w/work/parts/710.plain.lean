section P10
section arr
variable {h : Hp} {E : Ev} {A : AS} {k i j : Nat}
theorem RS.yL (v : Int64) (H : RS h E A) (hk : k < A.np) (hj : j < A.ny k) : RS (sL h 1300 (E.sy k j) v) E (AS.u_yL A (upd2 A.yL k j v)) := by
  have K := Kp.sL h 1300 (E.sy k j) v
  have o := ((H.p k hk).y j hj).1
  refine ⟨K.w H.w, H.x.keep K H.w (off1 H.w o (by decide) (by simp)), fun k' hk' => ?_, fun k' hk' => (H.s k' hk').keep K H.w (off1 H.w o (by decide) (by simp)), fun k' hk' => (H.d k' hk').keep K H.w (off1 H.w o (by decide) (by simp)), fun k' hk' => (H.c k' hk').keep K H.w (off1 H.w o (by decide) (by simp)), fun k' hk' => (H.l k' hk').keep K H.w (off1 H.w o (by decide) (by simp))⟩
  by_cases e : k' = k
  · subst e
    have P := H.p k' hk
    have cn := P.c.off (f := fun z => z.1 ≠ 13) H.w (by decide) (off1 H.w o (by decide) (by simp)) (by simp)
    have cl := P.c.le H.w (by decide)
    refine ⟨P.c, (K.I _ _ cl cn).trans P.no, P.th, fun F' h' => (K.I _ _ cl cn).trans (P.i F' h'), fun F' h' => (K.L _ _ cl cn).trans (P.l F' h'), P.cl, ⟨P.yl.1, P.yl.2.off (f := fun z => z.1 ≠ 13) K H.w (off1 H.w o (by decide) (by simp)) (by simp) (by simp)⟩, fun b hb => ?_, P.he⟩
    obtain ⟨a1, a2, a3, a4, a5⟩ := P.y b hb
    refine ⟨a1, ?_, a3, a4, a5⟩
    show (if (1300 : Nat) = 1300 ∧ E.sy k' b = E.sy k' j then v else kL h 1300 (E.sy k' b)) = (if k' = k' ∧ b = j then v else A.yL k' b)
    by_cases z : b = j
    · subst z; simp
    · rw [if_neg (fun q => z ?_), if_neg (fun q => z q.2)]
      · exact a2
      · have e1 := a1.2
        rw [q.2, o.2] at e1
        simp at e1
        exact e1.symm
  · have Q := (H.p k' hk').keep K H.w (off1 H.w o (by decide) (by simp; omega))
    refine ⟨Q.c, Q.no, Q.th, Q.i, Q.l, Q.cl, Q.yl, fun b hb => ?_, Q.he⟩
    obtain ⟨a1, a2, a3, a4, a5⟩ := Q.y b hb
    refine ⟨a1, ?_, a3, a4, a5⟩
    show _ = (if k' = k ∧ b = j then v else A.yL k' b)
    rw [if_neg (fun q => e q.1)]
    exact a2
theorem RS.yI (v : Int32) (H : RS h E A) (hk : k < A.np) (hj : j < A.ny k) : RS (sI h 1301 (E.sy k j) v) E (AS.u_yI A (upd2 A.yI k j v)) := by
  have K := Kp.sI h 1301 (E.sy k j) v
  have o := ((H.p k hk).y j hj).1
  refine ⟨K.w H.w, H.x.keep K H.w (off1 H.w o (by decide) (by simp)), fun k' hk' => ?_, fun k' hk' => (H.s k' hk').keep K H.w (off1 H.w o (by decide) (by simp)), fun k' hk' => (H.d k' hk').keep K H.w (off1 H.w o (by decide) (by simp)), fun k' hk' => (H.c k' hk').keep K H.w (off1 H.w o (by decide) (by simp)), fun k' hk' => (H.l k' hk').keep K H.w (off1 H.w o (by decide) (by simp))⟩
  by_cases e : k' = k
  · subst e
    have P := H.p k' hk
    have cn := P.c.off (f := fun z => z.1 ≠ 13) H.w (by decide) (off1 H.w o (by decide) (by simp)) (by simp)
    have cl := P.c.le H.w (by decide)
    refine ⟨P.c, (K.I _ _ cl cn).trans P.no, P.th, fun F' h' => (K.I _ _ cl cn).trans (P.i F' h'), fun F' h' => (K.L _ _ cl cn).trans (P.l F' h'), P.cl, ⟨P.yl.1, P.yl.2.off (f := fun z => z.1 ≠ 13) K H.w (off1 H.w o (by decide) (by simp)) (by simp) (by simp)⟩, fun b hb => ?_, P.he⟩
    obtain ⟨a1, a2, a3, a4, a5⟩ := P.y b hb
    refine ⟨a1, a2, ?_, by rw [kI_sI, if_neg (fun z => absurd z.1 (by decide))]; exact a4, a5⟩
    show (if (1301 : Nat) = 1301 ∧ E.sy k' b = E.sy k' j then v else kI h 1301 (E.sy k' b)) = (if k' = k' ∧ b = j then v else A.yI k' b)
    by_cases z : b = j
    · subst z; simp
    · rw [if_neg (fun q => z ?_), if_neg (fun q => z q.2)]
      · exact a3
      · have e1 := a1.2
        rw [q.2, o.2] at e1
        simp at e1
        exact e1.symm
  · have Q := (H.p k' hk').keep K H.w (off1 H.w o (by decide) (by simp; omega))
    refine ⟨Q.c, Q.no, Q.th, Q.i, Q.l, Q.cl, Q.yl, fun b hb => ?_, Q.he⟩
    obtain ⟨a1, a2, a3, a4, a5⟩ := Q.y b hb
    refine ⟨a1, a2, ?_, a4, a5⟩
    show _ = (if k' = k ∧ b = j then v else A.yI k' b)
    rw [if_neg (fun q => e q.1)]
    exact a3
theorem RM.yL (v : Int64) (H : RM h E A) (hk : k < A.np) (hj : j < A.ny k) : RM (sL h 1400 (E.my k j) v) E (AS.u_yL A (upd2 A.yL k j v)) := by
  have K := Kp.sL h 1400 (E.my k j) v
  have o := ((H.p k hk).y j hj).1
  refine ⟨K.w H.w, H.x.keep K H.w (off1 H.w o (by decide) (by simp)), fun k' hk' => ?_, fun k' hk' => (H.s k' hk').keep K H.w (off1 H.w o (by decide) (by simp)), fun k' hk' => (H.d k' hk').keep K H.w (off1 H.w o (by decide) (by simp)), fun k' hk' => (H.c k' hk').keep K H.w (off1 H.w o (by decide) (by simp)), fun k' hk' => (H.l k' hk').keep K H.w (off1 H.w o (by decide) (by simp))⟩
  by_cases e : k' = k
  · subst e
    have P := H.p k' hk
    have cn := P.c.off (f := fun z => z.1 ≠ 1013) H.w (by decide) (off1 H.w o (by decide) (by simp)) (by simp)
    have cl := P.c.le H.w (by decide)
    refine ⟨P.c, fun p hp => (K.I _ _ cl cn).trans (P.i p hp), fun p hp => (K.L _ _ cl cn).trans (P.l p hp), P.cl, ⟨P.yl.1, P.yl.2.off (f := fun z => z.1 ≠ 1013) K H.w (off1 H.w o (by decide) (by simp)) (by simp) (by simp)⟩, fun b hb => ?_, P.he⟩
    obtain ⟨a1, a2, a3, a4, a5⟩ := P.y b hb
    refine ⟨a1, ?_, a3, a4, a5⟩
    show (if (1400 : Nat) = 1400 ∧ E.my k' b = E.my k' j then v else kL h 1400 (E.my k' b)) = (if k' = k' ∧ b = j then v else A.yL k' b)
    by_cases z : b = j
    · subst z; simp
    · rw [if_neg (fun q => z ?_), if_neg (fun q => z q.2)]
      · exact a2
      · have e1 := a1.2
        rw [q.2, o.2] at e1
        simp at e1
        exact e1.symm
  · have Q := (H.p k' hk').keep K H.w (off1 H.w o (by decide) (by simp; omega))
    refine ⟨Q.c, Q.i, Q.l, Q.cl, Q.yl, fun b hb => ?_, Q.he⟩
    obtain ⟨a1, a2, a3, a4, a5⟩ := Q.y b hb
    refine ⟨a1, ?_, a3, a4, a5⟩
    show _ = (if k' = k ∧ b = j then v else A.yL k' b)
    rw [if_neg (fun q => e q.1)]
    exact a2
theorem RM.yI (v : Int32) (H : RM h E A) (hk : k < A.np) (hj : j < A.ny k) : RM (sI h 1401 (E.my k j) v) E (AS.u_yI A (upd2 A.yI k j v)) := by
  have K := Kp.sI h 1401 (E.my k j) v
  have o := ((H.p k hk).y j hj).1
  refine ⟨K.w H.w, H.x.keep K H.w (off1 H.w o (by decide) (by simp)), fun k' hk' => ?_, fun k' hk' => (H.s k' hk').keep K H.w (off1 H.w o (by decide) (by simp)), fun k' hk' => (H.d k' hk').keep K H.w (off1 H.w o (by decide) (by simp)), fun k' hk' => (H.c k' hk').keep K H.w (off1 H.w o (by decide) (by simp)), fun k' hk' => (H.l k' hk').keep K H.w (off1 H.w o (by decide) (by simp))⟩
  by_cases e : k' = k
  · subst e
    have P := H.p k' hk
    have cn := P.c.off (f := fun z => z.1 ≠ 1013) H.w (by decide) (off1 H.w o (by decide) (by simp)) (by simp)
    have cl := P.c.le H.w (by decide)
    refine ⟨P.c, fun p hp => (K.I _ _ cl cn).trans (P.i p hp), fun p hp => (K.L _ _ cl cn).trans (P.l p hp), P.cl, ⟨P.yl.1, P.yl.2.off (f := fun z => z.1 ≠ 1013) K H.w (off1 H.w o (by decide) (by simp)) (by simp) (by simp)⟩, fun b hb => ?_, P.he⟩
    obtain ⟨a1, a2, a3, a4, a5⟩ := P.y b hb
    refine ⟨a1, a2, ?_, by rw [kI_sI, if_neg (fun z => absurd z.1 (by decide))]; exact a4, by rw [kI_sI, if_neg (fun z => absurd z.1 (by decide))]; exact a5⟩
    show (if (1401 : Nat) = 1401 ∧ E.my k' b = E.my k' j then v else kI h 1401 (E.my k' b)) = (if k' = k' ∧ b = j then v else A.yI k' b)
    by_cases z : b = j
    · subst z; simp
    · rw [if_neg (fun q => z ?_), if_neg (fun q => z q.2)]
      · exact a3
      · have e1 := a1.2
        rw [q.2, o.2] at e1
        simp at e1
        exact e1.symm
  · have Q := (H.p k' hk').keep K H.w (off1 H.w o (by decide) (by simp; omega))
    refine ⟨Q.c, Q.i, Q.l, Q.cl, Q.yl, fun b hb => ?_, Q.he⟩
    obtain ⟨a1, a2, a3, a4, a5⟩ := Q.y b hb
    refine ⟨a1, a2, ?_, a4, a5⟩
    show _ = (if k' = k ∧ b = j then v else A.yI k' b)
    rw [if_neg (fun q => e q.1)]
    exact a3
theorem RM.yY (v : Int32) (H : RM h E A) (hk : k < A.np) (hj : j < A.ny k) : RM (sI h 1403 (E.my k j) v) E (AS.u_yY A (upd2 A.yY k j v)) := by
  have K := Kp.sI h 1403 (E.my k j) v
  have o := ((H.p k hk).y j hj).1
  refine ⟨K.w H.w, H.x.keep K H.w (off1 H.w o (by decide) (by simp)), fun k' hk' => ?_, fun k' hk' => (H.s k' hk').keep K H.w (off1 H.w o (by decide) (by simp)), fun k' hk' => (H.d k' hk').keep K H.w (off1 H.w o (by decide) (by simp)), fun k' hk' => (H.c k' hk').keep K H.w (off1 H.w o (by decide) (by simp)), fun k' hk' => (H.l k' hk').keep K H.w (off1 H.w o (by decide) (by simp))⟩
  by_cases e : k' = k
  · subst e
    have P := H.p k' hk
    have cn := P.c.off (f := fun z => z.1 ≠ 1013) H.w (by decide) (off1 H.w o (by decide) (by simp)) (by simp)
    have cl := P.c.le H.w (by decide)
    refine ⟨P.c, fun p hp => (K.I _ _ cl cn).trans (P.i p hp), fun p hp => (K.L _ _ cl cn).trans (P.l p hp), P.cl, ⟨P.yl.1, P.yl.2.off (f := fun z => z.1 ≠ 1013) K H.w (off1 H.w o (by decide) (by simp)) (by simp) (by simp)⟩, fun b hb => ?_, P.he⟩
    obtain ⟨a1, a2, a3, a4, a5⟩ := P.y b hb
    refine ⟨a1, a2, by rw [kI_sI, if_neg (fun z => absurd z.1 (by decide))]; exact a3, by rw [kI_sI, if_neg (fun z => absurd z.1 (by decide))]; exact a4, ?_⟩
    show (if (1403 : Nat) = 1403 ∧ E.my k' b = E.my k' j then v else kI h 1403 (E.my k' b)) = (if k' = k' ∧ b = j then v else A.yY k' b)
    by_cases z : b = j
    · subst z; simp
    · rw [if_neg (fun q => z ?_), if_neg (fun q => z q.2)]
      · exact a5
      · have e1 := a1.2
        rw [q.2, o.2] at e1
        simp at e1
        exact e1.symm
  · have Q := (H.p k' hk').keep K H.w (off1 H.w o (by decide) (by simp; omega))
    refine ⟨Q.c, Q.i, Q.l, Q.cl, Q.yl, fun b hb => ?_, Q.he⟩
    obtain ⟨a1, a2, a3, a4, a5⟩ := Q.y b hb
    refine ⟨a1, a2, a3, a4, ?_⟩
    show _ = (if k' = k ∧ b = j then v else A.yY k' b)
    rw [if_neg (fun q => e q.1)]
    exact a5
theorem RM.ol (v : Int64) (H : RM h E A) : RM (tL h E.mol i v) E (AS.u_ol A (upN A.ol i v)) := by
  have K := Kp.tL h E.mol i v
  have o := H.x.ol.2.1
  have X := H.x
  refine ⟨K.w H.w, ⟨X.x, X.i, X.l, X.lr, X.lp, X.ls, X.ld, X.lc, X.ll, X.n, X.g, ⟨X.ol.1, o, X.ol.2.2.1, fun a ha => ?_⟩⟩, fun k' hk' => (H.p k' hk').keep K H.w (off1 H.w o (by decide) (by simp)), fun k' hk' => (H.s k' hk').keep K H.w (off1 H.w o (by decide) (by simp)), fun k' hk' => (H.d k' hk').keep K H.w (off1 H.w o (by decide) (by simp)), fun k' hk' => (H.c k' hk').keep K H.w (off1 H.w o (by decide) (by simp)), fun k' hk' => (H.l k' hk').keep K H.w (off1 H.w o (by decide) (by simp))⟩
  simp only [jL_tL, true_and]
  exact lt_eq X.ol.2.2.2 a ha
theorem RM.g (v : Int32) (H : RM h E A) (hj : j < 4) : RM (tI h E.mg (4 * i + j) v) E (AS.u_g A (upd2 A.g i j v)) := by
  have K := Kp.tI h E.mg (4 * i + j) v
  have o := H.x.g.2.1
  have X := H.x
  refine ⟨K.w H.w, ⟨X.x, X.i, X.l, X.lr, X.lp, X.ls, X.ld, X.lc, X.ll, X.n, ⟨X.g.1, o, X.g.2.2.1, fun a b ha hb => ?_⟩, X.ol⟩, fun k' hk' => (H.p k' hk').keep K H.w (off1 H.w o (by decide) (by simp)), fun k' hk' => (H.s k' hk').keep K H.w (off1 H.w o (by decide) (by simp)), fun k' hk' => (H.d k' hk').keep K H.w (off1 H.w o (by decide) (by simp)), fun k' hk' => (H.c k' hk').keep K H.w (off1 H.w o (by decide) (by simp)), fun k' hk' => (H.l k' hk').keep K H.w (off1 H.w o (by decide) (by simp))⟩
  show (if E.mg = E.mg ∧ 4 * a + b = 4 * i + j then v else jI h E.mg (4 * a + b)) = (if a = i ∧ b = j then v else A.g a b)
  by_cases z : a = i ∧ b = j
  · obtain ⟨rfl, rfl⟩ := z
    simp
  · rw [if_neg (fun q => z ⟨by omega, by omega⟩), if_neg z]
    exact X.g.2.2.2 a b ha hb
theorem RM.hv (v : Int64) (H : RM h E A) (hk : k < A.np) : RM (tL h (E.mh k) j v) E (AS.u_hv A (upd2 A.hv k j v)) := by
  have K := Kp.tL h (E.mh k) j v
  have o := (H.p k hk).he.2.1
  refine ⟨K.w H.w, H.x.keep K H.w (off1 H.w o (by decide) (by simp)), fun k' hk' => ?_, fun k' hk' => (H.s k' hk').keep K H.w (off1 H.w o (by decide) (by simp)), fun k' hk' => (H.d k' hk').keep K H.w (off1 H.w o (by decide) (by simp)), fun k' hk' => (H.c k' hk').keep K H.w (off1 H.w o (by decide) (by simp)), fun k' hk' => (H.l k' hk').keep K H.w (off1 H.w o (by decide) (by simp))⟩
  by_cases e : k' = k
  · subst e
    have P := H.p k' hk
    obtain ⟨a1, a2, a3, a5⟩ := P.he
    refine ⟨P.c, P.i, P.l, P.cl, P.yl, P.y, ⟨a1, a2, a3, fun b hb => ?_⟩⟩
    show (if E.mh k' = E.mh k' ∧ b = j then v else jL h (E.mh k') b) = (if k' = k' ∧ b = j then v else A.hv k' b)
    simp only [true_and]
    split
    · rfl
    · exact a5 b hb
  · have Q := (H.p k' hk').keep K H.w (off1 H.w o (by decide) (by simp; omega))
    obtain ⟨a1, a2, a3, a5⟩ := Q.he
    refine ⟨Q.c, Q.i, Q.l, Q.cl, Q.yl, Q.y, ⟨a1, a2, a3, fun b hb => ?_⟩⟩
    show _ = (if k' = k ∧ b = j then v else A.hv k' b)
    rw [if_neg (fun q => e q.1)]
    exact a5 b hb
end arr
end P10

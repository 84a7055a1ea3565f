section P6
section cg
variable {h h1 : Hp} {E : Ev} {A : AS} {k : Nat} {I' : Nat → Nat → Int32} {L' : Nat → Nat → Int64}
theorem RMx.cI (H : RMx h E A) (g : ∀ p ∈ mxI, I' p.2 0 = A.I p.2 0) : RMx h E (AS.u_I A (I')) := ⟨H.x, fun p hp => (H.i p hp).trans (g p hp).symm, H.l, H.lr, H.lp, H.ls, H.ld, H.lc, H.ll, H.n, H.g, H.ol⟩
theorem RMx.cL (H : RMx h E A) (g : ∀ p ∈ mxL, L' p.2 0 = A.L p.2 0) : RMx h E (AS.u_L A (L')) := ⟨H.x, H.i, fun p hp => (H.l p hp).trans (g p hp).symm, H.lr, H.lp, H.ls, H.ld, H.lc, H.ll, H.n, H.g, H.ol⟩
theorem RMp.cI (H : RMp h E A k) (g : ∀ p ∈ mpI, I' p.2 k = A.I p.2 k) : RMp h E (AS.u_I A (I')) k := ⟨H.c, fun p hp => (H.i p hp).trans (g p hp).symm, H.l, H.cl, H.yl, H.y, H.he⟩
theorem RMp.cL (H : RMp h E A k) (g : ∀ p ∈ mpL, L' p.2 k = A.L p.2 k) : RMp h E (AS.u_L A (L')) k := ⟨H.c, H.i, fun p hp => (H.l p hp).trans (g p hp).symm, H.cl, H.yl, H.y, H.he⟩
theorem RMs.cI (H : RMs h E A k) (g : ∀ p ∈ [(601, 601), (602, 602), (603, 603)], I' p.2 k = A.I p.2 k) : RMs h E (AS.u_I A (I')) k := ⟨H.c, H.n, H.i.1.trans (g (601, 601) (by decide)).symm, H.i.2.1.trans (g (602, 602) (by decide)).symm, H.i.2.2.trans (g (603, 603) (by decide)).symm⟩
theorem RMs.cL (H : RMs h E A k) : RMs h E (AS.u_L A (L')) k := ⟨H.c, H.n, H.i⟩
theorem RMd.cI (H : RMd h E A k) (g : ∀ p ∈ mdI, I' p.2 k = A.I p.2 k) : RMd h E (AS.u_I A (I')) k := ⟨H.c, fun p hp => (H.i p hp).trans (g p hp).symm, H.l⟩
theorem RMd.cL (H : RMd h E A k) (g : ∀ p ∈ mdL, L' p.2 k = A.L p.2 k) : RMd h E (AS.u_L A (L')) k := ⟨H.c, H.i, fun p hp => (H.l p hp).trans (g p hp).symm⟩
theorem RMc.cI (H : RMc h E A k) (g : ∀ p ∈ mcI, I' p.2 k = A.I p.2 k) : RMc h E (AS.u_I A (I')) k := ⟨H.c, fun p hp => (H.i p hp).trans (g p hp).symm, H.l, H.co, H.wl, H.w⟩
theorem RMc.cL (H : RMc h E A k) (g : ∀ p ∈ mcL, L' p.2 k = A.L p.2 k) : RMc h E (AS.u_L A (L')) k := ⟨H.c, H.i, fun p hp => (H.l p hp).trans (g p hp).symm, H.co, H.wl, H.w⟩
theorem RMl.cI (H : RMl h E A k) (g : ∀ p ∈ mlI, I' p.2 k = A.I p.2 k) : RMl h E (AS.u_I A (I')) k := ⟨H.c, fun p hp => (H.i p hp).trans (g p hp).symm, H.lo⟩
theorem RMl.cL (H : RMl h E A k) : RMl h E (AS.u_L A (L')) k := ⟨H.c, H.i, H.lo⟩
end cg
abbrev msI : List (Nat × Nat) := [(601, 601), (602, 602), (603, 603)]
theorem mp_self {α : Type} {l : List (Nat × Nat)} (hl : ∀ p ∈ l, ∀ q ∈ l, p.1 = q.1 ↔ p.2 = q.2) {G F : Nat} (hF : (G, F) ∈ l) {p : Nat × Nat} (hp : p ∈ l) {a b c : α} (e : b = c) : (if p.1 = G then a else b) = (if p.2 = F then a else c) := by
  have := hl p hp _ hF
  by_cases z : p.1 = G
  · rw [if_pos z, if_pos (this.mp z)]
  · rw [if_neg z, if_neg (fun q => z (this.mpr q)), e]
section set
variable {h : Hp} {E : Ev} {A : AS} {k F G : Nat}
/-- a write of a field that no part of RM reads (the model's thrown) -/
theorem RM.th (v : Int32) (H : RM h E A) : RM (sI h 300 E.m v) E A := by
  have K := Kp.sI h 300 E.m v
  have o := H.x.x
  refine ⟨K.w H.w, ?_, fun k hk => (H.p k hk).keep K H.w (off1 H.w o (by decide) (by simp)), fun k hk => (H.s k hk).keep K H.w (off1 H.w o (by decide) (by simp)), fun k hk => (H.d k hk).keep K H.w (off1 H.w o (by decide) (by simp)), fun k hk => (H.c k hk).keep K H.w (off1 H.w o (by decide) (by simp)), fun k hk => (H.l k hk).keep K H.w (off1 H.w o (by decide) (by simp))⟩
  have X := H.x
  refine ⟨X.x, fun p hp => ?_, X.l, X.lr, X.lp.off (f := fun z => z.1 ≠ 1000) K H.w (off1 H.w o (by decide) (by simp)) (by simp) (by simp), X.ls.off (f := fun z => z.1 ≠ 1000) K H.w (off1 H.w o (by decide) (by simp)) (by simp) (by simp), X.ld.off (f := fun z => z.1 ≠ 1000) K H.w (off1 H.w o (by decide) (by simp)) (by simp) (by simp), X.lc.off (f := fun z => z.1 ≠ 1000) K H.w (off1 H.w o (by decide) (by simp)) (by simp) (by simp), X.ll.off (f := fun z => z.1 ≠ 1000) K H.w (off1 H.w o (by decide) (by simp)) (by simp) (by simp), X.n, X.g, X.ol⟩
  rw [kI_sI, if_neg (fun z => absurd (List.mem_map_of_mem (f := Prod.fst) hp) (by rw [z.1]; decide))]; exact X.i p hp
theorem RM.pI (v : Int32) (H : RM h E A) (hk : k < A.np) (hF : (G, F) ∈ mpI) : RM (sI h G (E.mp k) v) E (A.sI F k v) := by
  have K := Kp.sI h G (E.mp k) v
  have o := (H.p k hk).c
  have g : ∀ l : List (Nat × Nat), (∀ a ∈ (mpI : List (Nat × Nat)), ∀ b ∈ l, a.2 ≠ b.2) → ∀ p ∈ l, ∀ k', upd2 A.I F k v p.2 k' = A.I p.2 k' := fun l hl p h' k' => upd2_ne _ _ (fun e _ => hl _ hF p h' e.symm)
  refine ⟨K.w H.w, ?_, fun k' hk' => ?_, fun k' hk' => ?_, fun k' hk' => ?_, fun k' hk' => ?_, fun k' hk' => ?_⟩
  · exact (H.x.keep K H.w (off1 H.w o (by decide) (by simp))).cI (fun p h' => g mxI (by decide) p h' 0)
  · by_cases e : k' = k
    · subst e
      have P := H.p k' hk
      refine ⟨P.c, fun p hp => ?_, P.l, P.cl, ⟨P.yl.1, P.yl.2.off (f := fun z => z.1 ≠ 1011) K H.w (off1 H.w o (by decide) (by simp)) (by simp) (by simp)⟩, fun j hj => ?_, P.he⟩
      · show (if p.1 = G ∧ E.mp k' = E.mp k' then v else kI h p.1 (E.mp k')) = (if p.2 = F ∧ k' = k' then v else A.I p.2 k')
        simp only [and_true]
        exact mp_self (l := mpI) (by decide) hF hp (P.i p hp)
      · obtain ⟨y1, y2, y3, y4, y5⟩ := P.y j hj
        refine ⟨y1, y2, ?_, ?_, ?_⟩
        · rw [kI_sI, if_neg (fun z => absurd (List.mem_map_of_mem (f := Prod.fst) hF) (by rw [show (G, F).1 = G from rfl, ← z.1]; decide))]; exact y3
        · rw [kI_sI, if_neg (fun z => absurd (List.mem_map_of_mem (f := Prod.fst) hF) (by rw [show (G, F).1 = G from rfl, ← z.1]; decide))]; exact y4
        · rw [kI_sI, if_neg (fun z => absurd (List.mem_map_of_mem (f := Prod.fst) hF) (by rw [show (G, F).1 = G from rfl, ← z.1]; decide))]; exact y5
    · exact ((H.p k' hk').keep K H.w (off1 H.w o (by decide) (by simp; omega))).cI (fun p _ => upd2_ne _ _ (fun _ z => e z))
  · exact ((H.s k' hk').keep K H.w (off1 H.w o (by decide) (by simp))).cI (fun p h' => g msI (by decide) p h' k')
  · exact ((H.d k' hk').keep K H.w (off1 H.w o (by decide) (by simp))).cI (fun p h' => g mdI (by decide) p h' k')
  · exact ((H.c k' hk').keep K H.w (off1 H.w o (by decide) (by simp))).cI (fun p h' => g mcI (by decide) p h' k')
  · exact ((H.l k' hk').keep K H.w (off1 H.w o (by decide) (by simp))).cI (fun p h' => g mlI (by decide) p h' k')
theorem RM.pL (v : Int64) (H : RM h E A) (hk : k < A.np) (hF : (G, F) ∈ mpL) : RM (sL h G (E.mp k) v) E (A.sL F k v) := by
  have K := Kp.sL h G (E.mp k) v
  have o := (H.p k hk).c
  have g : ∀ l : List (Nat × Nat), (∀ a ∈ (mpL : List (Nat × Nat)), ∀ b ∈ l, a.2 ≠ b.2) → ∀ p ∈ l, ∀ k', upd2 A.L F k v p.2 k' = A.L p.2 k' := fun l hl p h' k' => upd2_ne _ _ (fun e _ => hl _ hF p h' e.symm)
  refine ⟨K.w H.w, ?_, fun k' hk' => ?_, fun k' hk' => ?_, fun k' hk' => ?_, fun k' hk' => ?_, fun k' hk' => ?_⟩
  · exact (H.x.keep K H.w (off1 H.w o (by decide) (by simp))).cL (fun p h' => g mxL (by decide) p h' 0)
  · by_cases e : k' = k
    · subst e
      have P := H.p k' hk
      refine ⟨P.c, P.i, fun p hp => ?_, P.cl, ⟨P.yl.1, P.yl.2.off (f := fun z => z.1 ≠ 1011) K H.w (off1 H.w o (by decide) (by simp)) (by simp) (by simp)⟩, fun j hj => ?_, P.he⟩
      · show (if p.1 = G ∧ E.mp k' = E.mp k' then v else kL h p.1 (E.mp k')) = (if p.2 = F ∧ k' = k' then v else A.L p.2 k')
        simp only [and_true]
        exact mp_self (l := mpL) (by decide) hF hp (P.l p hp)
      · obtain ⟨y1, y2, y3, y4, y5⟩ := P.y j hj
        refine ⟨y1, ?_, y3, y4, y5⟩
        rw [kL_sL, if_neg (fun z => absurd (List.mem_map_of_mem (f := Prod.fst) hF) (by rw [show (G, F).1 = G from rfl, ← z.1]; decide))]; exact y2
    · exact ((H.p k' hk').keep K H.w (off1 H.w o (by decide) (by simp; omega))).cL (fun p _ => upd2_ne _ _ (fun _ z => e z))
  · exact ((H.s k' hk').keep K H.w (off1 H.w o (by decide) (by simp))).cL
  · exact ((H.d k' hk').keep K H.w (off1 H.w o (by decide) (by simp))).cL (fun p h' => g mdL (by decide) p h' k')
  · exact ((H.c k' hk').keep K H.w (off1 H.w o (by decide) (by simp))).cL (fun p h' => g mcL (by decide) p h' k')
  · exact ((H.l k' hk').keep K H.w (off1 H.w o (by decide) (by simp))).cL
theorem RM.dI (v : Int32) (H : RM h E A) (hk : k < A.nd) (hF : (G, F) ∈ mdI) : RM (sI h G (E.md k) v) E (A.sI F k v) := by
  have K := Kp.sI h G (E.md k) v
  have o := (H.d k hk).c
  have g : ∀ l : List (Nat × Nat), (∀ a ∈ (mdI : List (Nat × Nat)), ∀ b ∈ l, a.2 ≠ b.2) → ∀ p ∈ l, ∀ k', upd2 A.I F k v p.2 k' = A.I p.2 k' := fun l hl p h' k' => upd2_ne _ _ (fun e _ => hl _ hF p h' e.symm)
  refine ⟨K.w H.w, ?_, fun k' hk' => ?_, fun k' hk' => ?_, fun k' hk' => ?_, fun k' hk' => ?_, fun k' hk' => ?_⟩
  · exact (H.x.keep K H.w (off1 H.w o (by decide) (by simp))).cI (fun p h' => g mxI (by decide) p h' 0)
  · exact ((H.p k' hk').keep K H.w (off1 H.w o (by decide) (by simp))).cI (fun p h' => g mpI (by decide) p h' k')
  · exact ((H.s k' hk').keep K H.w (off1 H.w o (by decide) (by simp))).cI (fun p h' => g msI (by decide) p h' k')
  · by_cases e : k' = k
    · subst e
      have P := H.d k' hk
      refine ⟨P.c, fun p hp => ?_, P.l⟩
      · show (if p.1 = G ∧ E.md k' = E.md k' then v else kI h p.1 (E.md k')) = (if p.2 = F ∧ k' = k' then v else A.I p.2 k')
        simp only [and_true]
        exact mp_self (l := mdI) (by decide) hF hp (P.i p hp)
    · exact ((H.d k' hk').keep K H.w (off1 H.w o (by decide) (by simp; omega))).cI (fun p _ => upd2_ne _ _ (fun _ z => e z))
  · exact ((H.c k' hk').keep K H.w (off1 H.w o (by decide) (by simp))).cI (fun p h' => g mcI (by decide) p h' k')
  · exact ((H.l k' hk').keep K H.w (off1 H.w o (by decide) (by simp))).cI (fun p h' => g mlI (by decide) p h' k')
theorem RM.dL (v : Int64) (H : RM h E A) (hk : k < A.nd) (hF : (G, F) ∈ mdL) : RM (sL h G (E.md k) v) E (A.sL F k v) := by
  have K := Kp.sL h G (E.md k) v
  have o := (H.d k hk).c
  have g : ∀ l : List (Nat × Nat), (∀ a ∈ (mdL : List (Nat × Nat)), ∀ b ∈ l, a.2 ≠ b.2) → ∀ p ∈ l, ∀ k', upd2 A.L F k v p.2 k' = A.L p.2 k' := fun l hl p h' k' => upd2_ne _ _ (fun e _ => hl _ hF p h' e.symm)
  refine ⟨K.w H.w, ?_, fun k' hk' => ?_, fun k' hk' => ?_, fun k' hk' => ?_, fun k' hk' => ?_, fun k' hk' => ?_⟩
  · exact (H.x.keep K H.w (off1 H.w o (by decide) (by simp))).cL (fun p h' => g mxL (by decide) p h' 0)
  · exact ((H.p k' hk').keep K H.w (off1 H.w o (by decide) (by simp))).cL (fun p h' => g mpL (by decide) p h' k')
  · exact ((H.s k' hk').keep K H.w (off1 H.w o (by decide) (by simp))).cL
  · by_cases e : k' = k
    · subst e
      have P := H.d k' hk
      refine ⟨P.c, P.i, fun p hp => ?_⟩
      · show (if p.1 = G ∧ E.md k' = E.md k' then v else kL h p.1 (E.md k')) = (if p.2 = F ∧ k' = k' then v else A.L p.2 k')
        simp only [and_true]
        exact mp_self (l := mdL) (by decide) hF hp (P.l p hp)
    · exact ((H.d k' hk').keep K H.w (off1 H.w o (by decide) (by simp; omega))).cL (fun p _ => upd2_ne _ _ (fun _ z => e z))
  · exact ((H.c k' hk').keep K H.w (off1 H.w o (by decide) (by simp))).cL (fun p h' => g mcL (by decide) p h' k')
  · exact ((H.l k' hk').keep K H.w (off1 H.w o (by decide) (by simp))).cL
theorem RM.cI (v : Int32) (H : RM h E A) (hk : k < A.nc) (hF : (G, F) ∈ mcI) : RM (sI h G (E.mc k) v) E (A.sI F k v) := by
  have K := Kp.sI h G (E.mc k) v
  have o := (H.c k hk).c
  have g : ∀ l : List (Nat × Nat), (∀ a ∈ (mcI : List (Nat × Nat)), ∀ b ∈ l, a.2 ≠ b.2) → ∀ p ∈ l, ∀ k', upd2 A.I F k v p.2 k' = A.I p.2 k' := fun l hl p h' k' => upd2_ne _ _ (fun e _ => hl _ hF p h' e.symm)
  refine ⟨K.w H.w, ?_, fun k' hk' => ?_, fun k' hk' => ?_, fun k' hk' => ?_, fun k' hk' => ?_, fun k' hk' => ?_⟩
  · exact (H.x.keep K H.w (off1 H.w o (by decide) (by simp))).cI (fun p h' => g mxI (by decide) p h' 0)
  · exact ((H.p k' hk').keep K H.w (off1 H.w o (by decide) (by simp))).cI (fun p h' => g mpI (by decide) p h' k')
  · exact ((H.s k' hk').keep K H.w (off1 H.w o (by decide) (by simp))).cI (fun p h' => g msI (by decide) p h' k')
  · exact ((H.d k' hk').keep K H.w (off1 H.w o (by decide) (by simp))).cI (fun p h' => g mdI (by decide) p h' k')
  · by_cases e : k' = k
    · subst e
      have P := H.c k' hk
      refine ⟨P.c, fun p hp => ?_, P.l, P.co, ⟨P.wl.1, P.wl.2.1.off (f := fun z => z.1 ≠ 1017) K H.w (off1 H.w o (by decide) (by simp)) (by simp) (by simp), P.wl.2.2⟩, P.w⟩
      · show (if p.1 = G ∧ E.mc k' = E.mc k' then v else kI h p.1 (E.mc k')) = (if p.2 = F ∧ k' = k' then v else A.I p.2 k')
        simp only [and_true]
        exact mp_self (l := mcI) (by decide) hF hp (P.i p hp)
    · exact ((H.c k' hk').keep K H.w (off1 H.w o (by decide) (by simp; omega))).cI (fun p _ => upd2_ne _ _ (fun _ z => e z))
  · exact ((H.l k' hk').keep K H.w (off1 H.w o (by decide) (by simp))).cI (fun p h' => g mlI (by decide) p h' k')
theorem RM.cL (v : Int64) (H : RM h E A) (hk : k < A.nc) (hF : (G, F) ∈ mcL) : RM (sL h G (E.mc k) v) E (A.sL F k v) := by
  have K := Kp.sL h G (E.mc k) v
  have o := (H.c k hk).c
  have g : ∀ l : List (Nat × Nat), (∀ a ∈ (mcL : List (Nat × Nat)), ∀ b ∈ l, a.2 ≠ b.2) → ∀ p ∈ l, ∀ k', upd2 A.L F k v p.2 k' = A.L p.2 k' := fun l hl p h' k' => upd2_ne _ _ (fun e _ => hl _ hF p h' e.symm)
  refine ⟨K.w H.w, ?_, fun k' hk' => ?_, fun k' hk' => ?_, fun k' hk' => ?_, fun k' hk' => ?_, fun k' hk' => ?_⟩
  · exact (H.x.keep K H.w (off1 H.w o (by decide) (by simp))).cL (fun p h' => g mxL (by decide) p h' 0)
  · exact ((H.p k' hk').keep K H.w (off1 H.w o (by decide) (by simp))).cL (fun p h' => g mpL (by decide) p h' k')
  · exact ((H.s k' hk').keep K H.w (off1 H.w o (by decide) (by simp))).cL
  · exact ((H.d k' hk').keep K H.w (off1 H.w o (by decide) (by simp))).cL (fun p h' => g mdL (by decide) p h' k')
  · by_cases e : k' = k
    · subst e
      have P := H.c k' hk
      refine ⟨P.c, P.i, fun p hp => ?_, P.co, ⟨P.wl.1, P.wl.2.1.off (f := fun z => z.1 ≠ 1017) K H.w (off1 H.w o (by decide) (by simp)) (by simp) (by simp), P.wl.2.2⟩, P.w⟩
      · show (if p.1 = G ∧ E.mc k' = E.mc k' then v else kL h p.1 (E.mc k')) = (if p.2 = F ∧ k' = k' then v else A.L p.2 k')
        simp only [and_true]
        exact mp_self (l := mcL) (by decide) hF hp (P.l p hp)
    · exact ((H.c k' hk').keep K H.w (off1 H.w o (by decide) (by simp; omega))).cL (fun p _ => upd2_ne _ _ (fun _ z => e z))
  · exact ((H.l k' hk').keep K H.w (off1 H.w o (by decide) (by simp))).cL
theorem RM.lI (v : Int32) (H : RM h E A) (hk : k < A.nl) (hF : (G, F) ∈ mlI) : RM (sI h G (E.ml k) v) E (A.sI F k v) := by
  have K := Kp.sI h G (E.ml k) v
  have o := (H.l k hk).c
  have g : ∀ l : List (Nat × Nat), (∀ a ∈ (mlI : List (Nat × Nat)), ∀ b ∈ l, a.2 ≠ b.2) → ∀ p ∈ l, ∀ k', upd2 A.I F k v p.2 k' = A.I p.2 k' := fun l hl p h' k' => upd2_ne _ _ (fun e _ => hl _ hF p h' e.symm)
  refine ⟨K.w H.w, ?_, fun k' hk' => ?_, fun k' hk' => ?_, fun k' hk' => ?_, fun k' hk' => ?_, fun k' hk' => ?_⟩
  · exact (H.x.keep K H.w (off1 H.w o (by decide) (by simp))).cI (fun p h' => g mxI (by decide) p h' 0)
  · exact ((H.p k' hk').keep K H.w (off1 H.w o (by decide) (by simp))).cI (fun p h' => g mpI (by decide) p h' k')
  · exact ((H.s k' hk').keep K H.w (off1 H.w o (by decide) (by simp))).cI (fun p h' => g msI (by decide) p h' k')
  · exact ((H.d k' hk').keep K H.w (off1 H.w o (by decide) (by simp))).cI (fun p h' => g mdI (by decide) p h' k')
  · exact ((H.c k' hk').keep K H.w (off1 H.w o (by decide) (by simp))).cI (fun p h' => g mcI (by decide) p h' k')
  · by_cases e : k' = k
    · subst e
      have P := H.l k' hk
      refine ⟨P.c, fun p hp => ?_, P.lo⟩
      · show (if p.1 = G ∧ E.ml k' = E.ml k' then v else kI h p.1 (E.ml k')) = (if p.2 = F ∧ k' = k' then v else A.I p.2 k')
        simp only [and_true]
        exact mp_self (l := mlI) (by decide) hF hp (P.i p hp)
    · exact ((H.l k' hk').keep K H.w (off1 H.w o (by decide) (by simp; omega))).cI (fun p _ => upd2_ne _ _ (fun _ z => e z))
theorem RM.xI (v : Int32) (H : RM h E A) (hF : (G, F) ∈ mxI) : RM (sI h G (E.m) v) E (A.sI F 0 v) := by
  have K := Kp.sI h G (E.m) v
  have o := H.x.x
  have g : ∀ l : List (Nat × Nat), (∀ a ∈ (mxI : List (Nat × Nat)), ∀ b ∈ l, a.2 ≠ b.2) → ∀ p ∈ l, ∀ k', upd2 A.I F 0 v p.2 k' = A.I p.2 k' := fun l hl p h' k' => upd2_ne _ _ (fun e _ => hl _ hF p h' e.symm)
  refine ⟨K.w H.w, ?_, fun k' hk' => ?_, fun k' hk' => ?_, fun k' hk' => ?_, fun k' hk' => ?_, fun k' hk' => ?_⟩
  · have X := H.x
    refine ⟨X.x, fun p hp => ?_, X.l, X.lr, X.lp.off (f := fun z => z.1 ≠ 1000) K H.w (off1 H.w o (by decide) (by simp)) (by simp) (by simp), X.ls.off (f := fun z => z.1 ≠ 1000) K H.w (off1 H.w o (by decide) (by simp)) (by simp) (by simp), X.ld.off (f := fun z => z.1 ≠ 1000) K H.w (off1 H.w o (by decide) (by simp)) (by simp) (by simp), X.lc.off (f := fun z => z.1 ≠ 1000) K H.w (off1 H.w o (by decide) (by simp)) (by simp) (by simp), X.ll.off (f := fun z => z.1 ≠ 1000) K H.w (off1 H.w o (by decide) (by simp)) (by simp) (by simp), X.n, X.g, X.ol⟩
    · show (if p.1 = G ∧ E.m = E.m then v else kI h p.1 (E.m)) = (if p.2 = F ∧ 0 = 0 then v else A.I p.2 0)
      simp only [and_true]
      exact mp_self (l := mxI) (by decide) hF hp (X.i p hp)
  · exact ((H.p k' hk').keep K H.w (off1 H.w o (by decide) (by simp))).cI (fun p h' => g mpI (by decide) p h' k')
  · exact ((H.s k' hk').keep K H.w (off1 H.w o (by decide) (by simp))).cI (fun p h' => g msI (by decide) p h' k')
  · exact ((H.d k' hk').keep K H.w (off1 H.w o (by decide) (by simp))).cI (fun p h' => g mdI (by decide) p h' k')
  · exact ((H.c k' hk').keep K H.w (off1 H.w o (by decide) (by simp))).cI (fun p h' => g mcI (by decide) p h' k')
  · exact ((H.l k' hk').keep K H.w (off1 H.w o (by decide) (by simp))).cI (fun p h' => g mlI (by decide) p h' k')
theorem RM.xL (v : Int64) (H : RM h E A) (hF : (G, F) ∈ mxL) : RM (sL h G (E.m) v) E (A.sL F 0 v) := by
  have K := Kp.sL h G (E.m) v
  have o := H.x.x
  have g : ∀ l : List (Nat × Nat), (∀ a ∈ (mxL : List (Nat × Nat)), ∀ b ∈ l, a.2 ≠ b.2) → ∀ p ∈ l, ∀ k', upd2 A.L F 0 v p.2 k' = A.L p.2 k' := fun l hl p h' k' => upd2_ne _ _ (fun e _ => hl _ hF p h' e.symm)
  refine ⟨K.w H.w, ?_, fun k' hk' => ?_, fun k' hk' => ?_, fun k' hk' => ?_, fun k' hk' => ?_, fun k' hk' => ?_⟩
  · have X := H.x
    refine ⟨X.x, X.i, fun p hp => ?_, X.lr, X.lp.off (f := fun z => z.1 ≠ 1000) K H.w (off1 H.w o (by decide) (by simp)) (by simp) (by simp), X.ls.off (f := fun z => z.1 ≠ 1000) K H.w (off1 H.w o (by decide) (by simp)) (by simp) (by simp), X.ld.off (f := fun z => z.1 ≠ 1000) K H.w (off1 H.w o (by decide) (by simp)) (by simp) (by simp), X.lc.off (f := fun z => z.1 ≠ 1000) K H.w (off1 H.w o (by decide) (by simp)) (by simp) (by simp), X.ll.off (f := fun z => z.1 ≠ 1000) K H.w (off1 H.w o (by decide) (by simp)) (by simp) (by simp), X.n, X.g, X.ol⟩
    · show (if p.1 = G ∧ E.m = E.m then v else kL h p.1 (E.m)) = (if p.2 = F ∧ 0 = 0 then v else A.L p.2 0)
      simp only [and_true]
      exact mp_self (l := mxL) (by decide) hF hp (X.l p hp)
  · exact ((H.p k' hk').keep K H.w (off1 H.w o (by decide) (by simp))).cL (fun p h' => g mpL (by decide) p h' k')
  · exact ((H.s k' hk').keep K H.w (off1 H.w o (by decide) (by simp))).cL
  · exact ((H.d k' hk').keep K H.w (off1 H.w o (by decide) (by simp))).cL (fun p h' => g mdL (by decide) p h' k')
  · exact ((H.c k' hk').keep K H.w (off1 H.w o (by decide) (by simp))).cL (fun p h' => g mcL (by decide) p h' k')
  · exact ((H.l k' hk').keep K H.w (off1 H.w o (by decide) (by simp))).cL
end set
end P6

section P5
section cg
variable {h h1 : Hp} {E : Ev} {A : AS} {k : Nat} {I' : Nat → Nat → Int32} {L' : Nat → Nat → Int64}
theorem RSx.cI (H : RSx h E A) (g : ∀ F, F ∈ xF ∨ F ∈ dF → I' F 0 = A.I F 0) : RSx h E (AS.u_I A (I')) :=
  ⟨H.x, fun F hF => (H.i F hF).trans (g F (Or.inl hF)).symm, H.f, H.row, H.lp, H.ls, H.ld, H.lc, H.ll, H.n, H.gd, H.gr, H.g, H.vs, H.vm, H.out, H.ol, H.deal.1, fun z => ⟨(H.deal.2 z).1, (H.deal.2 z).2.1, fun F hF => ((H.deal.2 z).2.2 F hF).trans (g F (Or.inr hF)).symm⟩⟩
theorem RSx.cL (H : RSx h E A) (g : ∀ F, F ∈ [17, 200, 202, 203, 204, 205] → L' F 0 = A.L F 0) : RSx h E (AS.u_L A (L')) :=
  ⟨H.x, H.i, H.f.trans (g 17 (by decide)).symm, H.row, H.lp, H.ls, H.ld, H.lc, H.ll, H.n, H.gd, H.gr, H.g, H.vs, H.vm, ⟨H.out.1, H.out.2.1, fun F hF => (H.out.2.2 F hF).trans (g F (List.mem_cons_of_mem _ hF)).symm⟩, H.ol, H.deal⟩
theorem RSp.cI (H : RSp h E A k) (g : ∀ F, F ∈ pF → I' F k = A.I F k) : RSp h E (AS.u_I A (I')) k :=
  ⟨H.c, H.no, H.th, fun F hF => (H.i F hF).trans (g F hF).symm, H.l, H.cl, H.yl, H.y, H.he⟩
theorem RSp.cL (H : RSp h E A k) (g : ∀ F, F ∈ [416, 417, 418] → L' F k = A.L F k) : RSp h E (AS.u_L A (L')) k :=
  ⟨H.c, H.no, H.th, H.i, fun F hF => (H.l F hF).trans (g F hF).symm, H.cl, H.yl, H.y, H.he⟩
theorem RSs.cI (H : RSs h E A k) (g : ∀ F, F ∈ [601, 602, 603] → I' F k = A.I F k) : RSs h E (AS.u_I A (I')) k :=
  ⟨H.c, H.no, fun F hF => (H.i F hF).trans (g F hF).symm⟩
theorem RSs.cL (H : RSs h E A k) : RSs h E (AS.u_L A (L')) k := ⟨H.c, H.no, H.i⟩
theorem RSd.cI (H : RSd h E A k) (g : ∀ F, F ∈ [701, 702, 705] → I' F k = A.I F k) : RSd h E (AS.u_I A (I')) k :=
  ⟨H.c, H.no, fun F hF => (H.i F hF).trans (g F hF).symm, H.l⟩
theorem RSd.cL (H : RSd h E A k) (g : ∀ F, F ∈ [703, 704] → L' F k = A.L F k) : RSd h E (AS.u_L A (L')) k :=
  ⟨H.c, H.no, H.i, fun F hF => (H.l F hF).trans (g F hF).symm⟩
theorem RSc.cI (H : RSc h E A k) (g : ∀ F, F ∈ cF → I' F k = A.I F k) : RSc h E (AS.u_I A (I')) k :=
  ⟨H.c, H.no, H.th, fun F hF => (H.i F hF).trans (g F hF).symm, H.l, H.co, H.wl, H.w⟩
theorem RSc.cL (H : RSc h E A k) (g : ∀ F, F ∈ [1106, 1107] → L' F k = A.L F k) : RSc h E (AS.u_L A (L')) k :=
  ⟨H.c, H.no, H.th, H.i, fun F hF => (H.l F hF).trans (g F hF).symm, H.co, H.wl, H.w⟩
theorem RSl.cI (H : RSl h E A k) (g : ∀ F, F ∈ [1502, 1503] → I' F k = A.I F k) : RSl h E (AS.u_I A (I')) k :=
  ⟨H.c, H.no, fun F hF => (H.i F hF).trans (g F hF).symm, H.lo⟩
theorem RSl.cL (H : RSl h E A k) : RSl h E (AS.u_L A (L')) k := ⟨H.c, H.no, H.i, H.lo⟩
end cg
theorem upd2_at {α : Type} (f : Nat → Nat → α) (i j : Nat) (v : α) : upd2 f i j v i j = v := if_pos ⟨rfl, rfl⟩
theorem upd2_ne {α : Type} (f : Nat → Nat → α) {i j a b : Nat} (v : α) (h : a = i → b = j → False) : upd2 f i j v a b = f a b := if_neg (fun z => h z.1 z.2)
theorem mem_ne {l m : List Nat} (h : ∀ a ∈ l, ∀ b ∈ m, a ≠ b) {F F' : Nat} (h1 : F ∈ l) (h2 : F' ∈ m) : F' ≠ F := fun e => h F h1 F' h2 e.symm
section set
variable {h : Hp} {E : Ev} {A : AS} {k F : Nat}
/-- a write at one ref that is (t, i, j), kE aside -/
theorem off1 {r cc t i j : Nat} {f : Nat × Nat × Nat → Prop} (w : WB h) (o : ob h E r cc t i j) (hc : cc ≠ 0) (hf : ¬ f (t, i, j)) : off h E (fun m => m = r) f :=
  ⟨fun n hn z => by subst z; rw [o.2]; exact hf, fun z => by have := o.1; rw [← z, w.ec] at this; exact hc this.symm⟩
theorem RS.pI (v : Int32) (H : RS h E A) (hk : k < A.np) (hF : F ∈ pF) : RS (sI h F (E.sp k) v) E (A.sI F k v) := by
  have K := Kp.sI h F (E.sp k) v
  have o := (H.p k hk).c
  have g : ∀ l : List Nat, (∀ a ∈ pF, ∀ b ∈ l, a ≠ b) → ∀ F' ∈ l, ∀ k', upd2 A.I F k v F' k' = A.I F' k' := fun l hl F' h' k' => upd2_ne _ _ (fun e _ => mem_ne hl hF h' e)
  refine ⟨K.w H.w, ?_, fun k' hk' => ?_, fun k' hk' => ?_, fun k' hk' => ?_, fun k' hk' => ?_, fun k' hk' => ?_⟩
  · refine (H.x.keep K H.w (off1 H.w o (by decide) (by simp))).cI (fun F' h' => ?_)
    rcases h' with h' | h'
    · exact g xF (by decide) F' h' 0
    · exact g dF (by decide) F' h' 0
  · by_cases e : k' = k
    · subst e
      have P := H.p k' hk
      refine ⟨P.c, ?_, P.th, fun F' h' => ?_, P.l, P.cl, ⟨P.yl.1, P.yl.2.off (f := fun z => z.1 ≠ 11) K H.w (off1 H.w o (by decide) (by simp)) (by simp) (by simp)⟩, fun j hj => ?_, P.he⟩
      · rw [kI_sI, if_neg (fun z => absurd hF (by rw [← z.1]; decide))]; exact P.no
      · show (if F' = F ∧ E.sp k' = E.sp k' then v else kI h F' (E.sp k')) = (if F' = F ∧ k' = k' then v else A.I F' k')
        by_cases z : F' = F
        · simp [z]
        · simp [z]; exact P.i F' h'
      · obtain ⟨y1, y2, y3, y4, y5⟩ := P.y j hj
        refine ⟨y1, y2, ?_, ?_, y5⟩
        · rw [kI_sI, if_neg (fun z => absurd hF (by rw [← z.1]; decide))]; exact y3
        · rw [kI_sI, if_neg (fun z => absurd hF (by rw [← z.1]; decide))]; exact y4
    · exact ((H.p k' hk').keep K H.w (off1 H.w o (by decide) (by simp; omega))).cI (fun F' _ => upd2_ne _ _ (fun _ z => e z))
  · exact ((H.s k' hk').keep K H.w (off1 H.w o (by decide) (by simp))).cI (fun F' h' => g _ (by decide) F' h' k')
  · exact ((H.d k' hk').keep K H.w (off1 H.w o (by decide) (by simp))).cI (fun F' h' => g _ (by decide) F' h' k')
  · exact ((H.c k' hk').keep K H.w (off1 H.w o (by decide) (by simp))).cI (fun F' h' => g _ (by decide) F' h' k')
  · exact ((H.l k' hk').keep K H.w (off1 H.w o (by decide) (by simp))).cI (fun F' h' => g _ (by decide) F' h' k')
theorem RS.pL (v : Int64) (H : RS h E A) (hk : k < A.np) (hF : F ∈ ([416, 417, 418] : List Nat)) : RS (sL h F (E.sp k) v) E (A.sL F k v) := by
  have K := Kp.sL h F (E.sp k) v
  have o := (H.p k hk).c
  have g : ∀ l : List Nat, (∀ a ∈ ([416, 417, 418] : List Nat), ∀ b ∈ l, a ≠ b) → ∀ F' ∈ l, ∀ k', upd2 A.L F k v F' k' = A.L F' k' := fun l hl F' h' k' => upd2_ne _ _ (fun e _ => mem_ne hl hF h' e)
  refine ⟨K.w H.w, ?_, fun k' hk' => ?_, fun k' hk' => ?_, fun k' hk' => ?_, fun k' hk' => ?_, fun k' hk' => ?_⟩
  · exact (H.x.keep K H.w (off1 H.w o (by decide) (by simp))).cL (fun F' h' => g _ (by decide) F' h' 0)
  · by_cases e : k' = k
    · subst e
      have P := H.p k' hk
      refine ⟨P.c, P.no, P.th, P.i, fun F' h' => ?_, P.cl, ⟨P.yl.1, P.yl.2.off (f := fun z => z.1 ≠ 11) K H.w (off1 H.w o (by decide) (by simp)) (by simp) (by simp)⟩, fun j hj => ?_, P.he⟩
      · show (if F' = F ∧ E.sp k' = E.sp k' then v else kL h F' (E.sp k')) = (if F' = F ∧ k' = k' then v else A.L F' k')
        by_cases z : F' = F
        · simp [z]
        · simp [z]; exact P.l F' h'
      · obtain ⟨y1, y2, y3, y4, y5⟩ := P.y j hj
        refine ⟨y1, ?_, y3, y4, y5⟩
        rw [kL_sL, if_neg (fun z => absurd hF (by rw [← z.1]; decide))]; exact y2
    · exact ((H.p k' hk').keep K H.w (off1 H.w o (by decide) (by simp; omega))).cL (fun F' _ => upd2_ne _ _ (fun _ z => e z))
  · exact ((H.s k' hk').keep K H.w (off1 H.w o (by decide) (by simp))).cL
  · exact ((H.d k' hk').keep K H.w (off1 H.w o (by decide) (by simp))).cL (fun F' h' => g _ (by decide) F' h' k')
  · exact ((H.c k' hk').keep K H.w (off1 H.w o (by decide) (by simp))).cL (fun F' h' => g _ (by decide) F' h' k')
  · exact ((H.l k' hk').keep K H.w (off1 H.w o (by decide) (by simp))).cL
theorem RS.dI (v : Int32) (H : RS h E A) (hk : k < A.nd) (hF : F ∈ ([701, 702, 705] : List Nat)) : RS (sI h F (E.sd k) v) E (A.sI F k v) := by
  have K := Kp.sI h F (E.sd k) v
  have o := (H.d k hk).c
  have g : ∀ l : List Nat, (∀ a ∈ ([701, 702, 705] : List Nat), ∀ b ∈ l, a ≠ b) → ∀ F' ∈ l, ∀ k', upd2 A.I F k v F' k' = A.I F' k' := fun l hl F' h' k' => upd2_ne _ _ (fun e _ => mem_ne hl hF h' e)
  refine ⟨K.w H.w, ?_, fun k' hk' => ?_, fun k' hk' => ?_, fun k' hk' => ?_, fun k' hk' => ?_, fun k' hk' => ?_⟩
  · refine (H.x.keep K H.w (off1 H.w o (by decide) (by simp))).cI (fun F' h' => ?_)
    rcases h' with h' | h'
    · exact g xF (by decide) F' h' 0
    · exact g dF (by decide) F' h' 0
  · exact ((H.p k' hk').keep K H.w (off1 H.w o (by decide) (by simp))).cI (fun F' h' => g _ (by decide) F' h' k')
  · exact ((H.s k' hk').keep K H.w (off1 H.w o (by decide) (by simp))).cI (fun F' h' => g _ (by decide) F' h' k')
  · by_cases e : k' = k
    · subst e
      have P := H.d k' hk
      refine ⟨P.c, ?_, fun F' h' => ?_, P.l⟩
      · rw [kI_sI, if_neg (fun z => absurd hF (by rw [← z.1]; decide))]; exact P.no
      · show (if F' = F ∧ E.sd k' = E.sd k' then v else kI h F' (E.sd k')) = (if F' = F ∧ k' = k' then v else A.I F' k')
        by_cases z : F' = F
        · simp [z]
        · simp [z]; exact P.i F' h'
    · exact ((H.d k' hk').keep K H.w (off1 H.w o (by decide) (by simp; omega))).cI (fun F' _ => upd2_ne _ _ (fun _ z => e z))
  · exact ((H.c k' hk').keep K H.w (off1 H.w o (by decide) (by simp))).cI (fun F' h' => g _ (by decide) F' h' k')
  · exact ((H.l k' hk').keep K H.w (off1 H.w o (by decide) (by simp))).cI (fun F' h' => g _ (by decide) F' h' k')
theorem RS.dL (v : Int64) (H : RS h E A) (hk : k < A.nd) (hF : F ∈ ([703, 704] : List Nat)) : RS (sL h F (E.sd k) v) E (A.sL F k v) := by
  have K := Kp.sL h F (E.sd k) v
  have o := (H.d k hk).c
  have g : ∀ l : List Nat, (∀ a ∈ ([703, 704] : List Nat), ∀ b ∈ l, a ≠ b) → ∀ F' ∈ l, ∀ k', upd2 A.L F k v F' k' = A.L F' k' := fun l hl F' h' k' => upd2_ne _ _ (fun e _ => mem_ne hl hF h' e)
  refine ⟨K.w H.w, ?_, fun k' hk' => ?_, fun k' hk' => ?_, fun k' hk' => ?_, fun k' hk' => ?_, fun k' hk' => ?_⟩
  · exact (H.x.keep K H.w (off1 H.w o (by decide) (by simp))).cL (fun F' h' => g _ (by decide) F' h' 0)
  · exact ((H.p k' hk').keep K H.w (off1 H.w o (by decide) (by simp))).cL (fun F' h' => g _ (by decide) F' h' k')
  · exact ((H.s k' hk').keep K H.w (off1 H.w o (by decide) (by simp))).cL
  · by_cases e : k' = k
    · subst e
      have P := H.d k' hk
      refine ⟨P.c, P.no, P.i, fun F' h' => ?_⟩
      · show (if F' = F ∧ E.sd k' = E.sd k' then v else kL h F' (E.sd k')) = (if F' = F ∧ k' = k' then v else A.L F' k')
        by_cases z : F' = F
        · simp [z]
        · simp [z]; exact P.l F' h'
    · exact ((H.d k' hk').keep K H.w (off1 H.w o (by decide) (by simp; omega))).cL (fun F' _ => upd2_ne _ _ (fun _ z => e z))
  · exact ((H.c k' hk').keep K H.w (off1 H.w o (by decide) (by simp))).cL (fun F' h' => g _ (by decide) F' h' k')
  · exact ((H.l k' hk').keep K H.w (off1 H.w o (by decide) (by simp))).cL
theorem RS.cI (v : Int32) (H : RS h E A) (hk : k < A.nc) (hF : F ∈ (cF : List Nat)) : RS (sI h F (E.sc k) v) E (A.sI F k v) := by
  have K := Kp.sI h F (E.sc k) v
  have o := (H.c k hk).c
  have g : ∀ l : List Nat, (∀ a ∈ (cF : List Nat), ∀ b ∈ l, a ≠ b) → ∀ F' ∈ l, ∀ k', upd2 A.I F k v F' k' = A.I F' k' := fun l hl F' h' k' => upd2_ne _ _ (fun e _ => mem_ne hl hF h' e)
  refine ⟨K.w H.w, ?_, fun k' hk' => ?_, fun k' hk' => ?_, fun k' hk' => ?_, fun k' hk' => ?_, fun k' hk' => ?_⟩
  · refine (H.x.keep K H.w (off1 H.w o (by decide) (by simp))).cI (fun F' h' => ?_)
    rcases h' with h' | h'
    · exact g xF (by decide) F' h' 0
    · exact g dF (by decide) F' h' 0
  · exact ((H.p k' hk').keep K H.w (off1 H.w o (by decide) (by simp))).cI (fun F' h' => g _ (by decide) F' h' k')
  · exact ((H.s k' hk').keep K H.w (off1 H.w o (by decide) (by simp))).cI (fun F' h' => g _ (by decide) F' h' k')
  · exact ((H.d k' hk').keep K H.w (off1 H.w o (by decide) (by simp))).cI (fun F' h' => g _ (by decide) F' h' k')
  · by_cases e : k' = k
    · subst e
      have P := H.c k' hk
      refine ⟨P.c, ?_, P.th, fun F' h' => ?_, P.l, P.co, ⟨P.wl.1, P.wl.2.1.off (f := fun z => z.1 ≠ 17) K H.w (off1 H.w o (by decide) (by simp)) (by simp) (by simp), P.wl.2.2⟩, P.w⟩
      · rw [kI_sI, if_neg (fun z => absurd hF (by rw [← z.1]; decide))]; exact P.no
      · show (if F' = F ∧ E.sc k' = E.sc k' then v else kI h F' (E.sc k')) = (if F' = F ∧ k' = k' then v else A.I F' k')
        by_cases z : F' = F
        · simp [z]
        · simp [z]; exact P.i F' h'
    · exact ((H.c k' hk').keep K H.w (off1 H.w o (by decide) (by simp; omega))).cI (fun F' _ => upd2_ne _ _ (fun _ z => e z))
  · exact ((H.l k' hk').keep K H.w (off1 H.w o (by decide) (by simp))).cI (fun F' h' => g _ (by decide) F' h' k')
theorem RS.cL (v : Int64) (H : RS h E A) (hk : k < A.nc) (hF : F ∈ ([1106, 1107] : List Nat)) : RS (sL h F (E.sc k) v) E (A.sL F k v) := by
  have K := Kp.sL h F (E.sc k) v
  have o := (H.c k hk).c
  have g : ∀ l : List Nat, (∀ a ∈ ([1106, 1107] : List Nat), ∀ b ∈ l, a ≠ b) → ∀ F' ∈ l, ∀ k', upd2 A.L F k v F' k' = A.L F' k' := fun l hl F' h' k' => upd2_ne _ _ (fun e _ => mem_ne hl hF h' e)
  refine ⟨K.w H.w, ?_, fun k' hk' => ?_, fun k' hk' => ?_, fun k' hk' => ?_, fun k' hk' => ?_, fun k' hk' => ?_⟩
  · exact (H.x.keep K H.w (off1 H.w o (by decide) (by simp))).cL (fun F' h' => g _ (by decide) F' h' 0)
  · exact ((H.p k' hk').keep K H.w (off1 H.w o (by decide) (by simp))).cL (fun F' h' => g _ (by decide) F' h' k')
  · exact ((H.s k' hk').keep K H.w (off1 H.w o (by decide) (by simp))).cL
  · exact ((H.d k' hk').keep K H.w (off1 H.w o (by decide) (by simp))).cL (fun F' h' => g _ (by decide) F' h' k')
  · by_cases e : k' = k
    · subst e
      have P := H.c k' hk
      refine ⟨P.c, P.no, P.th, P.i, fun F' h' => ?_, P.co, ⟨P.wl.1, P.wl.2.1.off (f := fun z => z.1 ≠ 17) K H.w (off1 H.w o (by decide) (by simp)) (by simp) (by simp), P.wl.2.2⟩, P.w⟩
      · show (if F' = F ∧ E.sc k' = E.sc k' then v else kL h F' (E.sc k')) = (if F' = F ∧ k' = k' then v else A.L F' k')
        by_cases z : F' = F
        · simp [z]
        · simp [z]; exact P.l F' h'
    · exact ((H.c k' hk').keep K H.w (off1 H.w o (by decide) (by simp; omega))).cL (fun F' _ => upd2_ne _ _ (fun _ z => e z))
  · exact ((H.l k' hk').keep K H.w (off1 H.w o (by decide) (by simp))).cL
theorem RS.lI (v : Int32) (H : RS h E A) (hk : k < A.nl) (hF : F ∈ ([1502, 1503] : List Nat)) : RS (sI h F (E.sl k) v) E (A.sI F k v) := by
  have K := Kp.sI h F (E.sl k) v
  have o := (H.l k hk).c
  have g : ∀ l : List Nat, (∀ a ∈ ([1502, 1503] : List Nat), ∀ b ∈ l, a ≠ b) → ∀ F' ∈ l, ∀ k', upd2 A.I F k v F' k' = A.I F' k' := fun l hl F' h' k' => upd2_ne _ _ (fun e _ => mem_ne hl hF h' e)
  refine ⟨K.w H.w, ?_, fun k' hk' => ?_, fun k' hk' => ?_, fun k' hk' => ?_, fun k' hk' => ?_, fun k' hk' => ?_⟩
  · refine (H.x.keep K H.w (off1 H.w o (by decide) (by simp))).cI (fun F' h' => ?_)
    rcases h' with h' | h'
    · exact g xF (by decide) F' h' 0
    · exact g dF (by decide) F' h' 0
  · exact ((H.p k' hk').keep K H.w (off1 H.w o (by decide) (by simp))).cI (fun F' h' => g _ (by decide) F' h' k')
  · exact ((H.s k' hk').keep K H.w (off1 H.w o (by decide) (by simp))).cI (fun F' h' => g _ (by decide) F' h' k')
  · exact ((H.d k' hk').keep K H.w (off1 H.w o (by decide) (by simp))).cI (fun F' h' => g _ (by decide) F' h' k')
  · exact ((H.c k' hk').keep K H.w (off1 H.w o (by decide) (by simp))).cI (fun F' h' => g _ (by decide) F' h' k')
  · by_cases e : k' = k
    · subst e
      have P := H.l k' hk
      refine ⟨P.c, ?_, fun F' h' => ?_, P.lo⟩
      · rw [kI_sI, if_neg (fun z => absurd hF (by rw [← z.1]; decide))]; exact P.no
      · show (if F' = F ∧ E.sl k' = E.sl k' then v else kI h F' (E.sl k')) = (if F' = F ∧ k' = k' then v else A.I F' k')
        by_cases z : F' = F
        · simp [z]
        · simp [z]; exact P.i F' h'
    · exact ((H.l k' hk').keep K H.w (off1 H.w o (by decide) (by simp; omega))).cI (fun F' _ => upd2_ne _ _ (fun _ z => e z))
theorem RS.xI (v : Int32) (H : RS h E A) (hF : F ∈ (xF : List Nat)) : RS (sI h F (E.x) v) E (A.sI F 0 v) := by
  have K := Kp.sI h F (E.x) v
  have o := H.x.x
  have g : ∀ l : List Nat, (∀ a ∈ (xF : List Nat), ∀ b ∈ l, a ≠ b) → ∀ F' ∈ l, ∀ k', upd2 A.I F 0 v F' k' = A.I F' k' := fun l hl F' h' k' => upd2_ne _ _ (fun e _ => mem_ne hl hF h' e)
  refine ⟨K.w H.w, ?_, fun k' hk' => ?_, fun k' hk' => ?_, fun k' hk' => ?_, fun k' hk' => ?_, fun k' hk' => ?_⟩
  · have X := H.x
    refine ⟨X.x, fun F' h' => ?_, X.f, fun F' h' => ?_, X.lp.off (f := fun z => z.1 ≠ 1) K H.w (off1 H.w o (by decide) (by simp)) (by simp) (by simp), X.ls.off (f := fun z => z.1 ≠ 1) K H.w (off1 H.w o (by decide) (by simp)) (by simp) (by simp), X.ld.off (f := fun z => z.1 ≠ 1) K H.w (off1 H.w o (by decide) (by simp)) (by simp) (by simp), X.lc.off (f := fun z => z.1 ≠ 1) K H.w (off1 H.w o (by decide) (by simp)) (by simp) (by simp), X.ll.off (f := fun z => z.1 ≠ 1) K H.w (off1 H.w o (by decide) (by simp)) (by simp) (by simp), X.n, X.gd, X.gr, X.g, X.vs, X.vm, X.out, X.ol, X.deal.1, fun z => ⟨(X.deal.2 z).1, (X.deal.2 z).2.1, fun F' h' => ?_⟩⟩
    · show (if F' = F ∧ E.x = E.x then v else kI h F' (E.x)) = (if F' = F ∧ 0 = 0 then v else A.I F' 0)
      by_cases z : F' = F
      · simp [z]
      · simp [z]; exact X.i F' h'
    · obtain ⟨a1, a2, a3, a4⟩ := X.row F' h'
      refine ⟨a1, a2, ?_, a4⟩
      rw [kI_sI, if_neg (fun z => absurd hF (by rw [← z.1]; decide))]; exact a3
    · rw [kI_sI, if_neg (fun z => mem_ne (by decide) hF h' z.1)]
      exact ((X.deal.2 z).2.2 F' h').trans (g dF (by decide) F' h' 0).symm
  · exact ((H.p k' hk').keep K H.w (off1 H.w o (by decide) (by simp))).cI (fun F' h' => g _ (by decide) F' h' k')
  · exact ((H.s k' hk').keep K H.w (off1 H.w o (by decide) (by simp))).cI (fun F' h' => g _ (by decide) F' h' k')
  · exact ((H.d k' hk').keep K H.w (off1 H.w o (by decide) (by simp))).cI (fun F' h' => g _ (by decide) F' h' k')
  · exact ((H.c k' hk').keep K H.w (off1 H.w o (by decide) (by simp))).cI (fun F' h' => g _ (by decide) F' h' k')
  · exact ((H.l k' hk').keep K H.w (off1 H.w o (by decide) (by simp))).cI (fun F' h' => g _ (by decide) F' h' k')
theorem RS.xL (v : Int64) (H : RS h E A) (hF : F ∈ ([17] : List Nat)) : RS (sL h F (E.x) v) E (A.sL F 0 v) := by
  have K := Kp.sL h F (E.x) v
  have o := H.x.x
  have g : ∀ l : List Nat, (∀ a ∈ ([17] : List Nat), ∀ b ∈ l, a ≠ b) → ∀ F' ∈ l, ∀ k', upd2 A.L F 0 v F' k' = A.L F' k' := fun l hl F' h' k' => upd2_ne _ _ (fun e _ => mem_ne hl hF h' e)
  refine ⟨K.w H.w, ?_, fun k' hk' => ?_, fun k' hk' => ?_, fun k' hk' => ?_, fun k' hk' => ?_, fun k' hk' => ?_⟩
  · have X := H.x
    refine ⟨X.x, X.i, ?_, X.row, X.lp.off (f := fun z => z.1 ≠ 1) K H.w (off1 H.w o (by decide) (by simp)) (by simp) (by simp), X.ls.off (f := fun z => z.1 ≠ 1) K H.w (off1 H.w o (by decide) (by simp)) (by simp) (by simp), X.ld.off (f := fun z => z.1 ≠ 1) K H.w (off1 H.w o (by decide) (by simp)) (by simp) (by simp), X.lc.off (f := fun z => z.1 ≠ 1) K H.w (off1 H.w o (by decide) (by simp)) (by simp) (by simp), X.ll.off (f := fun z => z.1 ≠ 1) K H.w (off1 H.w o (by decide) (by simp)) (by simp) (by simp), X.n, X.gd, X.gr, X.g, X.vs, X.vm, ⟨X.out.1, X.out.2.1, fun F' h' => ?_⟩, X.ol, X.deal⟩
    · obtain rfl : F = 17 := by simpa using hF
      rw [kL_sL, if_pos ⟨rfl, rfl⟩]; exact (upd2_at A.L 17 0 v).symm
    · rw [kL_sL, if_neg (fun z => mem_ne (m := [200, 202, 203, 204, 205]) (by decide) hF h' z.1)]
      exact (X.out.2.2 F' h').trans (g _ (by decide) F' h' 0).symm
  · exact ((H.p k' hk').keep K H.w (off1 H.w o (by decide) (by simp))).cL (fun F' h' => g _ (by decide) F' h' k')
  · exact ((H.s k' hk').keep K H.w (off1 H.w o (by decide) (by simp))).cL
  · exact ((H.d k' hk').keep K H.w (off1 H.w o (by decide) (by simp))).cL (fun F' h' => g _ (by decide) F' h' k')
  · exact ((H.c k' hk').keep K H.w (off1 H.w o (by decide) (by simp))).cL (fun F' h' => g _ (by decide) F' h' k')
  · exact ((H.l k' hk').keep K H.w (off1 H.w o (by decide) (by simp))).cL
theorem RS.oL (v : Int64) (H : RS h E A) (hF : F ∈ ([200, 202, 203, 204, 205] : List Nat)) : RS (sL h F (E.out) v) E (A.sL F 0 v) := by
  have K := Kp.sL h F (E.out) v
  have o := H.x.out.2.1
  have g : ∀ l : List Nat, (∀ a ∈ ([200, 202, 203, 204, 205] : List Nat), ∀ b ∈ l, a ≠ b) → ∀ F' ∈ l, ∀ k', upd2 A.L F 0 v F' k' = A.L F' k' := fun l hl F' h' k' => upd2_ne _ _ (fun e _ => mem_ne hl hF h' e)
  refine ⟨K.w H.w, ?_, fun k' hk' => ?_, fun k' hk' => ?_, fun k' hk' => ?_, fun k' hk' => ?_, fun k' hk' => ?_⟩
  · have X := H.x
    refine ⟨X.x, X.i, ?_, X.row, X.lp.off (f := fun z => z.1 ≠ 8) K H.w (off1 H.w o (by decide) (by simp)) (by simp) (by simp), X.ls.off (f := fun z => z.1 ≠ 8) K H.w (off1 H.w o (by decide) (by simp)) (by simp) (by simp), X.ld.off (f := fun z => z.1 ≠ 8) K H.w (off1 H.w o (by decide) (by simp)) (by simp) (by simp), X.lc.off (f := fun z => z.1 ≠ 8) K H.w (off1 H.w o (by decide) (by simp)) (by simp) (by simp), X.ll.off (f := fun z => z.1 ≠ 8) K H.w (off1 H.w o (by decide) (by simp)) (by simp) (by simp), X.n, X.gd, X.gr, X.g, X.vs, X.vm, ⟨X.out.1, X.out.2.1, fun F' h' => ?_⟩, X.ol, X.deal⟩
    · rw [kL_sL, if_neg (fun z => absurd hF (by rw [← z.1]; decide))]
      exact X.f.trans (g [17] (by decide) 17 (by decide) 0).symm
    · show (if F' = F ∧ E.out = E.out then v else kL h F' (E.out)) = (if F' = F ∧ 0 = 0 then v else A.L F' 0)
      by_cases z : F' = F
      · simp [z]
      · simp [z]; exact X.out.2.2 F' h'
  · exact ((H.p k' hk').keep K H.w (off1 H.w o (by decide) (by simp))).cL (fun F' h' => g _ (by decide) F' h' k')
  · exact ((H.s k' hk').keep K H.w (off1 H.w o (by decide) (by simp))).cL
  · exact ((H.d k' hk').keep K H.w (off1 H.w o (by decide) (by simp))).cL (fun F' h' => g _ (by decide) F' h' k')
  · exact ((H.c k' hk').keep K H.w (off1 H.w o (by decide) (by simp))).cL (fun F' h' => g _ (by decide) F' h' k')
  · exact ((H.l k' hk').keep K H.w (off1 H.w o (by decide) (by simp))).cL
theorem RS.eI (v : Int32) (H : RS h E A) (hd : A.dl = true) (hF : F ∈ (dF : List Nat)) : RS (sI h F (E.deal) v) E (A.sI F 0 v) := by
  have K := Kp.sI h F (E.deal) v
  have o := (H.x.deal.2 hd).2.1
  have g : ∀ l : List Nat, (∀ a ∈ (dF : List Nat), ∀ b ∈ l, a ≠ b) → ∀ F' ∈ l, ∀ k', upd2 A.I F 0 v F' k' = A.I F' k' := fun l hl F' h' k' => upd2_ne _ _ (fun e _ => mem_ne hl hF h' e)
  refine ⟨K.w H.w, ?_, fun k' hk' => ?_, fun k' hk' => ?_, fun k' hk' => ?_, fun k' hk' => ?_, fun k' hk' => ?_⟩
  · have X := H.x
    refine ⟨X.x, fun F' h' => ?_, X.f, fun F' h' => ?_, X.lp.off (f := fun z => z.1 ≠ 10) K H.w (off1 H.w o (by decide) (by simp)) (by simp) (by simp), X.ls.off (f := fun z => z.1 ≠ 10) K H.w (off1 H.w o (by decide) (by simp)) (by simp) (by simp), X.ld.off (f := fun z => z.1 ≠ 10) K H.w (off1 H.w o (by decide) (by simp)) (by simp) (by simp), X.lc.off (f := fun z => z.1 ≠ 10) K H.w (off1 H.w o (by decide) (by simp)) (by simp) (by simp), X.ll.off (f := fun z => z.1 ≠ 10) K H.w (off1 H.w o (by decide) (by simp)) (by simp) (by simp), X.n, X.gd, X.gr, X.g, X.vs, X.vm, X.out, X.ol, X.deal.1, fun z => ⟨(X.deal.2 z).1, (X.deal.2 z).2.1, fun F' h' => ?_⟩⟩
    · rw [kI_sI, if_neg (fun z => mem_ne (m := xF) (by decide) hF h' z.1)]
      exact (X.i F' h').trans (g xF (by decide) F' h' 0).symm
    · obtain ⟨a1, a2, a3, a4⟩ := X.row F' h'
      refine ⟨a1, a2, ?_, a4⟩
      rw [kI_sI, if_neg (fun z => absurd hF (by rw [← z.1]; decide))]; exact a3
    · show (if F' = F ∧ E.deal = E.deal then v else kI h F' (E.deal)) = (if F' = F ∧ 0 = 0 then v else A.I F' 0)
      by_cases z : F' = F
      · simp [z]
      · simp [z]; exact (X.deal.2 hd).2.2 F' h'
  · exact ((H.p k' hk').keep K H.w (off1 H.w o (by decide) (by simp))).cI (fun F' h' => g _ (by decide) F' h' k')
  · exact ((H.s k' hk').keep K H.w (off1 H.w o (by decide) (by simp))).cI (fun F' h' => g _ (by decide) F' h' k')
  · exact ((H.d k' hk').keep K H.w (off1 H.w o (by decide) (by simp))).cI (fun F' h' => g _ (by decide) F' h' k')
  · exact ((H.c k' hk').keep K H.w (off1 H.w o (by decide) (by simp))).cI (fun F' h' => g _ (by decide) F' h' k')
  · exact ((H.l k' hk').keep K H.w (off1 H.w o (by decide) (by simp))).cI (fun F' h' => g _ (by decide) F' h' k')
end set
end P5

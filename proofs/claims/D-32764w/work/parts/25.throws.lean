section VR5
variable {p : Program} {l : Launch} {e : Env} {R : Room} {s : State} {m : MethodId} {args : Array Value} {below : List Frame} {meth : Method} {c : Code} {D : va_G} {Hs H : Heap} {locs : List Loc} {cells slots : Nat} {Q : State → Prop} {cc : ByteArray} {own : String} {nL : Nat} {ret : Option FieldType} {et : List (Nat × Nat × Nat × Nat)} {F X : Nat} {h : Hp} {pc : Nat} {ls : Array Slot} {rest st0 : List Value}
/-- 'throw new E()' -/
def NT (own : String) (ik ic x : Nat) (names : List String) : Prop := Bundle.fit (exN x) = true ∧ (∀ n ∈ names, Bundle.fit n = true) ∧ (Cond.classLink own ik (exN x)) ∈ lw_all ∧ (Cond.initialized (exN x)) ∈ lw_all ∧ (∀ w ∈ vx_at0 own ic (exN x) names, w ∈ lw_tbl ∧ (goodWord w || nwW w) = true) ∧ (∀ w ∈ Cond.classLink own ik (exN x) :: Cond.initialized (exN x) :: vx_at0 own ic (exN x) names, vx_ot w = true)
theorem nw_onTables {w : Cond} (h : nwW w = true) : w.onTables = true := by
  cases w <;> first | (exact absurd h Bool.false_ne_true) | rfl
theorem V_throw0 {γ : Type} {inj2 : γ → Option Value} {rr : (γ ⊕ Ex) × Hp} {ik ic x : Nat} {names : List String} (C : CX p l R s m args meth c D Hs cc own nL ret et F X) (hH : HP D Hs h H) (hL : LO Hs locs) (hN : NT own ik ic x names) (hrun : th x h = some rr) (hnc : (tableOf et).all (fun z => !covers z (pc + 7)) = true)
    (d0 : decode cc pc = .ok (.new ik, 3)) (d3 : decode cc (pc + 3) = .ok (.dup, 1)) (d4 : decode cc (pc + 4) = .ok (.invokespecial ic, 3)) (d7 : decode cc (pc + 7) = .ok (.athrow, 1)) (hF : names.length + 3 < F) (hX : csum rest + (13 * (names.length + 1) + 42) ≤ X) (hsize : ls.size = nL) :
    W p l e R s m args below meth c H locs cells slots (ZM D Hs inj2 rr below args s) (F0 m pc ls rest) := by
  obtain ⟨hlim, hrun⟩ := gd_some hrun
  obtain ⟨⟨hx, hb, hml, hown, hts⟩, ⟨-, hlocks, hl, hT, hexc⟩, hR, r1, r2, r3, r4⟩ := C
  obtain ⟨n1, n2, n3, n4, n5, n6⟩ := hN
  obtain ⟨⟨g1, g2, g3, g4, g5, g6, g7⟩, g8⟩ := id hH
  refine W.ex fun w1 w2 => ?_
  have hkept : ∀ {C n d : String}, vx_Zq C n d (oA Hs) s Hs → vx_Zq C n d (oA Hs) s s.heap := fun hz => hz.kept (fun a ha _ => r4 a ha)
  have hS : va_S (oA Hs) s.heap H locs := ⟨w1, fun q _ hq => by
    have hq : q < Hs.size := Nat.not_le.mp hq
    rw [r4 q hq, g8.1 q hq], hL⟩
  refine vx_throw0 (names := names) (A := oA Hs) (free := oA Hs) hx hb hl hown n1 n2 (hts _ n3) (hts _ n4) (fun w hw => ?_) n6 (hkept hT.2.2.2.2.2.2.1) (hkept hT.2.2.2.2.2.2.2.1) hS (hsize.trans hml.symm) d0 d3 d4 d7 (fun z hz => ?_) (by rw [hR]; exact hF) (by rw [hR]; exact hX) (by rw [hR]; show _ ≤ Hs.size + 1200144 - s.heap.size; omega) (by rw [hR]; show _ ≤ tot Hs + 5496058 - tot s.heap; omega) hlocks (fun t t1 t2 t3 t4 => ?_) hL (by omega) (by omega)
  · obtain ⟨a1, a2⟩ := n5 w hw
    rcases Bool.or_eq_true_iff.mp a2 with a2 | a2
    · exact hts _ (lw_g a1 a2)
    · exact va_Nw.use (nw_onTables a2) (hT.2.1 w a1 a2)
  · rw [hexc] at hz
    have h9 := List.all_eq_true.mp hnc z hz
    cases hcv : covers z (pc + 7) with
    | false => rfl
    | true => rw [hcv] at h9; cases h9
  · cases hrun
    have hz : t.heap.size = H.size + 1 := by omega
    obtain ⟨cell, hcell⟩ : ∃ cell, t.heap[H.size]? = some cell := ⟨_, Array.getElem?_eq_getElem (by omega)⟩
    have hcs : cell.slots.size ≤ 6 := by
      have hd : t.heap.toList.drop H.size = [cell] := by
        apply List.ext_getElem?
        intro i
        rw [List.getElem?_drop, Array.getElem?_toList]
        cases i with
        | zero => rw [Nat.add_zero, hcell]; rfl
        | succ i =>
          rw [Array.getElem?_eq_none (by omega)]
          rfl
      rw [hd] at t4
      simpa using t4
    refine ⟨x, by show Sum.inr (x, kz h + 1) = _; rw [g1], rfl, ?_⟩
    exact hH.push (h1 := bN h 6) (N := 6) hcell hz t3 hcs hlim (fun _ _ => rfl) (fun _ _ => rfl) (fun _ _ _ _ => fvl_bN) (fun _ _ _ _ => avl_bN) rfl rfl rfl rfl rfl (fun q => absurd hH.fresh q)
/-- 'athrow' of an object of ours -/
theorem V_athrow {γ : Type} {inj2 : γ → Option Value} {rr : (γ ⊕ Ex) × Hp} {x n ci : Nat} {r : vw_C} (C : CX p l R s m args meth c D Hs cc own nL ret et F X) (hH : HP D Hs h H) (hL : LO Hs locs) (hrun : (some (.inr (x, n), h) : Rt γ) = some rr) (hn : kC h n = ci + 1) (h99 : ci < 99) (hr : vwCl[ci]? = some r) (hx : exN x = r.1) (hnc : (tableOf et).all (fun z => !covers z pc) = true) (hdg : decode cc pc = .ok (.athrow, 1)) :
    W p l e R s m args below meth c H locs cells slots (ZM D Hs inj2 rr below args s) (F0 m pc ls (rv n :: rest)) := by
  obtain ⟨hn0, -, cell, q1, q2, q3, -⟩ := hH.obj hn h99 hr
  have hT := C.2.1.2.2.2.1
  rw [rv_pos hn0]
  refine vx_athrow C.1.1 C.1.2.1 hdg ?_
  refine V_out (x := x) C hH hL ?_ hnc q1 q3 (by rw [hx, q2]; exact (hT.1.1 ci _ hr).2.1)
  rw [show n - 1 + 1 = n by omega]
  exact (Option.some.inj hrun).symm
end VR5

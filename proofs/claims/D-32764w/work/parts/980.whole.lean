theorem law_true {L : Nat} {xs : Nat → Int32} (hL : L ≤ 120) (sz to t mi : Nat) (ht : t < sz) : ∃ h1, f_L_law L xs () (fun _ => 0, fun _ => 0, fun _ _ => 0, fun _ _ => 0, fun _ _ => 0, fun _ _ => 0, fun _ _ => 0, fun _ _ => 0, sz, to, sz + 1200144, to + 5496058, t + 1, mi + 1) = some (.inl 1, h1) := by
  sorry
theorem whole_start {p : Program} {e : Env} {s : State} {m : MethodId} {below : List Frame} {meth : Method} {c : Code} (l : Launch) (hflags : l.flags = flags0) {b L : Nat} {xs : Nat → Int32} (hL : L ≤ 120) (C0 : lw_At p s m meth c b L xs) : W p l e room_1 s m #[Value.ref b] below meth c s.heap [] 0 0 (lw_Z below #[Value.ref b] s) (entryFrame m ([Value.ref b] : List Value).toArray 9) :=
  start_of l hflags hL C0 (law_true hL)

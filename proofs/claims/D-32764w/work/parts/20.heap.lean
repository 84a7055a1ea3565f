/-! THE ABSTRACT HEAP: kC class code of a reference (0: none; references are addresses + 1, null is 0), kN an array's length, kI kL kR fields by number, jI jL jR elements, kz cells, ks slots, kza ksa their limits, kE the empty static array of ArrayList, kM the Class object of Object[] -/
abbrev Hp : Type := (Nat → Nat) × (Nat → Nat) × (Nat → Nat → Int32) × (Nat → Nat → Int64) × (Nat → Nat → Nat) × (Nat → Nat → Int32) × (Nat → Nat → Int64) × (Nat → Nat → Nat) × (Nat) × (Nat) × (Nat) × (Nat) × (Nat) × (Nat)
def kC (h : Hp) : Nat → Nat := h.1
def kN (h : Hp) : Nat → Nat := h.2.1
def kI (h : Hp) : Nat → Nat → Int32 := h.2.2.1
def kL (h : Hp) : Nat → Nat → Int64 := h.2.2.2.1
def kR (h : Hp) : Nat → Nat → Nat := h.2.2.2.2.1
def jI (h : Hp) : Nat → Nat → Int32 := h.2.2.2.2.2.1
def jL (h : Hp) : Nat → Nat → Int64 := h.2.2.2.2.2.2.1
def jR (h : Hp) : Nat → Nat → Nat := h.2.2.2.2.2.2.2.1
def kz (h : Hp) : Nat := h.2.2.2.2.2.2.2.2.1
def ks (h : Hp) : Nat := h.2.2.2.2.2.2.2.2.2.1
def kza (h : Hp) : Nat := h.2.2.2.2.2.2.2.2.2.2.1
def ksa (h : Hp) : Nat := h.2.2.2.2.2.2.2.2.2.2.2.1
def kE (h : Hp) : Nat := h.2.2.2.2.2.2.2.2.2.2.2.2.1
def kM (h : Hp) : Nat := h.2.2.2.2.2.2.2.2.2.2.2.2.2
def sI (h : Hp) (f n : Nat) (v : Int32) : Hp := (kC h, kN h, fun g m => if g = f ∧ m = n then v else kI h g m, kL h, kR h, jI h, jL h, jR h, kz h, ks h, kza h, ksa h, kE h, kM h)
def sL (h : Hp) (f n : Nat) (v : Int64) : Hp := (kC h, kN h, kI h, fun g m => if g = f ∧ m = n then v else kL h g m, kR h, jI h, jL h, jR h, kz h, ks h, kza h, ksa h, kE h, kM h)
def sR (h : Hp) (f n : Nat) (v : Nat) : Hp := (kC h, kN h, kI h, kL h, fun g m => if g = f ∧ m = n then v else kR h g m, jI h, jL h, jR h, kz h, ks h, kza h, ksa h, kE h, kM h)
def tI (h : Hp) (n i : Nat) (v : Int32) : Hp := (kC h, kN h, kI h, kL h, kR h, fun m j => if m = n ∧ j = i then v else jI h m j, jL h, jR h, kz h, ks h, kza h, ksa h, kE h, kM h)
def tL (h : Hp) (n i : Nat) (v : Int64) : Hp := (kC h, kN h, kI h, kL h, kR h, jI h, fun m j => if m = n ∧ j = i then v else jL h m j, jR h, kz h, ks h, kza h, ksa h, kE h, kM h)
def tR (h : Hp) (n i : Nat) (v : Nat) : Hp := (kC h, kN h, kI h, kL h, kR h, jI h, jL h, fun m j => if m = n ∧ j = i then v else jR h m j, kz h, ks h, kza h, ksa h, kE h, kM h)
def oN (h : Hp) (c N : Nat) : Hp := (fun m => if m = kz h + 1 then c else kC h m, kN h, fun g m => if m = kz h + 1 then 0 else kI h g m, fun g m => if m = kz h + 1 then 0 else kL h g m, fun g m => if m = kz h + 1 then 0 else kR h g m, jI h, jL h, jR h, kz h + 1, ks h + N, kza h, ksa h, kE h, kM h)
def aN (h : Hp) (c N : Nat) : Hp := (fun m => if m = kz h + 1 then c else kC h m, fun m => if m = kz h + 1 then N else kN h m, kI h, kL h, kR h, fun m j => if m = kz h + 1 then 0 else jI h m j, fun m j => if m = kz h + 1 then 0 else jL h m j, fun m j => if m = kz h + 1 then 0 else jR h m j, kz h + 1, ks h + N, kza h, ksa h, kE h, kM h)
def bN (h : Hp) (N : Nat) : Hp := (kC h, kN h, kI h, kL h, kR h, jI h, jL h, jR h, kz h + 1, ks h + N, kza h, ksa h, kE h, kM h)
def cR (h : Hp) (a sp b dp n : Nat) : Hp := (kC h, kN h, kI h, kL h, kR h, jI h, jL h, fun m j => if m = b ∧ dp ≤ j ∧ j < dp + n then jR h a (sp + (j - dp)) else jR h m j, kz h, ks h, kza h, ksa h, kE h, kM h)
theorem kC_sI (h : Hp) (f n : Nat) (v : Int32) : kC (sI h f n v) = kC h := rfl
theorem kN_sI (h : Hp) (f n : Nat) (v : Int32) : kN (sI h f n v) = kN h := rfl
theorem kI_sI (h : Hp) (f n : Nat) (v : Int32) (g m : Nat) : kI (sI h f n v) g m = (if g = f ∧ m = n then v else kI h g m) := rfl
theorem kL_sI (h : Hp) (f n : Nat) (v : Int32) : kL (sI h f n v) = kL h := rfl
theorem kR_sI (h : Hp) (f n : Nat) (v : Int32) : kR (sI h f n v) = kR h := rfl
theorem jI_sI (h : Hp) (f n : Nat) (v : Int32) : jI (sI h f n v) = jI h := rfl
theorem jL_sI (h : Hp) (f n : Nat) (v : Int32) : jL (sI h f n v) = jL h := rfl
theorem jR_sI (h : Hp) (f n : Nat) (v : Int32) : jR (sI h f n v) = jR h := rfl
theorem kz_sI (h : Hp) (f n : Nat) (v : Int32) : kz (sI h f n v) = kz h := rfl
theorem ks_sI (h : Hp) (f n : Nat) (v : Int32) : ks (sI h f n v) = ks h := rfl
theorem kza_sI (h : Hp) (f n : Nat) (v : Int32) : kza (sI h f n v) = kza h := rfl
theorem ksa_sI (h : Hp) (f n : Nat) (v : Int32) : ksa (sI h f n v) = ksa h := rfl
theorem kE_sI (h : Hp) (f n : Nat) (v : Int32) : kE (sI h f n v) = kE h := rfl
theorem kM_sI (h : Hp) (f n : Nat) (v : Int32) : kM (sI h f n v) = kM h := rfl
theorem kC_sL (h : Hp) (f n : Nat) (v : Int64) : kC (sL h f n v) = kC h := rfl
theorem kN_sL (h : Hp) (f n : Nat) (v : Int64) : kN (sL h f n v) = kN h := rfl
theorem kI_sL (h : Hp) (f n : Nat) (v : Int64) : kI (sL h f n v) = kI h := rfl
theorem kL_sL (h : Hp) (f n : Nat) (v : Int64) (g m : Nat) : kL (sL h f n v) g m = (if g = f ∧ m = n then v else kL h g m) := rfl
theorem kR_sL (h : Hp) (f n : Nat) (v : Int64) : kR (sL h f n v) = kR h := rfl
theorem jI_sL (h : Hp) (f n : Nat) (v : Int64) : jI (sL h f n v) = jI h := rfl
theorem jL_sL (h : Hp) (f n : Nat) (v : Int64) : jL (sL h f n v) = jL h := rfl
theorem jR_sL (h : Hp) (f n : Nat) (v : Int64) : jR (sL h f n v) = jR h := rfl
theorem kz_sL (h : Hp) (f n : Nat) (v : Int64) : kz (sL h f n v) = kz h := rfl
theorem ks_sL (h : Hp) (f n : Nat) (v : Int64) : ks (sL h f n v) = ks h := rfl
theorem kza_sL (h : Hp) (f n : Nat) (v : Int64) : kza (sL h f n v) = kza h := rfl
theorem ksa_sL (h : Hp) (f n : Nat) (v : Int64) : ksa (sL h f n v) = ksa h := rfl
theorem kE_sL (h : Hp) (f n : Nat) (v : Int64) : kE (sL h f n v) = kE h := rfl
theorem kM_sL (h : Hp) (f n : Nat) (v : Int64) : kM (sL h f n v) = kM h := rfl
theorem kC_sR (h : Hp) (f n : Nat) (v : Nat) : kC (sR h f n v) = kC h := rfl
theorem kN_sR (h : Hp) (f n : Nat) (v : Nat) : kN (sR h f n v) = kN h := rfl
theorem kI_sR (h : Hp) (f n : Nat) (v : Nat) : kI (sR h f n v) = kI h := rfl
theorem kL_sR (h : Hp) (f n : Nat) (v : Nat) : kL (sR h f n v) = kL h := rfl
theorem kR_sR (h : Hp) (f n : Nat) (v : Nat) (g m : Nat) : kR (sR h f n v) g m = (if g = f ∧ m = n then v else kR h g m) := rfl
theorem jI_sR (h : Hp) (f n : Nat) (v : Nat) : jI (sR h f n v) = jI h := rfl
theorem jL_sR (h : Hp) (f n : Nat) (v : Nat) : jL (sR h f n v) = jL h := rfl
theorem jR_sR (h : Hp) (f n : Nat) (v : Nat) : jR (sR h f n v) = jR h := rfl
theorem kz_sR (h : Hp) (f n : Nat) (v : Nat) : kz (sR h f n v) = kz h := rfl
theorem ks_sR (h : Hp) (f n : Nat) (v : Nat) : ks (sR h f n v) = ks h := rfl
theorem kza_sR (h : Hp) (f n : Nat) (v : Nat) : kza (sR h f n v) = kza h := rfl
theorem ksa_sR (h : Hp) (f n : Nat) (v : Nat) : ksa (sR h f n v) = ksa h := rfl
theorem kE_sR (h : Hp) (f n : Nat) (v : Nat) : kE (sR h f n v) = kE h := rfl
theorem kM_sR (h : Hp) (f n : Nat) (v : Nat) : kM (sR h f n v) = kM h := rfl
theorem kC_tI (h : Hp) (n i : Nat) (v : Int32) : kC (tI h n i v) = kC h := rfl
theorem kN_tI (h : Hp) (n i : Nat) (v : Int32) : kN (tI h n i v) = kN h := rfl
theorem kI_tI (h : Hp) (n i : Nat) (v : Int32) : kI (tI h n i v) = kI h := rfl
theorem kL_tI (h : Hp) (n i : Nat) (v : Int32) : kL (tI h n i v) = kL h := rfl
theorem kR_tI (h : Hp) (n i : Nat) (v : Int32) : kR (tI h n i v) = kR h := rfl
theorem jI_tI (h : Hp) (n i : Nat) (v : Int32) (m j : Nat) : jI (tI h n i v) m j = (if m = n ∧ j = i then v else jI h m j) := rfl
theorem jL_tI (h : Hp) (n i : Nat) (v : Int32) : jL (tI h n i v) = jL h := rfl
theorem jR_tI (h : Hp) (n i : Nat) (v : Int32) : jR (tI h n i v) = jR h := rfl
theorem kz_tI (h : Hp) (n i : Nat) (v : Int32) : kz (tI h n i v) = kz h := rfl
theorem ks_tI (h : Hp) (n i : Nat) (v : Int32) : ks (tI h n i v) = ks h := rfl
theorem kza_tI (h : Hp) (n i : Nat) (v : Int32) : kza (tI h n i v) = kza h := rfl
theorem ksa_tI (h : Hp) (n i : Nat) (v : Int32) : ksa (tI h n i v) = ksa h := rfl
theorem kE_tI (h : Hp) (n i : Nat) (v : Int32) : kE (tI h n i v) = kE h := rfl
theorem kM_tI (h : Hp) (n i : Nat) (v : Int32) : kM (tI h n i v) = kM h := rfl
theorem kC_tL (h : Hp) (n i : Nat) (v : Int64) : kC (tL h n i v) = kC h := rfl
theorem kN_tL (h : Hp) (n i : Nat) (v : Int64) : kN (tL h n i v) = kN h := rfl
theorem kI_tL (h : Hp) (n i : Nat) (v : Int64) : kI (tL h n i v) = kI h := rfl
theorem kL_tL (h : Hp) (n i : Nat) (v : Int64) : kL (tL h n i v) = kL h := rfl
theorem kR_tL (h : Hp) (n i : Nat) (v : Int64) : kR (tL h n i v) = kR h := rfl
theorem jI_tL (h : Hp) (n i : Nat) (v : Int64) : jI (tL h n i v) = jI h := rfl
theorem jL_tL (h : Hp) (n i : Nat) (v : Int64) (m j : Nat) : jL (tL h n i v) m j = (if m = n ∧ j = i then v else jL h m j) := rfl
theorem jR_tL (h : Hp) (n i : Nat) (v : Int64) : jR (tL h n i v) = jR h := rfl
theorem kz_tL (h : Hp) (n i : Nat) (v : Int64) : kz (tL h n i v) = kz h := rfl
theorem ks_tL (h : Hp) (n i : Nat) (v : Int64) : ks (tL h n i v) = ks h := rfl
theorem kza_tL (h : Hp) (n i : Nat) (v : Int64) : kza (tL h n i v) = kza h := rfl
theorem ksa_tL (h : Hp) (n i : Nat) (v : Int64) : ksa (tL h n i v) = ksa h := rfl
theorem kE_tL (h : Hp) (n i : Nat) (v : Int64) : kE (tL h n i v) = kE h := rfl
theorem kM_tL (h : Hp) (n i : Nat) (v : Int64) : kM (tL h n i v) = kM h := rfl
theorem kC_tR (h : Hp) (n i : Nat) (v : Nat) : kC (tR h n i v) = kC h := rfl
theorem kN_tR (h : Hp) (n i : Nat) (v : Nat) : kN (tR h n i v) = kN h := rfl
theorem kI_tR (h : Hp) (n i : Nat) (v : Nat) : kI (tR h n i v) = kI h := rfl
theorem kL_tR (h : Hp) (n i : Nat) (v : Nat) : kL (tR h n i v) = kL h := rfl
theorem kR_tR (h : Hp) (n i : Nat) (v : Nat) : kR (tR h n i v) = kR h := rfl
theorem jI_tR (h : Hp) (n i : Nat) (v : Nat) : jI (tR h n i v) = jI h := rfl
theorem jL_tR (h : Hp) (n i : Nat) (v : Nat) : jL (tR h n i v) = jL h := rfl
theorem jR_tR (h : Hp) (n i : Nat) (v : Nat) (m j : Nat) : jR (tR h n i v) m j = (if m = n ∧ j = i then v else jR h m j) := rfl
theorem kz_tR (h : Hp) (n i : Nat) (v : Nat) : kz (tR h n i v) = kz h := rfl
theorem ks_tR (h : Hp) (n i : Nat) (v : Nat) : ks (tR h n i v) = ks h := rfl
theorem kza_tR (h : Hp) (n i : Nat) (v : Nat) : kza (tR h n i v) = kza h := rfl
theorem ksa_tR (h : Hp) (n i : Nat) (v : Nat) : ksa (tR h n i v) = ksa h := rfl
theorem kE_tR (h : Hp) (n i : Nat) (v : Nat) : kE (tR h n i v) = kE h := rfl
theorem kM_tR (h : Hp) (n i : Nat) (v : Nat) : kM (tR h n i v) = kM h := rfl
theorem kC_oN (h : Hp) (c N : Nat) (m : Nat) : kC (oN h c N) m = (if m = kz h + 1 then c else kC h m) := rfl
theorem kN_oN (h : Hp) (c N : Nat) : kN (oN h c N) = kN h := rfl
theorem kI_oN (h : Hp) (c N : Nat) (g m : Nat) : kI (oN h c N) g m = (if m = kz h + 1 then 0 else kI h g m) := rfl
theorem kL_oN (h : Hp) (c N : Nat) (g m : Nat) : kL (oN h c N) g m = (if m = kz h + 1 then 0 else kL h g m) := rfl
theorem kR_oN (h : Hp) (c N : Nat) (g m : Nat) : kR (oN h c N) g m = (if m = kz h + 1 then 0 else kR h g m) := rfl
theorem jI_oN (h : Hp) (c N : Nat) : jI (oN h c N) = jI h := rfl
theorem jL_oN (h : Hp) (c N : Nat) : jL (oN h c N) = jL h := rfl
theorem jR_oN (h : Hp) (c N : Nat) : jR (oN h c N) = jR h := rfl
theorem kz_oN (h : Hp) (c N : Nat)  : kz (oN h c N)  = kz h + 1 := rfl
theorem ks_oN (h : Hp) (c N : Nat)  : ks (oN h c N)  = ks h + N := rfl
theorem kza_oN (h : Hp) (c N : Nat) : kza (oN h c N) = kza h := rfl
theorem ksa_oN (h : Hp) (c N : Nat) : ksa (oN h c N) = ksa h := rfl
theorem kE_oN (h : Hp) (c N : Nat) : kE (oN h c N) = kE h := rfl
theorem kM_oN (h : Hp) (c N : Nat) : kM (oN h c N) = kM h := rfl
theorem kC_aN (h : Hp) (c N : Nat) (m : Nat) : kC (aN h c N) m = (if m = kz h + 1 then c else kC h m) := rfl
theorem kN_aN (h : Hp) (c N : Nat) (m : Nat) : kN (aN h c N) m = (if m = kz h + 1 then N else kN h m) := rfl
theorem kI_aN (h : Hp) (c N : Nat) : kI (aN h c N) = kI h := rfl
theorem kL_aN (h : Hp) (c N : Nat) : kL (aN h c N) = kL h := rfl
theorem kR_aN (h : Hp) (c N : Nat) : kR (aN h c N) = kR h := rfl
theorem jI_aN (h : Hp) (c N : Nat) (m j : Nat) : jI (aN h c N) m j = (if m = kz h + 1 then 0 else jI h m j) := rfl
theorem jL_aN (h : Hp) (c N : Nat) (m j : Nat) : jL (aN h c N) m j = (if m = kz h + 1 then 0 else jL h m j) := rfl
theorem jR_aN (h : Hp) (c N : Nat) (m j : Nat) : jR (aN h c N) m j = (if m = kz h + 1 then 0 else jR h m j) := rfl
theorem kz_aN (h : Hp) (c N : Nat)  : kz (aN h c N)  = kz h + 1 := rfl
theorem ks_aN (h : Hp) (c N : Nat)  : ks (aN h c N)  = ks h + N := rfl
theorem kza_aN (h : Hp) (c N : Nat) : kza (aN h c N) = kza h := rfl
theorem ksa_aN (h : Hp) (c N : Nat) : ksa (aN h c N) = ksa h := rfl
theorem kE_aN (h : Hp) (c N : Nat) : kE (aN h c N) = kE h := rfl
theorem kM_aN (h : Hp) (c N : Nat) : kM (aN h c N) = kM h := rfl
theorem kC_bN (h : Hp) (N : Nat) : kC (bN h N) = kC h := rfl
theorem kN_bN (h : Hp) (N : Nat) : kN (bN h N) = kN h := rfl
theorem kI_bN (h : Hp) (N : Nat) : kI (bN h N) = kI h := rfl
theorem kL_bN (h : Hp) (N : Nat) : kL (bN h N) = kL h := rfl
theorem kR_bN (h : Hp) (N : Nat) : kR (bN h N) = kR h := rfl
theorem jI_bN (h : Hp) (N : Nat) : jI (bN h N) = jI h := rfl
theorem jL_bN (h : Hp) (N : Nat) : jL (bN h N) = jL h := rfl
theorem jR_bN (h : Hp) (N : Nat) : jR (bN h N) = jR h := rfl
theorem kz_bN (h : Hp) (N : Nat)  : kz (bN h N)  = kz h + 1 := rfl
theorem ks_bN (h : Hp) (N : Nat)  : ks (bN h N)  = ks h + N := rfl
theorem kza_bN (h : Hp) (N : Nat) : kza (bN h N) = kza h := rfl
theorem ksa_bN (h : Hp) (N : Nat) : ksa (bN h N) = ksa h := rfl
theorem kE_bN (h : Hp) (N : Nat) : kE (bN h N) = kE h := rfl
theorem kM_bN (h : Hp) (N : Nat) : kM (bN h N) = kM h := rfl
theorem kC_cR (h : Hp) (a sp b dp n : Nat) : kC (cR h a sp b dp n) = kC h := rfl
theorem kN_cR (h : Hp) (a sp b dp n : Nat) : kN (cR h a sp b dp n) = kN h := rfl
theorem kI_cR (h : Hp) (a sp b dp n : Nat) : kI (cR h a sp b dp n) = kI h := rfl
theorem kL_cR (h : Hp) (a sp b dp n : Nat) : kL (cR h a sp b dp n) = kL h := rfl
theorem kR_cR (h : Hp) (a sp b dp n : Nat) : kR (cR h a sp b dp n) = kR h := rfl
theorem jI_cR (h : Hp) (a sp b dp n : Nat) : jI (cR h a sp b dp n) = jI h := rfl
theorem jL_cR (h : Hp) (a sp b dp n : Nat) : jL (cR h a sp b dp n) = jL h := rfl
theorem jR_cR (h : Hp) (a sp b dp n : Nat) (m j : Nat) : jR (cR h a sp b dp n) m j = (if m = b ∧ dp ≤ j ∧ j < dp + n then jR h a (sp + (j - dp)) else jR h m j) := rfl
theorem kz_cR (h : Hp) (a sp b dp n : Nat) : kz (cR h a sp b dp n) = kz h := rfl
theorem ks_cR (h : Hp) (a sp b dp n : Nat) : ks (cR h a sp b dp n) = ks h := rfl
theorem kza_cR (h : Hp) (a sp b dp n : Nat) : kza (cR h a sp b dp n) = kza h := rfl
theorem ksa_cR (h : Hp) (a sp b dp n : Nat) : ksa (cR h a sp b dp n) = ksa h := rfl
theorem kE_cR (h : Hp) (a sp b dp n : Nat) : kE (cR h a sp b dp n) = kE h := rfl
theorem kM_cR (h : Hp) (a sp b dp n : Nat) : kM (cR h a sp b dp n) = kM h := rfl
/-! references as numbers: null is 0, the cell a is a + 1 -/
def rv : Nat → Value
  | 0 => .null
  | n + 1 => .ref n
def rvo : Nat → Option Nat
  | 0 => none
  | n + 1 => some n
theorem rv_cat (n : Nat) : (rv n).category = 1 := by cases n <;> rfl
theorem rv_rf (n : Nat) : rv n = va_rf (rvo n) := by cases n <;> rfl
theorem rvo_inj {a b : Nat} (h : rvo a = rvo b) : a = b := by
  cases a <;> cases b
  · rfl
  · cases h
  · cases h
  · rw [Option.some.inj (show some _ = some _ from h)]
theorem rv_pos {n : Nat} (h : n ≠ 0) : rv n = .ref (n - 1) := by
  cases n with
  | zero => exact absurd rfl h
  | succ n => rfl
/-! the answers of a method: its value, or what it throws (class code, reference) -/
abbrev Ex : Type := Nat × Nat
abbrev Rt (α : Type) : Type := Option ((α ⊕ Ex) × Hp)
def gd {β : Type} (P : Prop) [Decidable P] (k : Option β) : Option β := if P then k else none
theorem gd_some {β : Type} {P : Prop} [Decidable P] {k : Option β} {r : β} (h : gd P k = some r) : P ∧ k = some r := by
  unfold gd at h
  split at h
  · exact ⟨by assumption, h⟩
  · cases h
theorem gd_t {β : Type} {P : Prop} [Decidable P] {k : Option β} (h : P) : gd P k = k := if_pos h
def bd {α β : Type} (x : Rt α) (k : α → Hp → Rt β) : Rt β := match x with
  | none => none
  | some (.inl a, h) => k a h
  | some (.inr e, h) => some (.inr e, h)
theorem bd_l {α β : Type} (a : α) (h : Hp) (k : α → Hp → Rt β) : bd (some (.inl a, h)) k = k a h := rfl
theorem bd_r {α β : Type} (e : Ex) (h : Hp) (k : α → Hp → Rt β) : bd (some (.inr e, h)) k = some (.inr e, h) := rfl
def bdH {α β : Type} (x : Rt α) (k : α → Hp → Rt β) (kx : Ex → Hp → Rt β) : Rt β := match x with
  | none => none
  | some (.inl a, h) => k a h
  | some (.inr e, h) => kx e h
theorem bdH_l {α β : Type} (a : α) (h : Hp) (k : α → Hp → Rt β) (kx : Ex → Hp → Rt β) : bdH (some (.inl a, h)) k kx = k a h := rfl
theorem bdH_r {α β : Type} (e : Ex) (h : Hp) (k : α → Hp → Rt β) (kx : Ex → Hp → Rt β) : bdH (some (.inr e, h)) k kx = kx e h := rfl
/-- a name for a value, for a heap -/
def vl {α β : Type} (x : α) (k : α → Option β) : Option β := k x
/-- a new object of class code c, of N slots; a new array; a new exception, thrown -/
def nw {β : Type} (h : Hp) (c N : Nat) (k : Nat → Hp → Option β) : Option β := gd (kz h + 1 ≤ kza h ∧ ks h + N ≤ ksa h) (k (kz h + 1) (oN h c N))
def na {β : Type} (h : Hp) (c : Nat) (i : Int32) (k : Nat → Hp → Option β) : Option β := gd (¬ i < 0 ∧ i.toNatClampNeg ≤ 60000000 ∧ kz h + 1 ≤ kza h ∧ ks h + i.toNatClampNeg ≤ ksa h) (k (kz h + 1) (aN h c i.toNatClampNeg))
def th {α : Type} (E : Nat) (h : Hp) : Rt α := gd (kz h + 1 ≤ kza h ∧ ks h + 6 ≤ ksa h) (some (.inr (E, kz h + 1), bN h 6))
/-- an index in range -/
abbrev ixo (i : Int32) (n : Nat) : Prop := ¬ (i < 0 ∨ n ≤ i.toNatClampNeg)
abbrev b01 (x : Int32) : Prop := x = 0 ∨ x = 1
def FU : Nat := 4000
/-! class codes: 1 + the place in vwCl -/
def TOb : u_T := fun _ => ("Massclaim$Obstacle", "cause", "I", true)
def tyOb : Nat → FieldType := fun _ => .int
theorem tyOb_ok : ∀ k, k < 1 → parseFieldDescriptor (TOb k).2.2.1 = some (tyOb k) := by decide +kernel
theorem nmOb : ∀ a, a < 1 → ∀ b, b < 1 → a ≠ b → (TOb a).2.1 ≠ (TOb b).2.1 := by decide +kernel
abbrev vwCl : List vw_C := [(RX1, TX1, 19), (RX2, TX2, 2), (RX3, TX3, 6), (RX4, TX4, 29), (RX5, TX5, 22), (RX6, TX6, 22), (RX7, TX7, 4), (RX8, TX8, 6), (RX9, TX9, 5), (RX10, TX10, 6), (RX11, TOb, 1), (RX12, TX12, 13), (RX13, TX13, 10), (RX14, TX14, 4), (RX15, TX15, 4), (RX16, TX16, 4), (RX17, TX17, 3), (RJ2, TJ2, 3), (RJ16, TJ16, 4)]
/-- the kinds of the fields: 0 int, 1 long, 2 reference -/
def fkT : List (List Nat) := [[2, 2, 2, 2, 2, 2, 2, 2, 2, 2, 0, 0, 0, 0, 0, 0, 0, 1, 0], [2, 0], [1, 2, 1, 1, 1, 1], [0, 0, 2, 0, 0, 0, 0, 2, 2, 0, 1, 0, 0, 0, 0, 2, 0, 0, 0, 0, 2, 2, 1, 1, 1, 2, 1, 1, 1], [0, 0, 0, 0, 0, 0, 0, 0, 0, 0, 0, 0, 0, 0, 0, 2, 1, 1, 1, 2, 2, 2], [0, 0, 0, 0, 0, 0, 0, 2, 0, 0, 0, 0, 0, 0, 0, 0, 0, 2, 1, 1, 1, 2], [0, 0, 0, 0], [0, 0, 0, 1, 1, 0], [0, 1, 1, 1, 0], [0, 0, 0, 0, 0, 0], [0], [0, 2, 0, 0, 0, 0, 1, 1, 0, 0, 0, 2, 2], [2, 0, 0, 0, 0, 0, 0, 0, 1, 2], [1, 0, 0, 2], [1, 0, 0, 0], [0, 2, 0, 0], [2, 0, 0], [0, 2, 0], [0, 0, 0, 2]]
def fk (ci k : Nat) : Nat := (fkT.getD ci []).getD k 0
def fid (ci k : Nat) : Nat := 100 * ci + k
def fvl (h : Hp) (ci k n : Nat) : Value := if fk ci k = 0 then .int (kI h (fid ci k) n) else if fk ci k = 1 then .long (kL h (fid ci k) n) else rv (kR h (fid ci k) n)
theorem fvl_i {h : Hp} {ci k n : Nat} (e : fk ci k = 0) : fvl h ci k n = .int (kI h (fid ci k) n) := if_pos e
theorem fvl_l {h : Hp} {ci k n : Nat} (e : fk ci k = 1) : fvl h ci k n = .long (kL h (fid ci k) n) := by unfold fvl; rw [e]; rfl
theorem fvl_r {h : Hp} {ci k n : Nat} (e : fk ci k = 2) : fvl h ci k n = rv (kR h (fid ci k) n) := by unfold fvl; rw [e]; rfl
/-- the arrays: 101 int, 102 long, 103 Object, 104 int[] -/
def aTy (c : Nat) : FieldType := match c with
  | 101 => .int
  | 102 => .long
  | 103 => .object "java/lang/Object"
  | _ => .array .int
def avl (h : Hp) (c n j : Nat) : Value := match c with
  | 101 => .int (jI h n j)
  | 102 => .long (jL h n j)
  | _ => rv (jR h n j)
/-- all slots of a heap -/
def tot (H : Heap) : Nat := (H.toList.map (·.slots.size)).sum
def cat_ (D : va_G) (h : Hp) (n : Nat) (H : Heap) : Prop :=
  (kC h n < 100 → ∃ r : vw_C, vwCl[kC h n - 1]? = some r ∧ t_OB (n - 1) (D.1 (kC h n - 1)) r.2.2 (D.2 (kC h n - 1)) H (fun k => fvl h (kC h n - 1) k n)) ∧
  (¬ kC h n < 100 → 101 ≤ kC h n ∧ kC h n ≤ 104 ∧ H[n - 1]? = some (arrV (D.1 (kC h n)) (kN h n) (avl h (kC h n) n)))
def HP (D : va_G) (Hs : Heap) (h : Hp) (H : Heap) : Prop :=
  (kz h = H.size ∧ tot H ≤ ks h ∧ kz h ≤ kza h ∧ ks h ≤ ksa h ∧ kza h = Hs.size + 1200144 ∧ ksa h = tot Hs + 5496058 ∧ Hs.size ≤ H.size) ∧
  (∀ q, q < Hs.size → H[q]? = Hs[q]?) ∧ (∀ n, kC h n ≠ 0 → Hs.size < n ∧ n ≤ kz h ∧ cat_ D h n H) ∧ (kC h (kE h) = 0 ∧ kN h (kE h) = 0 ∧ kE h = D.1 200 + 1 ∧ kE h ≤ Hs.size ∧ kM h = D.1 201 + 1)
theorem cat_.congr {D : va_G} {h h1 : Hp} {n : Nat} {H H1 : Heap} (hc : cat_ D h n H) (hq : H1[n - 1]? = H[n - 1]?) (e1 : kC h1 n = kC h n) (e2 : kN h1 n = kN h n) (e3 : ∀ ci k, fvl h1 ci k n = fvl h ci k n) (e4 : ∀ c j, avl h1 c n j = avl h c n j) : cat_ D h1 n H1 := by
  obtain ⟨a, b⟩ := hc
  refine ⟨fun hl => ?_, fun hl => ?_⟩
  · rw [e1] at hl ⊢
    obtain ⟨r, g1, g2⟩ := a hl
    exact ⟨r, g1, (t_OB.kept g2 hq).to (fun k _ => (e3 _ k).symm)⟩
  · rw [e1] at hl ⊢
    obtain ⟨b1, b2, b3⟩ := b hl
    refine ⟨b1, b2, ?_⟩
    rw [e2, hq, b3]
    congr 2
    funext j
    exact (e4 _ j).symm
theorem tot_push (H : Heap) (c : Cell) : tot (H.push c) = tot H + c.slots.size := by
  unfold tot
  simp
theorem tot_same {H H1 : Heap} (hz : H1.size = H.size) (hs : ∀ (q : Nat) (c : Cell), H[q]? = some c → ∃ c1, H1[q]? = some c1 ∧ c1.slots.size = c.slots.size) : tot H1 = tot H := by
  unfold tot
  congr 1
  apply List.ext_getElem?
  intro i
  rw [List.getElem?_map, List.getElem?_map, Array.getElem?_toList, Array.getElem?_toList]
  cases hq : H[i]? with
  | none =>
    have : H1[i]? = none := by
      rw [Array.getElem?_eq_none_iff] at hq ⊢
      omega
    rw [this]
  | some c =>
    obtain ⟨c1, g1, g2⟩ := hs i c hq
    rw [g1]
    simp [g2]
theorem tot_put {H H1 : Heap} {a : Nat} {c0 c1 : Cell} (hz : H1.size = H.size) (h0 : H[a]? = some c0) (h1 : H1[a]? = some c1) (hs : c1.slots.size = c0.slots.size) (oq : ∀ q : Nat, q ≠ a → H1[q]? = H[q]?) : tot H1 = tot H := by
  refine tot_same hz fun q c hc => ?_
  by_cases hqa : q = a
  · subst hqa
    rw [h0] at hc
    cases hc
    exact ⟨c1, h1, hs⟩
  · exact ⟨c, by rw [oq q hqa]; exact hc, rfl⟩
theorem tot_drop {H H1 : Heap} (hz : H.size ≤ H1.size) (hs : ∀ (q : Nat) (c : Cell), H[q]? = some c → ∃ c1, H1[q]? = some c1 ∧ c1.slots.size = c.slots.size) : tot H1 = tot H + ((H1.toList.drop H.size).map (·.slots.size)).sum := by
  unfold tot
  conv => lhs; rw [← List.take_append_drop H.size H1.toList]
  rw [List.map_append, List.sum_append]
  congr 2
  apply List.ext_getElem?
  intro i
  rw [List.getElem?_map, List.getElem?_map, List.getElem?_take, Array.getElem?_toList, Array.getElem?_toList]
  cases hq : H[i]? with
  | none =>
    rw [Array.getElem?_eq_none_iff] at hq
    rw [if_neg (by omega)]
  | some c =>
    obtain ⟨c1, g1, g2⟩ := hs i c hq
    have hi : i < H.size := (Array.getElem?_eq_some_iff.mp hq).1
    rw [if_pos hi, g1]
    simp [g2]
theorem HP.put {D : va_G} {Hs : Heap} {h h1 : Hp} {H H1 : Heap} {n : Nat} {c0 c1 : Cell} (hH : HP D Hs h H) (hn : kC h n ≠ 0) (hz : H1.size = H.size) (h0 : H[n - 1]? = some c0) (h1' : H1[n - 1]? = some c1) (hs : c1.slots.size = c0.slots.size) (oq : ∀ q : Nat, q ≠ n - 1 → H1[q]? = H[q]?)
    (e1 : kC h1 = kC h) (e2 : kN h1 = kN h) (e3 : ∀ m ci k, m ≠ n → fvl h1 ci k m = fvl h ci k m) (e4 : ∀ m c j, m ≠ n → avl h1 c m j = avl h c m j) (e5 : kz h1 = kz h) (e6 : ks h1 = ks h) (e7 : kza h1 = kza h) (e8 : ksa h1 = ksa h) (e9 : (kE h1, kM h1) = (kE h, kM h)) (hc : cat_ D h1 n H1) : HP D Hs h1 H1 := by
  obtain ⟨⟨a1, a2, a3, a4, a5, a6, a7⟩, b1, b2, b3⟩ := hH
  obtain ⟨e9, e10⟩ := Prod.mk.inj e9
  refine ⟨⟨by rw [e5, hz]; exact a1, by rw [e6, tot_put hz h0 h1' hs oq]; exact a2, by rw [e5, e7]; exact a3, by rw [e6, e8]; exact a4, by rw [e7]; exact a5, by rw [e8]; exact a6, by rw [hz]; exact a7⟩, fun q hq => ?_, fun m hm => ?_, by rw [e9, e10, e1, e2]; exact b3⟩
  · have := (b2 n hn).1
    rw [oq q (by omega)]
    exact b1 q hq
  · rw [e1] at hm
    obtain ⟨g1, g2, g3⟩ := b2 m hm
    refine ⟨g1, by rw [e5]; exact g2, ?_⟩
    by_cases hmn : m = n
    · subst hmn
      exact hc
    · have g4 := (b2 n hn).1
      exact g3.congr (oq _ (by omega)) (by rw [e1]) (by rw [e2]) (fun ci k => e3 m ci k hmn) (fun c j => e4 m c j hmn)
theorem fvl_sI {h : Hp} {f n : Nat} {v : Int32} {m ci k : Nat} (hm : m ≠ n) : fvl (sI h f n v) ci k m = fvl h ci k m := by
  simp [fvl, kI_sI, kL_sI, kR_sI, hm]
theorem fvl_sL {h : Hp} {f n : Nat} {v : Int64} {m ci k : Nat} (hm : m ≠ n) : fvl (sL h f n v) ci k m = fvl h ci k m := by
  simp [fvl, kI_sL, kL_sL, kR_sL, hm]
theorem fvl_sR {h : Hp} {f n : Nat} {v : Nat} {m ci k : Nat} (hm : m ≠ n) : fvl (sR h f n v) ci k m = fvl h ci k m := by
  simp [fvl, kI_sR, kL_sR, kR_sR, hm]
theorem avl_sI {h : Hp} {f n : Nat} {v : Int32} {m c j : Nat} : avl (sI h f n v) c m j = avl h c m j := by
  unfold avl
  rw [jI_sI, jL_sI, jR_sI]
theorem avl_sL {h : Hp} {f n : Nat} {v : Int64} {m c j : Nat} : avl (sL h f n v) c m j = avl h c m j := by
  unfold avl
  rw [jI_sL, jL_sL, jR_sL]
theorem avl_sR {h : Hp} {f n : Nat} {v : Nat} {m c j : Nat} : avl (sR h f n v) c m j = avl h c m j := by
  unfold avl
  rw [jI_sR, jL_sR, jR_sR]
theorem fvl_tI {h : Hp} {n i : Nat} {v : Int32} {m ci k : Nat} : fvl (tI h n i v) ci k m = fvl h ci k m := by
  unfold fvl
  rw [kI_tI, kL_tI, kR_tI]
theorem fvl_tL {h : Hp} {n i : Nat} {v : Int64} {m ci k : Nat} : fvl (tL h n i v) ci k m = fvl h ci k m := by
  unfold fvl
  rw [kI_tL, kL_tL, kR_tL]
theorem fvl_tR {h : Hp} {n i : Nat} {v : Nat} {m ci k : Nat} : fvl (tR h n i v) ci k m = fvl h ci k m := by
  unfold fvl
  rw [kI_tR, kL_tR, kR_tR]
theorem avl_tI {h : Hp} {n i : Nat} {v : Int32} {m c j : Nat} (hm : m ≠ n) : avl (tI h n i v) c m j = avl h c m j := by
  unfold avl
  rw [jI_tI, jL_tI, jR_tI, if_neg (fun q => hm q.1)]
theorem avl_tL {h : Hp} {n i : Nat} {v : Int64} {m c j : Nat} (hm : m ≠ n) : avl (tL h n i v) c m j = avl h c m j := by
  unfold avl
  rw [jI_tL, jL_tL, jR_tL, if_neg (fun q => hm q.1)]
theorem avl_tR {h : Hp} {n i : Nat} {v : Nat} {m c j : Nat} (hm : m ≠ n) : avl (tR h n i v) c m j = avl h c m j := by
  unfold avl
  rw [jI_tR, jL_tR, jR_tR, if_neg (fun q => hm q.1)]
/-! what a store of an object's field does to its picture -/
theorem fid_inj {ci k k' : Nat} (h : fid ci k = fid ci k') : k = k' := by unfold fid at h; omega
theorem fvl_sI_self {h : Hp} {ci k n : Nat} {v : Int32} (e : fk ci k = 0) (j : Nat) : fvl (sI h (fid ci k) n v) ci j n = updV (fun k => fvl h ci k n) k (.int v) j := by
  unfold updV
  by_cases hj : j = k
  · subst hj
    rw [if_pos rfl, fvl_i e, kI_sI, if_pos ⟨rfl, rfl⟩]
  · rw [if_neg hj]
    have hne : ¬ fid ci j = fid ci k := fun q => hj (fid_inj q)
    simp [fvl, kI_sI, kL_sI, kR_sI, hne]
theorem fvl_sL_self {h : Hp} {ci k n : Nat} {v : Int64} (e : fk ci k = 1) (j : Nat) : fvl (sL h (fid ci k) n v) ci j n = updV (fun k => fvl h ci k n) k (.long v) j := by
  unfold updV
  by_cases hj : j = k
  · subst hj
    rw [if_pos rfl, fvl_l e, kL_sL, if_pos ⟨rfl, rfl⟩]
  · rw [if_neg hj]
    have hne : ¬ fid ci j = fid ci k := fun q => hj (fid_inj q)
    simp [fvl, kI_sL, kL_sL, kR_sL, hne]
theorem fvl_sR_self {h : Hp} {ci k n : Nat} {v : Nat} (e : fk ci k = 2) (j : Nat) : fvl (sR h (fid ci k) n v) ci j n = updV (fun k => fvl h ci k n) k (rv v) j := by
  unfold updV
  by_cases hj : j = k
  · subst hj
    rw [if_pos rfl, fvl_r e, kR_sR, if_pos ⟨rfl, rfl⟩]
  · rw [if_neg hj]
    have hne : ¬ fid ci j = fid ci k := fun q => hj (fid_inj q)
    simp [fvl, kI_sR, kL_sR, kR_sR, hne]
/-! the object, the array at a reference -/
theorem HP.obj {D : va_G} {Hs : Heap} {h : Hp} {H : Heap} {n ci : Nat} {r : vw_C} (hH : HP D Hs h H) (hc : kC h n = ci + 1) (hl : ci < 99) (hr : vwCl[ci]? = some r) : n ≠ 0 ∧ Hs.size < n ∧ t_OB (n - 1) (D.1 ci) r.2.2 (D.2 ci) H (fun k => fvl h ci k n) := by
  obtain ⟨g1, g2, g3, -⟩ := hH.2.2.1 n (by omega)
  obtain ⟨r', e1, e2⟩ := g3 (by omega)
  rw [hc] at e1 e2
  rw [Nat.add_sub_cancel] at e1 e2
  rw [hr] at e1
  cases e1
  exact ⟨by omega, g1, e2⟩
theorem HP.arr {D : va_G} {Hs : Heap} {h : Hp} {H : Heap} {n c : Nat} (hH : HP D Hs h H) (hc : kC h n = c) (hl : ¬ c < 100) : n ≠ 0 ∧ Hs.size < n ∧ H[n - 1]? = some (arrV (D.1 c) (kN h n) (avl h c n)) := by
  obtain ⟨g1, g2, -, g3⟩ := hH.2.2.1 n (by omega)
  have := (g3 (by omega)).2.2
  rw [hc] at this
  exact ⟨by omega, g1, this⟩
theorem HP.lt {D : va_G} {Hs : Heap} {h : Hp} {H : Heap} {n : Nat} (hH : HP D Hs h H) (hc : kC h n ≠ 0) : n ≤ kz h := (hH.2.2.1 n hc).2.1
theorem HP.fresh {D : va_G} {Hs : Heap} {h : Hp} {H : Heap} (hH : HP D Hs h H) : kC h (kz h + 1) = 0 := by
  by_cases q : kC h (kz h + 1) = 0
  · exact q
  · have := hH.lt q
    omega
/-! what holds of the tables all through the run; Hs: the heap at the law's start -/
abbrev aTys (D : va_G) : List (ClassId × FieldType) := [(D.1 101, .int), (D.1 102, .long), (D.1 103, .object "java/lang/Object"), (D.1 104, .array .int)]
def nwW : Cond → Bool
  | .fieldLinkNest _ _ _ _ _ _ => true
  | .methodLinkNest _ _ _ _ => true
  | .castable _ _ => true
  | .declares _ => true
  | _ => false
def fwL : List (String × MethodName × MethodName) := [("java/util/ArrayList", ⟨"java/util/List", "size", "()I"⟩, ⟨"java/util/ArrayList", "size", "()I"⟩), ("java/util/ArrayList", ⟨"java/util/List", "clear", "()V"⟩, ⟨"java/util/ArrayList", "clear", "()V"⟩), ("java/util/ArrayList", ⟨"java/util/List", "iterator", "()Ljava/util/Iterator;"⟩, ⟨"java/util/ArrayList", "iterator", "()Ljava/util/Iterator;"⟩), ("java/util/ArrayList$Itr", ⟨"java/util/Iterator", "hasNext", "()Z"⟩, ⟨"java/util/ArrayList$Itr", "hasNext", "()Z"⟩), ("java/util/ArrayList$Itr", ⟨"java/util/Iterator", "next", "()Ljava/lang/Object;"⟩, ⟨"java/util/ArrayList$Itr", "next", "()Ljava/lang/Object;"⟩), ("java/util/ArrayList", ⟨"java/util/List", "get", "(I)Ljava/lang/Object;"⟩, ⟨"java/util/ArrayList", "get", "(I)Ljava/lang/Object;"⟩), ("java/util/ArrayList", ⟨"java/util/List", "add", "(Ljava/lang/Object;)Z"⟩, ⟨"java/util/ArrayList", "add", "(Ljava/lang/Object;)Z"⟩), ("Massclaim$Claim", ⟨"Massclaim$Numbered", "number", "()I"⟩, ⟨"Massclaim$Claim", "number", "()I"⟩), ("Massclaim$Defendant", ⟨"Massclaim$Numbered", "number", "()I"⟩, ⟨"Massclaim$Defendant", "number", "()I"⟩), ("Massclaim$Lien", ⟨"Massclaim$Numbered", "number", "()I"⟩, ⟨"Massclaim$Lien", "number", "()I"⟩), ("Massclaim$Person", ⟨"Massclaim$Numbered", "number", "()I"⟩, ⟨"Massclaim$Person", "number", "()I"⟩), ("Massclaim$Subclass", ⟨"Massclaim$Numbered", "number", "()I"⟩, ⟨"Massclaim$Subclass", "number", "()I"⟩), ("Massclaim$Claim", ⟨"Massclaim$Numbered", "compareTo", "(LMassclaim$Numbered;)I"⟩, ⟨"Massclaim$Numbered", "compareTo", "(LMassclaim$Numbered;)I"⟩), ("Massclaim$Defendant", ⟨"Massclaim$Numbered", "compareTo", "(LMassclaim$Numbered;)I"⟩, ⟨"Massclaim$Numbered", "compareTo", "(LMassclaim$Numbered;)I"⟩), ("Massclaim$Lien", ⟨"Massclaim$Numbered", "compareTo", "(LMassclaim$Numbered;)I"⟩, ⟨"Massclaim$Numbered", "compareTo", "(LMassclaim$Numbered;)I"⟩), ("Massclaim$Person", ⟨"Massclaim$Numbered", "compareTo", "(LMassclaim$Numbered;)I"⟩, ⟨"Massclaim$Numbered", "compareTo", "(LMassclaim$Numbered;)I"⟩), ("Massclaim$Subclass", ⟨"Massclaim$Numbered", "compareTo", "(LMassclaim$Numbered;)I"⟩, ⟨"Massclaim$Numbered", "compareTo", "(LMassclaim$Numbered;)I"⟩), ("java/util/ArrayList", ⟨"java/util/List", "add", "(ILjava/lang/Object;)V"⟩, ⟨"java/util/ArrayList", "add", "(ILjava/lang/Object;)V"⟩), ("java/util/ArrayList", ⟨"java/util/List", "isEmpty", "()Z"⟩, ⟨"java/util/ArrayList", "isEmpty", "()Z"⟩)]
abbrev oA (Hs : Heap) : Nat → Prop := fun q => Hs.size ≤ q
def ncL : List (String × String) := [("java/lang/IndexOutOfBoundsException", "java/lang/IllegalArgumentException"), ("java/lang/IndexOutOfBoundsException", "java/lang/IllegalStateException"), ("java/lang/IllegalArgumentException", "java/lang/IndexOutOfBoundsException"), ("java/lang/IllegalArgumentException", "java/lang/IllegalStateException"), ("java/lang/IllegalStateException", "java/lang/IndexOutOfBoundsException"), ("java/lang/IllegalStateException", "java/lang/IllegalArgumentException")]
def nbL : List String := ["Massclaim$Person", "Massclaim$Subclass", "Massclaim$Defendant", "Massclaim$Claim", "Massclaim$Lien"]
abbrev cmpN : MethodName := ⟨"Massclaim$Numbered", "compareTo", "(LMassclaim$Numbered;)I"⟩
def TB (D : va_G) (Hs : Heap) (U : State) : Prop :=
  va_K D vwCl (aTys D) U ∧ (∀ w ∈ lw_tbl, nwW w = true → va_Nw w U) ∧ (∀ t ∈ fwL, va_Fw t.1 t.2.1 t.2.2 U) ∧ va_AO "java/lang/Object" U ∧
  va_Z "java/util/ArrayList" "DEFAULTCAPACITY_EMPTY_ELEMENTDATA" "[Ljava/lang/Object;" (.ref (D.1 200)) (oA Hs) U Hs ∧ va_T (.object "java/lang/Object") (D.1 200) 0 (fun _ => .null) (oA Hs) U Hs ∧
  vx_Zq Bundle.tN "UNASSIGNED_STACK" Bundle.steD (oA Hs) U Hs ∧ vx_Zq Bundle.tN "SUPPRESSED_SENTINEL" Bundle.listD (oA Hs) U Hs ∧
  va_Mi "[Ljava/lang/Object;" (D.1 201) U ∧ (∀ t ∈ ncL, va_Nc t.1 t.2 U) ∧ (∀ C ∈ nbL, (Cond.landsInDefault C cmpN cmpN).before #[] U = true) ∧ (Cond.arrayOver (.array .int)).before #[] U = true
theorem fwL_ok : ∀ t ∈ fwL, t.2.1.cls ≠ "java/lang/invoke/MethodHandle" ∧ t.2.1.cls ≠ "java/lang/invoke/VarHandle" := by decide +kernel
theorem nw_moved {w : Cond} (hw : nwW w = true) {s U : State} (hW : s.WarmedH U.vm) (h : va_Nw w s) : va_Nw w U := by
  cases w <;> first | (exact absurd hw Bool.false_ne_true) | exact va_Nw.warmF hW h | exact va_Nw.warmM hW h | exact va_Nw.warmC hW h | exact va_Nw.warmD hW h
theorem lid_moved {C : String} {x y : MethodName} {u U : State} (hvm : u.vm.Alike U.vm) (h : (Cond.landsInDefault C x y).before #[] u = true) : (Cond.landsInDefault C x y).before #[] U = true := by
  have h1 : (Cond.landsInDefault C x y).before #[] (u.setVm U.vm) = true := (Cond.landsInDefault_setVm (args := #[]) (args' := #[]) hvm (State.methodFound?_setVm hvm _ _ _)).trans h
  have e : (Cond.landsInDefault C x y).before #[] (u.setVm U.vm) = (Cond.landsInDefault C x y).before #[] U := rfl
  rw [← e]
  exact h1
theorem TB.moved {D : va_G} {Hs : Heap} {s U : State} (hW : s.WarmedH U.vm) (h : TB D Hs s) : TB D Hs U := by
  obtain ⟨h1, h2, h3, h4, h5, h6, h7, h8, h9, h10, h11, h12⟩ := h
  exact ⟨va_K.moved hW.alike h1, fun w hw g => nw_moved g hW (h2 w hw g), fun t ht => va_Fw.moved (fwL_ok t ht) hW.alike (h3 t ht), va_AO.moved hW.alike h4, va_Z.moved hW.alike h5, va_T.moved hW.alike h6, vx_Zq.moved hW.alike h7, vx_Zq.moved hW.alike h8, va_Mi.moved hW.alike h9, fun t ht => va_Nc.moved hW.alike (h10 t ht), fun C hC => lid_moved hW.alike (h11 C hC), over_moved hW.alike h12⟩
theorem TB.calling {D : va_G} {Hs : Heap} {U : State} {g : JFrame} {mk : MethodId} {a : Array Value} (h : TB D Hs U) : TB D Hs (U.calling g mk a) := by
  have hv : (U.calling g mk a).vm = U.vm := rfl
  exact TB.moved (s := U) (U := U.calling g mk a) (by rw [hv]; exact State.WarmedH.refl U) h
/-- what a method's walk stands on -/
def CX (p : Program) (l : Launch) (R : Room) (s : State) (m : MethodId) (args : Array Value) (meth : Method) (c : Code) (D : va_G) (Hs : Heap) (cc : ByteArray) (own : String) (nL : Nat) (ret : Option FieldType) (et : List (Nat × Nat × Nat × Nat)) (F X : Nat) : Prop :=
  (p.tables.exec = Jvm.exec ∧ c.code = cc ∧ c.maxLocals = nL ∧ s.vm.findClass own = some m.cls ∧ ∀ w ∈ lw_all, w.before args s = true) ∧
  (meth.sig.returnType = ret ∧ meth.locks = false ∧ l.stackTraces = false ∧ TB D Hs s ∧ c.exceptionTable.toList = tableOf et) ∧
  (R = { frames := F, cells := Hs.size + 1200144 - s.heap.size, slots := tot Hs + 5496058 - tot s.heap, locals := X } ∧ Hs.size ≤ s.heap.size ∧ s.heap.size ≤ Hs.size + 1200144 ∧ tot s.heap ≤ tot Hs + 5496058 ∧ (∀ q, q < Hs.size → s.heap[q]? = Hs[q]?))
abbrev LO (Hs : Heap) (locs : List Loc) : Prop := ∀ q ∈ locs, oA Hs q.base
/-- the ends: returns, throws -/
def ZQ {α : Type} (D : va_G) (Hs : Heap) (inj : α → Option Value) (rr : (α ⊕ Ex) × Hp) : Array Value → State → Outcome → State → Prop := fun _ _ o t => ∃ a, rr.1 = .inl a ∧ o = .returned (inj a) ∧ HP D Hs rr.2 t.heap
def exN (e : Nat) : String := if e = 901 then "java/lang/IndexOutOfBoundsException" else if e = 902 then "java/lang/IllegalArgumentException" else if e = 903 then "java/lang/IllegalStateException" else "Massclaim$Obstacle"
def ZX {α : Type} (D : va_G) (Hs : Heap) (rr : (α ⊕ Ex) × Hp) : Addr → String → State → State → Prop := fun q E _ t => ∃ e, rr.1 = .inr (e, q + 1) ∧ E = exN e ∧ HP D Hs rr.2 t.heap
abbrev ZM {α : Type} (D : va_G) (Hs : Heap) (inj : α → Option Value) (rr : (α ⊕ Ex) × Hp) (below : List Frame) (args : Array Value) (s : State) : State → Prop :=
  vx_MQ below (ZQ D Hs inj rr) (ZX D Hs rr) args s (Hs.size + 1200144 - s.heap.size) (tot Hs + 5496058 - tot s.heap) (oA Hs)
abbrev iI : Int32 → Option Value := fun x => some (.int x)
abbrev iL : Int64 → Option Value := fun x => some (.long x)
abbrev iR : Nat → Option Value := fun x => some (rv x)
abbrev iF : UInt32 → Option Value := fun x => some (.float x)
abbrev iD : UInt64 → Option Value := fun x => some (.double x)
abbrev iV : Unit → Option Value := fun _ => none
/-- A METHOD's CONTRACT: where its picture f comes to rr, the method comes to rr -/
def CM {α : Type} (l : Launch) (y : MethodName) (ws : List Cond) (F X : Nat) (inj : α → Option Value) (As : List Value) (D : va_G) (Hs : Heap) (h : Hp) (rr : (α ⊕ Ex) × Hp) : Prop :=
  ∀ (sz to : Nat), sz ≤ Hs.size + 1200144 → to ≤ tot Hs + 5496058 → vx_Met l y ws { frames := F, cells := Hs.size + 1200144 - sz, slots := tot Hs + 5496058 - to, locals := X } (va_Pc As (fun U => U.heap.size = sz ∧ tot U.heap = to ∧ TB D Hs U ∧ HP D Hs h U.heap)) (ZQ D Hs inj rr) (ZX D Hs rr) (Hs.size + 1200144 - sz) (tot Hs + 5496058 - to) (oA Hs)
section RE
variable {p : Program} {l : Launch} {e : Env} {R : Room} {s : State} {m : MethodId} {args : Array Value} {below : List Frame} {meth : Method} {c : Code} {H : Heap} {locs : List Loc} {cells slots : Nat} {Q : State → Prop}
theorem stand_re {T : State} {k n : Nat} (X : Stand p l e R s m args below meth c T locs cells slots) (h1 : T.heap.size ≤ s.heap.size + k) (h2 : tot T.heap ≤ tot s.heap + n) : Stand p l e R s m args below meth c T locs k n := by
  refine { X with same := ?_ }
  obtain ⟨a1, a2, a3, a4, a5, a6⟩ := X.same
  have h3 : tot T.heap = tot s.heap + ((T.heap.toList.drop s.heap.size).map (·.slots.size)).sum := tot_drop a2 (fun q c0 hc => by
    obtain ⟨c1, g1, -, g3, -⟩ := a6 q c0 hc
    exact ⟨c1, g1, g3⟩)
  refine ⟨a1, a2, h1, a4, ?_, a6⟩
  show ((T.heap.toList.drop s.heap.size).map (·.slots.size)).sum ≤ n
  omega
/-- cells and slots by the heap itself -/
theorem W.re {g : JFrame} (k n : Nat) (h1 : H.size ≤ s.heap.size + k) (h2 : tot H ≤ tot s.heap + n) (kk : W p l e R s m args below meth c H locs k n Q g) : W p l e R s m args below meth c H locs cells slots Q g := by
  intro T hT X
  exact kk T hT (stand_re X (by rw [hT]; exact h1) (by rw [hT]; exact h2))
theorem vx_re {g : JFrame} {q : Addr} (k n : Nat) (h1 : H.size ≤ s.heap.size + k) (h2 : tot H ≤ tot s.heap + n) (kk : vx_W p l e R s m args below meth c H locs k n Q g q) : vx_W p l e R s m args below meth c H locs cells slots Q g q := by
  intro T hT X
  exact kk T hT (stand_re X (by rw [hT]; exact h1) (by rw [hT]; exact h2))
end RE

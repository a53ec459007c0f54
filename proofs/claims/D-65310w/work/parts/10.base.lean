/-! Abstract references (kind, address, text), values, and the field heap: kinds by address, fields by number, arrays, sizes, what room is left -/
abbrev Rf : Type := Option (Nat × Nat × List Int32)
abbrev AV : Type := Int32 ⊕ (Int64 ⊕ Rf)
abbrev vI (x : Int32) : AV := .inl x
abbrev vL (x : Int64) : AV := .inr (.inl x)
abbrev vR (x : Rf) : AV := .inr (.inr x)
/-- the machine's value of an abstract one -/
def cr (r : Rf) : Value := va_rf (r.map (fun q => q.2.1))
def cv (v : AV) : Value := match v with
  | .inl x => .int x
  | .inr (.inl x) => .long x
  | .inr (.inr r) => cr r
abbrev HS : Type := (Nat → Option (Nat × List Int32)) × (Nat → Nat → Int32) × (Nat → Nat → Int64) × (Nat → Nat → Rf) × (Nat → Nat) × (Nat → Nat → Int32) × (Nat → Nat → Int32) × (Nat → Nat → Rf) × Nat × Nat × Nat
/-- kind and text of the cell at an address -/
def hC (S : HS) (a : Nat) : Option (Nat × List Int32) := S.1 a
/-- int-like fields -/
def hI (S : HS) (f : Nat) (a : Nat) : Int32 := S.2.1 f a
/-- long fields -/
def hL (S : HS) (f : Nat) (a : Nat) : Int64 := S.2.2.1 f a
/-- reference fields -/
def hR (S : HS) (f : Nat) (a : Nat) : Rf := S.2.2.2.1 f a
/-- array lengths -/
def hN (S : HS) (a : Nat) : Nat := S.2.2.2.2.1 a
/-- int elements -/
def hA (S : HS) (a : Nat) (k : Nat) : Int32 := S.2.2.2.2.2.1 a k
/-- byte elements -/
def hY (S : HS) (a : Nat) (k : Nat) : Int32 := S.2.2.2.2.2.2.1 a k
/-- reference elements -/
def hP (S : HS) (a : Nat) (k : Nat) : Rf := S.2.2.2.2.2.2.2.1 a k
/-- how many cells -/
def hZ (S : HS) : Nat := S.2.2.2.2.2.2.2.2.1
/-- cells that may still be made -/
def hB (S : HS) : Nat := S.2.2.2.2.2.2.2.2.2.1
/-- slots that may still be made -/
def hU (S : HS) : Nat := S.2.2.2.2.2.2.2.2.2.2
def sI (S : HS) (f a : Nat) (v : Int32) : HS := (S.1, fun g b => if g = f ∧ b = a then v else S.2.1 g b, S.2.2.1, S.2.2.2.1, S.2.2.2.2.1, S.2.2.2.2.2.1, S.2.2.2.2.2.2.1, S.2.2.2.2.2.2.2.1, S.2.2.2.2.2.2.2.2.1, S.2.2.2.2.2.2.2.2.2.1, S.2.2.2.2.2.2.2.2.2.2)
def sL (S : HS) (f a : Nat) (v : Int64) : HS := (S.1, S.2.1, fun g b => if g = f ∧ b = a then v else S.2.2.1 g b, S.2.2.2.1, S.2.2.2.2.1, S.2.2.2.2.2.1, S.2.2.2.2.2.2.1, S.2.2.2.2.2.2.2.1, S.2.2.2.2.2.2.2.2.1, S.2.2.2.2.2.2.2.2.2.1, S.2.2.2.2.2.2.2.2.2.2)
def sR (S : HS) (f a : Nat) (v : Rf) : HS := (S.1, S.2.1, S.2.2.1, fun g b => if g = f ∧ b = a then v else S.2.2.2.1 g b, S.2.2.2.2.1, S.2.2.2.2.2.1, S.2.2.2.2.2.2.1, S.2.2.2.2.2.2.2.1, S.2.2.2.2.2.2.2.2.1, S.2.2.2.2.2.2.2.2.2.1, S.2.2.2.2.2.2.2.2.2.2)
def sA (S : HS) (a k : Nat) (v : Int32) : HS := (S.1, S.2.1, S.2.2.1, S.2.2.2.1, S.2.2.2.2.1, fun b j => if b = a ∧ j = k then v else S.2.2.2.2.2.1 b j, S.2.2.2.2.2.2.1, S.2.2.2.2.2.2.2.1, S.2.2.2.2.2.2.2.2.1, S.2.2.2.2.2.2.2.2.2.1, S.2.2.2.2.2.2.2.2.2.2)
def sY (S : HS) (a k : Nat) (v : Int32) : HS := (S.1, S.2.1, S.2.2.1, S.2.2.2.1, S.2.2.2.2.1, S.2.2.2.2.2.1, fun b j => if b = a ∧ j = k then v else S.2.2.2.2.2.2.1 b j, S.2.2.2.2.2.2.2.1, S.2.2.2.2.2.2.2.2.1, S.2.2.2.2.2.2.2.2.2.1, S.2.2.2.2.2.2.2.2.2.2)
def sP (S : HS) (a k : Nat) (v : Rf) : HS := (S.1, S.2.1, S.2.2.1, S.2.2.2.1, S.2.2.2.2.1, S.2.2.2.2.2.1, S.2.2.2.2.2.2.1, fun b j => if b = a ∧ j = k then v else S.2.2.2.2.2.2.2.1 b j, S.2.2.2.2.2.2.2.2.1, S.2.2.2.2.2.2.2.2.2.1, S.2.2.2.2.2.2.2.2.2.2)
/-- a new object of kind c with n fields, all zero or null -/
def sO (S : HS) (c n : Nat) : HS := (fun b => if b = hZ S then some (c, []) else S.1 b, fun g b => if b = hZ S then 0 else S.2.1 g b, fun g b => if b = hZ S then 0 else S.2.2.1 g b, fun g b => if b = hZ S then none else S.2.2.2.1 g b, S.2.2.2.2.1, S.2.2.2.2.2.1, S.2.2.2.2.2.2.1, S.2.2.2.2.2.2.2.1, hZ S + 1, hB S - 1, hU S - n)
/-- a new array of kind c and length n, all zero or null -/
def sN (S : HS) (c n : Nat) : HS := (fun b => if b = hZ S then some (c, []) else S.1 b, S.2.1, S.2.2.1, S.2.2.2.1, fun b => if b = hZ S then n else S.2.2.2.2.1 b, fun b j => if b = hZ S then 0 else S.2.2.2.2.2.1 b j, fun b j => if b = hZ S then 0 else S.2.2.2.2.2.2.1 b j, fun b j => if b = hZ S then none else S.2.2.2.2.2.2.2.1 b j, hZ S + 1, hB S - 1, hU S - n)
/-- a String at a, made out of the bytes at w, is done: its text is t -/
def sF (S : HS) (a w : Nat) (t : List Int32) : HS := (fun b => if b = a then some (14, t) else if b = w then some (104, t) else S.1 b, S.2.1, S.2.2.1, S.2.2.2.1, S.2.2.2.2.1, S.2.2.2.2.2.1, S.2.2.2.2.2.2.1, S.2.2.2.2.2.2.2.1, S.2.2.2.2.2.2.2.2.1, S.2.2.2.2.2.2.2.2.2.1, S.2.2.2.2.2.2.2.2.2.2)
theorem hC_sI (S : HS) (f a : Nat) (v : Int32) (b : Nat) : hC (sI S f a v) b = hC S b := rfl
theorem hI_sI (S : HS) (f a : Nat) (v : Int32) (g b : Nat) : hI (sI S f a v) g b = if g = f ∧ b = a then v else hI S g b := rfl
theorem hL_sI (S : HS) (f a : Nat) (v : Int32) (g b : Nat) : hL (sI S f a v) g b = hL S g b := rfl
theorem hR_sI (S : HS) (f a : Nat) (v : Int32) (g b : Nat) : hR (sI S f a v) g b = hR S g b := rfl
theorem hN_sI (S : HS) (f a : Nat) (v : Int32) (b : Nat) : hN (sI S f a v) b = hN S b := rfl
theorem hA_sI (S : HS) (f a : Nat) (v : Int32) (b j : Nat) : hA (sI S f a v) b j = hA S b j := rfl
theorem hY_sI (S : HS) (f a : Nat) (v : Int32) (b j : Nat) : hY (sI S f a v) b j = hY S b j := rfl
theorem hP_sI (S : HS) (f a : Nat) (v : Int32) (b j : Nat) : hP (sI S f a v) b j = hP S b j := rfl
theorem hZ_sI (S : HS) (f a : Nat) (v : Int32) : hZ (sI S f a v) = hZ S := rfl
theorem hB_sI (S : HS) (f a : Nat) (v : Int32) : hB (sI S f a v) = hB S := rfl
theorem hU_sI (S : HS) (f a : Nat) (v : Int32) : hU (sI S f a v) = hU S := rfl
theorem hC_sL (S : HS) (f a : Nat) (v : Int64) (b : Nat) : hC (sL S f a v) b = hC S b := rfl
theorem hI_sL (S : HS) (f a : Nat) (v : Int64) (g b : Nat) : hI (sL S f a v) g b = hI S g b := rfl
theorem hL_sL (S : HS) (f a : Nat) (v : Int64) (g b : Nat) : hL (sL S f a v) g b = if g = f ∧ b = a then v else hL S g b := rfl
theorem hR_sL (S : HS) (f a : Nat) (v : Int64) (g b : Nat) : hR (sL S f a v) g b = hR S g b := rfl
theorem hN_sL (S : HS) (f a : Nat) (v : Int64) (b : Nat) : hN (sL S f a v) b = hN S b := rfl
theorem hA_sL (S : HS) (f a : Nat) (v : Int64) (b j : Nat) : hA (sL S f a v) b j = hA S b j := rfl
theorem hY_sL (S : HS) (f a : Nat) (v : Int64) (b j : Nat) : hY (sL S f a v) b j = hY S b j := rfl
theorem hP_sL (S : HS) (f a : Nat) (v : Int64) (b j : Nat) : hP (sL S f a v) b j = hP S b j := rfl
theorem hZ_sL (S : HS) (f a : Nat) (v : Int64) : hZ (sL S f a v) = hZ S := rfl
theorem hB_sL (S : HS) (f a : Nat) (v : Int64) : hB (sL S f a v) = hB S := rfl
theorem hU_sL (S : HS) (f a : Nat) (v : Int64) : hU (sL S f a v) = hU S := rfl
theorem hC_sR (S : HS) (f a : Nat) (v : Rf) (b : Nat) : hC (sR S f a v) b = hC S b := rfl
theorem hI_sR (S : HS) (f a : Nat) (v : Rf) (g b : Nat) : hI (sR S f a v) g b = hI S g b := rfl
theorem hL_sR (S : HS) (f a : Nat) (v : Rf) (g b : Nat) : hL (sR S f a v) g b = hL S g b := rfl
theorem hR_sR (S : HS) (f a : Nat) (v : Rf) (g b : Nat) : hR (sR S f a v) g b = if g = f ∧ b = a then v else hR S g b := rfl
theorem hN_sR (S : HS) (f a : Nat) (v : Rf) (b : Nat) : hN (sR S f a v) b = hN S b := rfl
theorem hA_sR (S : HS) (f a : Nat) (v : Rf) (b j : Nat) : hA (sR S f a v) b j = hA S b j := rfl
theorem hY_sR (S : HS) (f a : Nat) (v : Rf) (b j : Nat) : hY (sR S f a v) b j = hY S b j := rfl
theorem hP_sR (S : HS) (f a : Nat) (v : Rf) (b j : Nat) : hP (sR S f a v) b j = hP S b j := rfl
theorem hZ_sR (S : HS) (f a : Nat) (v : Rf) : hZ (sR S f a v) = hZ S := rfl
theorem hB_sR (S : HS) (f a : Nat) (v : Rf) : hB (sR S f a v) = hB S := rfl
theorem hU_sR (S : HS) (f a : Nat) (v : Rf) : hU (sR S f a v) = hU S := rfl
theorem hC_sA (S : HS) (a k : Nat) (v : Int32) (b : Nat) : hC (sA S a k v) b = hC S b := rfl
theorem hI_sA (S : HS) (a k : Nat) (v : Int32) (g b : Nat) : hI (sA S a k v) g b = hI S g b := rfl
theorem hL_sA (S : HS) (a k : Nat) (v : Int32) (g b : Nat) : hL (sA S a k v) g b = hL S g b := rfl
theorem hR_sA (S : HS) (a k : Nat) (v : Int32) (g b : Nat) : hR (sA S a k v) g b = hR S g b := rfl
theorem hN_sA (S : HS) (a k : Nat) (v : Int32) (b : Nat) : hN (sA S a k v) b = hN S b := rfl
theorem hA_sA (S : HS) (a k : Nat) (v : Int32) (b j : Nat) : hA (sA S a k v) b j = if b = a ∧ j = k then v else hA S b j := rfl
theorem hY_sA (S : HS) (a k : Nat) (v : Int32) (b j : Nat) : hY (sA S a k v) b j = hY S b j := rfl
theorem hP_sA (S : HS) (a k : Nat) (v : Int32) (b j : Nat) : hP (sA S a k v) b j = hP S b j := rfl
theorem hZ_sA (S : HS) (a k : Nat) (v : Int32) : hZ (sA S a k v) = hZ S := rfl
theorem hB_sA (S : HS) (a k : Nat) (v : Int32) : hB (sA S a k v) = hB S := rfl
theorem hU_sA (S : HS) (a k : Nat) (v : Int32) : hU (sA S a k v) = hU S := rfl
theorem hC_sY (S : HS) (a k : Nat) (v : Int32) (b : Nat) : hC (sY S a k v) b = hC S b := rfl
theorem hI_sY (S : HS) (a k : Nat) (v : Int32) (g b : Nat) : hI (sY S a k v) g b = hI S g b := rfl
theorem hL_sY (S : HS) (a k : Nat) (v : Int32) (g b : Nat) : hL (sY S a k v) g b = hL S g b := rfl
theorem hR_sY (S : HS) (a k : Nat) (v : Int32) (g b : Nat) : hR (sY S a k v) g b = hR S g b := rfl
theorem hN_sY (S : HS) (a k : Nat) (v : Int32) (b : Nat) : hN (sY S a k v) b = hN S b := rfl
theorem hA_sY (S : HS) (a k : Nat) (v : Int32) (b j : Nat) : hA (sY S a k v) b j = hA S b j := rfl
theorem hY_sY (S : HS) (a k : Nat) (v : Int32) (b j : Nat) : hY (sY S a k v) b j = if b = a ∧ j = k then v else hY S b j := rfl
theorem hP_sY (S : HS) (a k : Nat) (v : Int32) (b j : Nat) : hP (sY S a k v) b j = hP S b j := rfl
theorem hZ_sY (S : HS) (a k : Nat) (v : Int32) : hZ (sY S a k v) = hZ S := rfl
theorem hB_sY (S : HS) (a k : Nat) (v : Int32) : hB (sY S a k v) = hB S := rfl
theorem hU_sY (S : HS) (a k : Nat) (v : Int32) : hU (sY S a k v) = hU S := rfl
theorem hC_sP (S : HS) (a k : Nat) (v : Rf) (b : Nat) : hC (sP S a k v) b = hC S b := rfl
theorem hI_sP (S : HS) (a k : Nat) (v : Rf) (g b : Nat) : hI (sP S a k v) g b = hI S g b := rfl
theorem hL_sP (S : HS) (a k : Nat) (v : Rf) (g b : Nat) : hL (sP S a k v) g b = hL S g b := rfl
theorem hR_sP (S : HS) (a k : Nat) (v : Rf) (g b : Nat) : hR (sP S a k v) g b = hR S g b := rfl
theorem hN_sP (S : HS) (a k : Nat) (v : Rf) (b : Nat) : hN (sP S a k v) b = hN S b := rfl
theorem hA_sP (S : HS) (a k : Nat) (v : Rf) (b j : Nat) : hA (sP S a k v) b j = hA S b j := rfl
theorem hY_sP (S : HS) (a k : Nat) (v : Rf) (b j : Nat) : hY (sP S a k v) b j = hY S b j := rfl
theorem hP_sP (S : HS) (a k : Nat) (v : Rf) (b j : Nat) : hP (sP S a k v) b j = if b = a ∧ j = k then v else hP S b j := rfl
theorem hZ_sP (S : HS) (a k : Nat) (v : Rf) : hZ (sP S a k v) = hZ S := rfl
theorem hB_sP (S : HS) (a k : Nat) (v : Rf) : hB (sP S a k v) = hB S := rfl
theorem hU_sP (S : HS) (a k : Nat) (v : Rf) : hU (sP S a k v) = hU S := rfl
theorem hC_sO (S : HS) (c n : Nat) (b : Nat) : hC (sO S c n) b = if b = hZ S then some (c, []) else hC S b := rfl
theorem hI_sO (S : HS) (c n : Nat) (g b : Nat) : hI (sO S c n) g b = if b = hZ S then 0 else hI S g b := rfl
theorem hL_sO (S : HS) (c n : Nat) (g b : Nat) : hL (sO S c n) g b = if b = hZ S then 0 else hL S g b := rfl
theorem hR_sO (S : HS) (c n : Nat) (g b : Nat) : hR (sO S c n) g b = if b = hZ S then none else hR S g b := rfl
theorem hN_sO (S : HS) (c n : Nat) (b : Nat) : hN (sO S c n) b = hN S b := rfl
theorem hA_sO (S : HS) (c n : Nat) (b j : Nat) : hA (sO S c n) b j = hA S b j := rfl
theorem hY_sO (S : HS) (c n : Nat) (b j : Nat) : hY (sO S c n) b j = hY S b j := rfl
theorem hP_sO (S : HS) (c n : Nat) (b j : Nat) : hP (sO S c n) b j = hP S b j := rfl
theorem hZ_sO (S : HS) (c n : Nat) : hZ (sO S c n) = hZ S + 1 := rfl
theorem hB_sO (S : HS) (c n : Nat) : hB (sO S c n) = hB S - 1 := rfl
theorem hU_sO (S : HS) (c n : Nat) : hU (sO S c n) = hU S - n := rfl
theorem hC_sN (S : HS) (c n : Nat) (b : Nat) : hC (sN S c n) b = if b = hZ S then some (c, []) else hC S b := rfl
theorem hI_sN (S : HS) (c n : Nat) (g b : Nat) : hI (sN S c n) g b = hI S g b := rfl
theorem hL_sN (S : HS) (c n : Nat) (g b : Nat) : hL (sN S c n) g b = hL S g b := rfl
theorem hR_sN (S : HS) (c n : Nat) (g b : Nat) : hR (sN S c n) g b = hR S g b := rfl
theorem hN_sN (S : HS) (c n : Nat) (b : Nat) : hN (sN S c n) b = if b = hZ S then n else hN S b := rfl
theorem hA_sN (S : HS) (c n : Nat) (b j : Nat) : hA (sN S c n) b j = if b = hZ S then 0 else hA S b j := rfl
theorem hY_sN (S : HS) (c n : Nat) (b j : Nat) : hY (sN S c n) b j = if b = hZ S then 0 else hY S b j := rfl
theorem hP_sN (S : HS) (c n : Nat) (b j : Nat) : hP (sN S c n) b j = if b = hZ S then none else hP S b j := rfl
theorem hZ_sN (S : HS) (c n : Nat) : hZ (sN S c n) = hZ S + 1 := rfl
theorem hB_sN (S : HS) (c n : Nat) : hB (sN S c n) = hB S - 1 := rfl
theorem hU_sN (S : HS) (c n : Nat) : hU (sN S c n) = hU S - n := rfl
theorem hC_sF (S : HS) (a w : Nat) (t : List Int32) (b : Nat) : hC (sF S a w t) b = if b = a then some (14, t) else if b = w then some (104, t) else hC S b := rfl
theorem hI_sF (S : HS) (a w : Nat) (t : List Int32) (g b : Nat) : hI (sF S a w t) g b = hI S g b := rfl
theorem hL_sF (S : HS) (a w : Nat) (t : List Int32) (g b : Nat) : hL (sF S a w t) g b = hL S g b := rfl
theorem hR_sF (S : HS) (a w : Nat) (t : List Int32) (g b : Nat) : hR (sF S a w t) g b = hR S g b := rfl
theorem hN_sF (S : HS) (a w : Nat) (t : List Int32) (b : Nat) : hN (sF S a w t) b = hN S b := rfl
theorem hA_sF (S : HS) (a w : Nat) (t : List Int32) (b j : Nat) : hA (sF S a w t) b j = hA S b j := rfl
theorem hY_sF (S : HS) (a w : Nat) (t : List Int32) (b j : Nat) : hY (sF S a w t) b j = hY S b j := rfl
theorem hP_sF (S : HS) (a w : Nat) (t : List Int32) (b j : Nat) : hP (sF S a w t) b j = hP S b j := rfl
theorem hZ_sF (S : HS) (a w : Nat) (t : List Int32) : hZ (sF S a w t) = hZ S := rfl
theorem hB_sF (S : HS) (a w : Nat) (t : List Int32) : hB (sF S a w t) = hB S := rfl
theorem hU_sF (S : HS) (a w : Nat) (t : List Int32) : hU (sF S a w t) = hU S := rfl

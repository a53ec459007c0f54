set_option maxRecDepth 100000
/-- an invocation: program, launch, environment, room, state, method, arguments, frames below, method's row, code; what is fixed; the heap at its start -/
abbrev Iv : Type := Program × Launch × Env × Room × State × MethodId × Array Value × List Frame × Method × Code × GT × HS
def rmD (d : Nat) (S : HS) : Room := { frames := d, cells := hB S, slots := hU S, locals := 64 * d }
def Cx : Iv → String → ByteArray → Nat → Option FieldType → Nat → List (Nat × Nat × Nat × Nat) → Bool → Prop
  | (p, l, e, R, s, m, args, below, meth, c, G, S0), own, cc, nL, ret, d, hs, ini =>
    p.tables.exec = Jvm.exec ∧ c.code = cc ∧ c.maxLocals = nL ∧ s.vm.findClass own = some m.cls ∧ (∀ w ∈ lw_all, w.before args s = true) ∧ EnvT G s ∧ meth.sig.returnType = ret ∧ meth.locks = false ∧ R = rmD d S0 ∧
      c.exceptionTable.toList = tableOf hs ∧ (ini = true → meth.name = "<init>") ∧ l.stackTraces = false ∧ Rep G S0 s.heap
/-- the locals -/
def LV (la : Array Slot) (ls : List (Option Value)) : Prop := la.size = ls.length ∧ lv_wf la ∧ ∀ (k : Nat) (v : Value), ls[k]? = some (some v) → la[k]? = some (Slot.val v)
def lc (ls : List (Option AV)) : List (Option Value) := ls.map (fun o => o.map cv)
/-- an end: a value or nothing is returned, or the Malformed at an address is thrown -/
abbrev OA : Type := Option AV ⊕ Nat
def co (o : OA) : Outcome := match o with
  | .inl v => .returned (v.map cv)
  | .inr a => .threw a
def lvO (S : HS) (o : OA) : Prop := match o with
  | .inl none => True
  | .inl (some v) => lv S v
  | .inr a => hC S a = some (5, [])
/-- between an invocation's start and a point of it -/
def Bs (G : GT) (S0 S : HS) (H : Heap) (locs : List Loc) : Prop := Rep G S H ∧ (∀ q ∈ locs, gz G ≤ q.base) ∧ hB S ≤ hB S0 ∧ hU S ≤ hU S0 ∧ Mono S0 S
/-- what a method's end says -/
def PostC {σ : Type} (ρ : σ → HS → Prop) (G : GT) (S0 : HS) (O : OA → σ → Prop) (st : State) (o : Outcome) (t : State) : Prop :=
  st.WarmedH t.vm ∧ ∃ (S' : HS) (x' : σ) (L : List Loc) (oa : OA), st.sameButNew ({ t with vm := st.vm } : State) L (hB S0 - hB S') (hU S0 - hU S') ∧ Bs G S0 S' t.heap L ∧ ρ x' S' ∧ o = co oa ∧ lvO S' oa ∧ O oa x'
def Fin' {σ : Type} (ρ : σ → HS → Prop) (below : List Frame) (G : GT) (S0 : HS) (O : OA → σ → Prop) (s : State) : State → Prop := fun t => ∃ o, t.status = .running ∧ Ended t below o ∧ PostC ρ G S0 O s o t
/-- from this point on the invocation comes to its end with O; x: the state in the words of ρ -/
def Y {σ : Type} (ρ : σ → HS → Prop) : Iv → (OA → σ → Prop) → Nat → List (Option AV) → List AV → σ → Prop
  | (p, l, e, R, s, m, args, below, meth, c, G, S0), O, pc, ls, st, x =>
    ∀ (S : HS) (H : Heap) (locs : List Loc) (la : Array Slot), ρ x S → Bs G S0 S H locs → LV la (lc ls) → lvL S ls → lvS S st →
      W p l e R s m args below meth c H locs (hB S0 - hB S) (hU S0 - hU S) (Fin' ρ below G S0 O s) (F0 m pc la (st.map cv))
theorem W.Qmono {p : Program} {l : Launch} {e : Env} {R : Room} {s : State} {m : MethodId} {args : Array Value} {below : List Frame} {meth : Method} {c : Code} {H : Heap} {locs : List Loc} {cells slots : Nat} {Q Q2 : State → Prop} {g : JFrame} (h : ∀ t, Q t → Q2 t)
    (k : W p l e R s m args below meth c H locs cells slots Q g) : W p l e R s m args below meth c H locs cells slots Q2 g := by
  intro T hT X
  obtain ⟨t, a, b⟩ := k T hT X
  exact ⟨t, a, h t b⟩
theorem va_rf_cat (r : Option Nat) : (va_rf r).category = 1 := by cases r <;> rfl
theorem cr_cat (r : Rf) : (cr r).category = 1 := va_rf_cat _
theorem lc_get {ls : List (Option AV)} {i : Nat} {v : AV} (h : ls[i]? = some (some v)) : (lc ls)[i]? = some (some (cv v)) := by
  unfold lc
  rw [List.getElem?_map, h]
  rfl
theorem lc_len (ls : List (Option AV)) : (lc ls).length = ls.length := List.length_map _
theorem lc_set (ls : List (Option AV)) (i : Nat) (v : AV) : lc (ls.set i (some v)) = (lc ls).set i (some (cv v)) := by
  unfold lc
  rw [List.map_set]
  rfl
theorem lc_set2 (ls : List (Option AV)) (i : Nat) (v : AV) : lc ((ls.set i (some v)).set (i + 1) none) = ((lc ls).set i (some (cv v))).set (i + 1) none := by
  unfold lc
  rw [List.map_set, List.map_set]
  rfl
theorem lvL.set {S : HS} {ls : List (Option AV)} {i : Nat} {v : AV} (h : lvL S ls) (hv : lv S v) : lvL S (ls.set i (some v)) := by
  intro j w hw
  rw [List.getElem?_set] at hw
  split at hw
  · split at hw
    · cases hw; exact hv
    · cases hw
  · exact h j w hw
theorem lvL.setN {S : HS} {ls : List (Option AV)} {i : Nat} (h : lvL S ls) : lvL S (ls.set i none) := by
  intro j w hw
  rw [List.getElem?_set] at hw
  split at hw
  · split at hw
    · cases hw
    · cases hw
  · exact h j w hw
/-- what stands ahead of a place is of one slot -/
def okp (ls : List (Option Value)) : Nat → Prop
  | 0 => True
  | j + 1 => match ls[j]? with
    | some (some w) => w.category = 1
    | _ => True
/-- the same, said of abstract values -/
def oka (ls : List (Option AV)) : Nat → Prop
  | 0 => True
  | j + 1 => match ls[j]? with
    | some (some (.inr (.inl _))) => False
    | _ => True
theorem oka.ok {ls : List (Option AV)} {i : Nat} (h : oka ls i) : okp (lc ls) i := by
  cases i with
  | zero => trivial
  | succ j =>
    simp only [okp, lc, List.getElem?_map]
    simp only [oka] at h
    cases hj : ls[j]? with
    | none => simp
    | some o =>
      cases o with
      | none => simp
      | some v =>
        rw [hj] at h
        match v, h with
        | .inl x, _ => simp [cv, Value.category]
        | .inr (.inr r), _ => simp [cv, cr_cat]
        | .inr (.inl x), h => exact False.elim h

def asl (ls : List (Option Value)) : List (Nat × Value) := (List.range ls.length).filterMap (fun k => match ls[k]? with
  | some (some v) => some (k, v)
  | _ => none)
theorem asl_mem {ls : List (Option Value)} {k : Nat} {v : Value} : (k, v) ∈ asl ls ↔ ls[k]? = some (some v) := by
  unfold asl
  rw [List.mem_filterMap]
  constructor
  · rintro ⟨a, -, ha⟩
    split at ha
    · rename_i w hw
      cases ha
      exact hw
    · cases ha
  · intro h
    refine ⟨k, List.mem_range.mpr (List.getElem?_eq_some_iff.mp h).1, ?_⟩
    rw [h]
theorem LV.has {la : Array Slot} {ls : List (Option Value)} (h : LV la ls) : lv_has la ls.length (asl ls) := ⟨h.1, h.2.1, fun q hq => h.2.2 q.1 q.2 (asl_mem.mp hq)⟩
theorem LV.st1 {la : Array Slot} {ls : List (Option Value)} {i : Nat} {v : Value} (hi : i < ls.length) (hp : okp ls i) (h : lv_has la ls.length ((i, v) :: (asl ls).filter (fun q => !(q.1 == i) && !(q.1 + 1 == i && q.2.category == 2)))) : LV la (ls.set i (some v)) := by
  refine ⟨by rw [List.length_set]; exact h.1, h.2.1, fun k w hk => ?_⟩
  by_cases e : k = i
  · subst e
    rw [List.getElem?_set_self hi] at hk
    cases hk
    exact h.2.2 (k, v) List.mem_cons_self
  · rw [List.getElem?_set_ne (Ne.symm e)] at hk
    refine h.2.2 (k, w) (List.mem_cons_of_mem _ (List.mem_filter.mpr ⟨asl_mem.mpr hk, ?_⟩))
    simp only [Bool.and_eq_true, Bool.not_eq_true', beq_eq_false_iff_ne, ne_eq, Bool.and_eq_false_iff]
    refine ⟨e, ?_⟩
    by_cases e2 : k + 1 = i
    · right
      subst e2
      simp only [okp, hk] at hp
      omega
    · exact Or.inl e2
theorem LV.st2 {la : Array Slot} {ls : List (Option Value)} {i : Nat} {v : Value} (hi : i + 1 < ls.length) (hp : okp ls i) (h : lv_has la ls.length ((i, v) :: (asl ls).filter (fun q => !(q.1 == i) && (!(q.1 == i + 1) && !(q.1 + 1 == i && q.2.category == 2))))) : LV la ((ls.set i (some v)).set (i + 1) none) := by
  refine ⟨by rw [List.length_set, List.length_set]; exact h.1, h.2.1, fun k w hk => ?_⟩
  by_cases e3 : k = i + 1
  · subst e3
    rw [List.getElem?_set_self (by rw [List.length_set]; exact hi)] at hk
    cases hk
  · rw [List.getElem?_set_ne (Ne.symm e3)] at hk
    by_cases e : k = i
    · subst e
      rw [List.getElem?_set_self (by omega)] at hk
      cases hk
      exact h.2.2 (k, v) List.mem_cons_self
    · rw [List.getElem?_set_ne (Ne.symm e)] at hk
      refine h.2.2 (k, w) (List.mem_cons_of_mem _ (List.mem_filter.mpr ⟨asl_mem.mpr hk, ?_⟩))
      simp only [Bool.and_eq_true, Bool.not_eq_true', beq_eq_false_iff_ne, ne_eq, Bool.and_eq_false_iff]
      refine ⟨e, e3, ?_⟩
      by_cases e2 : k + 1 = i
      · right
        subst e2
        simp only [okp, hk] at hp
        omega
      · exact Or.inl e2
section YR
variable {σ : Type} {ρ : σ → HS → Prop} {I : Iv} {own : String} {cc : ByteArray} {nL : Nat} {ret : Option FieldType} {d : Nat} {hs : List (Nat × Nat × Nat × Nat)} {ini : Bool} {O : OA → σ → Prop} {pc : Nat} {ls : List (Option AV)} {st : List AV} {x : σ}
theorem y_iconst {n : Int} {v : Int32} (cx : Cx I own cc nL ret d hs ini) (hd : decode cc pc = .ok (.iconst n, 1)) (hn : Int32.ofInt n = v) (k : Y ρ I O (pc + 1) ls (vI v :: st) x) : Y ρ I O pc ls (st) x := by
  obtain ⟨p, l, e, R, s, m, args, below, meth, c, G, S0⟩ := I
  obtain ⟨hx, hb, -⟩ := cx
  intro S H locs la hS hbs hv hw1 hw2
  exact lv_iconst hx hb hd hn (k S H locs la hS hbs hv hw1 ⟨trivial, hw2⟩)
theorem y_bipush {n : Int} {v : Int32} (cx : Cx I own cc nL ret d hs ini) (hd : decode cc pc = .ok (.bipush n, 2)) (hn : (Int8.ofInt n).toInt32 = v) (k : Y ρ I O (pc + 2) ls (vI v :: st) x) : Y ρ I O pc ls (st) x := by
  obtain ⟨p, l, e, R, s, m, args, below, meth, c, G, S0⟩ := I
  obtain ⟨hx, hb, -⟩ := cx
  intro S H locs la hS hbs hv hw1 hw2
  exact lv_bipush hx hb hd hn (k S H locs la hS hbs hv hw1 ⟨trivial, hw2⟩)
theorem y_sipush {n : Int} {v : Int32} (cx : Cx I own cc nL ret d hs ini) (hd : decode cc pc = .ok (.sipush n, 3)) (hn : (Int16.ofInt n).toInt32 = v) (k : Y ρ I O (pc + 3) ls (vI v :: st) x) : Y ρ I O pc ls (st) x := by
  obtain ⟨p, l, e, R, s, m, args, below, meth, c, G, S0⟩ := I
  obtain ⟨hx, hb, -⟩ := cx
  intro S H locs la hS hbs hv hw1 hw2
  exact lv_sipush hx hb hd hn (k S H locs la hS hbs hv hw1 ⟨trivial, hw2⟩)
theorem y_lconst {n : Fin 2} {v : Int64} (cx : Cx I own cc nL ret d hs ini) (hd : decode cc pc = .ok (.lconst n, 1)) (hn : Int64.ofNat (n : Nat) = v) (k : Y ρ I O (pc + 1) ls (vL v :: st) x) : Y ρ I O pc ls (st) x := by
  obtain ⟨p, l, e, R, s, m, args, below, meth, c, G, S0⟩ := I
  obtain ⟨hx, hb, -⟩ := cx
  intro S H locs la hS hbs hv hw1 hw2
  exact lv_lconst hx hb hd hn (k S H locs la hS hbs hv hw1 ⟨trivial, hw2⟩)
theorem y_null (cx : Cx I own cc nL ret d hs ini) (hd : decode cc pc = .ok (.aconst_null, 1)) (k : Y ρ I O (pc + 1) ls (vR none :: st) x) : Y ρ I O pc ls (st) x := by
  obtain ⟨p, l, e, R, s, m, args, below, meth, c, G, S0⟩ := I
  obtain ⟨hx, hb, -⟩ := cx
  intro S H locs la hS hbs hv hw1 hw2
  exact lv_null hx hb hd (k S H locs la hS hbs hv hw1 ⟨trivial, hw2⟩)
theorem y_iadd {x1 y1 : Int32} (cx : Cx I own cc nL ret d hs ini) (hd : decode cc pc = .ok (.iadd, 1)) (k : Y ρ I O (pc + 1) ls (vI (x1 + y1) :: st) x) : Y ρ I O pc ls (vI y1 :: vI x1 :: st) x := by
  obtain ⟨p, l, e, R, s, m, args, below, meth, c, G, S0⟩ := I
  obtain ⟨hx, hb, -⟩ := cx
  intro S H locs la hS hbs hv hw1 hw2
  exact lv_iadd hx hb hd (k S H locs la hS hbs hv hw1 ⟨trivial, hw2.2.2⟩)
theorem y_isub {x1 y1 : Int32} (cx : Cx I own cc nL ret d hs ini) (hd : decode cc pc = .ok (.isub, 1)) (k : Y ρ I O (pc + 1) ls (vI (x1 - y1) :: st) x) : Y ρ I O pc ls (vI y1 :: vI x1 :: st) x := by
  obtain ⟨p, l, e, R, s, m, args, below, meth, c, G, S0⟩ := I
  obtain ⟨hx, hb, -⟩ := cx
  intro S H locs la hS hbs hv hw1 hw2
  exact lv_isub hx hb hd (k S H locs la hS hbs hv hw1 ⟨trivial, hw2.2.2⟩)
theorem y_imul {x1 y1 : Int32} (cx : Cx I own cc nL ret d hs ini) (hd : decode cc pc = .ok (.imul, 1)) (k : Y ρ I O (pc + 1) ls (vI (x1 * y1) :: st) x) : Y ρ I O pc ls (vI y1 :: vI x1 :: st) x := by
  obtain ⟨p, l, e, R, s, m, args, below, meth, c, G, S0⟩ := I
  obtain ⟨hx, hb, -⟩ := cx
  intro S H locs la hS hbs hv hw1 hw2
  exact lv_imul hx hb hd (k S H locs la hS hbs hv hw1 ⟨trivial, hw2.2.2⟩)
theorem y_iand {x1 y1 : Int32} (cx : Cx I own cc nL ret d hs ini) (hd : decode cc pc = .ok (.iand, 1)) (k : Y ρ I O (pc + 1) ls (vI (x1 &&& y1) :: st) x) : Y ρ I O pc ls (vI y1 :: vI x1 :: st) x := by
  obtain ⟨p, l, e, R, s, m, args, below, meth, c, G, S0⟩ := I
  obtain ⟨hx, hb, -⟩ := cx
  intro S H locs la hS hbs hv hw1 hw2
  exact lv_iand hx hb hd (k S H locs la hS hbs hv hw1 ⟨trivial, hw2.2.2⟩)
theorem y_ior {x1 y1 : Int32} (cx : Cx I own cc nL ret d hs ini) (hd : decode cc pc = .ok (.ior, 1)) (k : Y ρ I O (pc + 1) ls (vI (x1 ||| y1) :: st) x) : Y ρ I O pc ls (vI y1 :: vI x1 :: st) x := by
  obtain ⟨p, l, e, R, s, m, args, below, meth, c, G, S0⟩ := I
  obtain ⟨hx, hb, -⟩ := cx
  intro S H locs la hS hbs hv hw1 hw2
  exact lv_ior hx hb hd (k S H locs la hS hbs hv hw1 ⟨trivial, hw2.2.2⟩)
theorem y_ishl {x1 y1 : Int32} (cx : Cx I own cc nL ret d hs ini) (hd : decode cc pc = .ok (.ishl, 1)) (k : Y ρ I O (pc + 1) ls (vI (x1 <<< (y1 &&& 31)) :: st) x) : Y ρ I O pc ls (vI y1 :: vI x1 :: st) x := by
  obtain ⟨p, l, e, R, s, m, args, below, meth, c, G, S0⟩ := I
  obtain ⟨hx, hb, -⟩ := cx
  intro S H locs la hS hbs hv hw1 hw2
  exact lv_ishl hx hb hd (k S H locs la hS hbs hv hw1 ⟨trivial, hw2.2.2⟩)
theorem y_ishr {x1 y1 : Int32} (cx : Cx I own cc nL ret d hs ini) (hd : decode cc pc = .ok (.ishr, 1)) (k : Y ρ I O (pc + 1) ls (vI (x1 >>> (y1 &&& 31)) :: st) x) : Y ρ I O pc ls (vI y1 :: vI x1 :: st) x := by
  obtain ⟨p, l, e, R, s, m, args, below, meth, c, G, S0⟩ := I
  obtain ⟨hx, hb, -⟩ := cx
  intro S H locs la hS hbs hv hw1 hw2
  exact lv_ishr hx hb hd (k S H locs la hS hbs hv hw1 ⟨trivial, hw2.2.2⟩)
theorem y_iushr {x1 y1 : Int32} (cx : Cx I own cc nL ret d hs ini) (hd : decode cc pc = .ok (.iushr, 1)) (k : Y ρ I O (pc + 1) ls (vI ((x1.toUInt32 >>> (y1.toUInt32 &&& Int32.toUInt32 31)).toInt32) :: st) x) : Y ρ I O pc ls (vI y1 :: vI x1 :: st) x := by
  obtain ⟨p, l, e, R, s, m, args, below, meth, c, G, S0⟩ := I
  obtain ⟨hx, hb, -⟩ := cx
  intro S H locs la hS hbs hv hw1 hw2
  exact lv_iushr hx hb hd rfl (k S H locs la hS hbs hv hw1 ⟨trivial, hw2.2.2⟩)
theorem y_irem {x1 y1 : Int32} (cx : Cx I own cc nL ret d hs ini) (hd : decode cc pc = .ok (.irem, 1)) (hne : ¬ y1 = 0) (k : Y ρ I O (pc + 1) ls (vI (x1 - x1 / y1 * y1) :: st) x) : Y ρ I O pc ls (vI y1 :: vI x1 :: st) x := by
  obtain ⟨p, l, e, R, s, m, args, below, meth, c, G, S0⟩ := I
  obtain ⟨hx, hb, -⟩ := cx
  intro S H locs la hS hbs hv hw1 hw2
  exact lv_irem hx hb hd hne (k S H locs la hS hbs hv hw1 ⟨trivial, hw2.2.2⟩)
theorem y_ineg {x1 : Int32} (cx : Cx I own cc nL ret d hs ini) (hd : decode cc pc = .ok (.ineg, 1)) (k : Y ρ I O (pc + 1) ls (vI (-x1) :: st) x) : Y ρ I O pc ls (vI x1 :: st) x := by
  obtain ⟨p, l, e, R, s, m, args, below, meth, c, G, S0⟩ := I
  obtain ⟨hx, hb, -⟩ := cx
  intro S H locs la hS hbs hv hw1 hw2
  exact lv_ineg hx hb hd (k S H locs la hS hbs hv hw1 ⟨trivial, hw2.2⟩)
theorem y_ladd {x1 y1 : Int64} (cx : Cx I own cc nL ret d hs ini) (hd : decode cc pc = .ok (.ladd, 1)) (k : Y ρ I O (pc + 1) ls (vL (x1 + y1) :: st) x) : Y ρ I O pc ls (vL y1 :: vL x1 :: st) x := by
  obtain ⟨p, l, e, R, s, m, args, below, meth, c, G, S0⟩ := I
  obtain ⟨hx, hb, -⟩ := cx
  intro S H locs la hS hbs hv hw1 hw2
  exact lv_ladd hx hb hd (k S H locs la hS hbs hv hw1 ⟨trivial, hw2.2.2⟩)
theorem y_lsub {x1 y1 : Int64} (cx : Cx I own cc nL ret d hs ini) (hd : decode cc pc = .ok (.lsub, 1)) (k : Y ρ I O (pc + 1) ls (vL (x1 - y1) :: st) x) : Y ρ I O pc ls (vL y1 :: vL x1 :: st) x := by
  obtain ⟨p, l, e, R, s, m, args, below, meth, c, G, S0⟩ := I
  obtain ⟨hx, hb, -⟩ := cx
  intro S H locs la hS hbs hv hw1 hw2
  exact lv_lsub hx hb hd (k S H locs la hS hbs hv hw1 ⟨trivial, hw2.2.2⟩)
theorem y_lmul {x1 y1 : Int64} (cx : Cx I own cc nL ret d hs ini) (hd : decode cc pc = .ok (.lmul, 1)) (k : Y ρ I O (pc + 1) ls (vL (x1 * y1) :: st) x) : Y ρ I O pc ls (vL y1 :: vL x1 :: st) x := by
  obtain ⟨p, l, e, R, s, m, args, below, meth, c, G, S0⟩ := I
  obtain ⟨hx, hb, -⟩ := cx
  intro S H locs la hS hbs hv hw1 hw2
  exact lv_lmul hx hb hd (k S H locs la hS hbs hv hw1 ⟨trivial, hw2.2.2⟩)
theorem y_land {x1 y1 : Int64} (cx : Cx I own cc nL ret d hs ini) (hd : decode cc pc = .ok (.land, 1)) (k : Y ρ I O (pc + 1) ls (vL (x1 &&& y1) :: st) x) : Y ρ I O pc ls (vL y1 :: vL x1 :: st) x := by
  obtain ⟨p, l, e, R, s, m, args, below, meth, c, G, S0⟩ := I
  obtain ⟨hx, hb, -⟩ := cx
  intro S H locs la hS hbs hv hw1 hw2
  exact lv_land hx hb hd (k S H locs la hS hbs hv hw1 ⟨trivial, hw2.2.2⟩)
theorem y_lor {x1 y1 : Int64} (cx : Cx I own cc nL ret d hs ini) (hd : decode cc pc = .ok (.lor, 1)) (k : Y ρ I O (pc + 1) ls (vL (x1 ||| y1) :: st) x) : Y ρ I O pc ls (vL y1 :: vL x1 :: st) x := by
  obtain ⟨p, l, e, R, s, m, args, below, meth, c, G, S0⟩ := I
  obtain ⟨hx, hb, -⟩ := cx
  intro S H locs la hS hbs hv hw1 hw2
  exact lv_lor hx hb hd (k S H locs la hS hbs hv hw1 ⟨trivial, hw2.2.2⟩)
theorem y_lshl {x1 : Int64} {y1 : Int32} (cx : Cx I own cc nL ret d hs ini) (hd : decode cc pc = .ok (.lshl, 1)) (k : Y ρ I O (pc + 1) ls (vL (x1 <<< (y1.toInt64 &&& 63)) :: st) x) : Y ρ I O pc ls (vI y1 :: vL x1 :: st) x := by
  obtain ⟨p, l, e, R, s, m, args, below, meth, c, G, S0⟩ := I
  obtain ⟨hx, hb, -⟩ := cx
  intro S H locs la hS hbs hv hw1 hw2
  exact lv_lshl hx hb hd rfl (k S H locs la hS hbs hv hw1 ⟨trivial, hw2.2.2⟩)
theorem y_lshr {x1 : Int64} {y1 : Int32} (cx : Cx I own cc nL ret d hs ini) (hd : decode cc pc = .ok (.lshr, 1)) (k : Y ρ I O (pc + 1) ls (vL (x1 >>> (y1.toInt64 &&& 63)) :: st) x) : Y ρ I O pc ls (vI y1 :: vL x1 :: st) x := by
  obtain ⟨p, l, e, R, s, m, args, below, meth, c, G, S0⟩ := I
  obtain ⟨hx, hb, -⟩ := cx
  intro S H locs la hS hbs hv hw1 hw2
  exact lv_lshr hx hb hd rfl (k S H locs la hS hbs hv hw1 ⟨trivial, hw2.2.2⟩)
theorem y_i2l {x1 : Int32} (cx : Cx I own cc nL ret d hs ini) (hd : decode cc pc = .ok (.i2l, 1)) (k : Y ρ I O (pc + 1) ls (vL x1.toInt64 :: st) x) : Y ρ I O pc ls (vI x1 :: st) x := by
  obtain ⟨p, l, e, R, s, m, args, below, meth, c, G, S0⟩ := I
  obtain ⟨hx, hb, -⟩ := cx
  intro S H locs la hS hbs hv hw1 hw2
  exact lv_i2l hx hb hd rfl (k S H locs la hS hbs hv hw1 ⟨trivial, hw2.2⟩)
theorem y_l2i {x1 : Int64} (cx : Cx I own cc nL ret d hs ini) (hd : decode cc pc = .ok (.l2i, 1)) (k : Y ρ I O (pc + 1) ls (vI x1.toInt32 :: st) x) : Y ρ I O pc ls (vL x1 :: st) x := by
  obtain ⟨p, l, e, R, s, m, args, below, meth, c, G, S0⟩ := I
  obtain ⟨hx, hb, -⟩ := cx
  intro S H locs la hS hbs hv hw1 hw2
  exact lv_l2i hx hb hd rfl (k S H locs la hS hbs hv hw1 ⟨trivial, hw2.2⟩)
theorem y_i2b {x1 : Int32} (cx : Cx I own cc nL ret d hs ini) (hd : decode cc pc = .ok (.i2b, 1)) (k : Y ρ I O (pc + 1) ls (vI x1.toInt8.toInt32 :: st) x) : Y ρ I O pc ls (vI x1 :: st) x := by
  obtain ⟨p, l, e, R, s, m, args, below, meth, c, G, S0⟩ := I
  obtain ⟨hx, hb, -⟩ := cx
  intro S H locs la hS hbs hv hw1 hw2
  exact lv_i2b hx hb hd rfl (k S H locs la hS hbs hv hw1 ⟨trivial, hw2.2⟩)
theorem y_i2c {x1 : Int32} (cx : Cx I own cc nL ret d hs ini) (hd : decode cc pc = .ok (.i2c, 1)) (k : Y ρ I O (pc + 1) ls (vI (x1.toUInt32 % 65536).toInt32 :: st) x) : Y ρ I O pc ls (vI x1 :: st) x := by
  obtain ⟨p, l, e, R, s, m, args, below, meth, c, G, S0⟩ := I
  obtain ⟨hx, hb, -⟩ := cx
  intro S H locs la hS hbs hv hw1 hw2
  exact lv_i2c hx hb hd rfl (k S H locs la hS hbs hv hw1 ⟨trivial, hw2.2⟩)
theorem y_lcmp {x1 y1 : Int64} (cx : Cx I own cc nL ret d hs ini) (hd : decode cc pc = .ok (.lcmp, 1)) (k : Y ρ I O (pc + 1) ls (vI (lg_cmp x1 y1) :: st) x) : Y ρ I O pc ls (vL y1 :: vL x1 :: st) x := by
  obtain ⟨p, l, e, R, s, m, args, below, meth, c, G, S0⟩ := I
  obtain ⟨hx, hb, -⟩ := cx
  intro S H locs la hS hbs hv hw1 hw2
  exact W.lcmp hx hb hd (k S H locs la hS hbs hv hw1 ⟨trivial, hw2.2.2⟩)
theorem y_dupi {x1 : Int32} (cx : Cx I own cc nL ret d hs ini) (hd : decode cc pc = .ok (.dup, 1)) (k : Y ρ I O (pc + 1) ls (vI x1 :: vI x1 :: st) x) : Y ρ I O pc ls (vI x1 :: st) x := by
  obtain ⟨p, l, e, R, s, m, args, below, meth, c, G, S0⟩ := I
  obtain ⟨hx, hb, -⟩ := cx
  intro S H locs la hS hbs hv hw1 hw2
  exact lv_dup hx hb hd rfl (k S H locs la hS hbs hv hw1 ⟨trivial, hw2⟩)
theorem y_dupr {x1 : Rf} (cx : Cx I own cc nL ret d hs ini) (hd : decode cc pc = .ok (.dup, 1)) (k : Y ρ I O (pc + 1) ls (vR x1 :: vR x1 :: st) x) : Y ρ I O pc ls (vR x1 :: st) x := by
  obtain ⟨p, l, e, R, s, m, args, below, meth, c, G, S0⟩ := I
  obtain ⟨hx, hb, -⟩ := cx
  intro S H locs la hS hbs hv hw1 hw2
  exact lv_dup hx hb hd (cr_cat x1) (k S H locs la hS hbs hv hw1 ⟨hw2.1, hw2⟩)
theorem y_popi {x1 : Int32} (cx : Cx I own cc nL ret d hs ini) (hd : decode cc pc = .ok (.pop, 1)) (k : Y ρ I O (pc + 1) ls (st) x) : Y ρ I O pc ls (vI x1 :: st) x := by
  obtain ⟨p, l, e, R, s, m, args, below, meth, c, G, S0⟩ := I
  obtain ⟨hx, hb, -⟩ := cx
  intro S H locs la hS hbs hv hw1 hw2
  exact lv_pop hx hb hd rfl (k S H locs la hS hbs hv hw1 hw2.2)
theorem y_popr {x1 : Rf} (cx : Cx I own cc nL ret d hs ini) (hd : decode cc pc = .ok (.pop, 1)) (k : Y ρ I O (pc + 1) ls (st) x) : Y ρ I O pc ls (vR x1 :: st) x := by
  obtain ⟨p, l, e, R, s, m, args, below, meth, c, G, S0⟩ := I
  obtain ⟨hx, hb, -⟩ := cx
  intro S H locs la hS hbs hv hw1 hw2
  exact lv_pop hx hb hd (cr_cat x1) (k S H locs la hS hbs hv hw1 hw2.2)
theorem y_dup_x1ir {x1 : Int32} {y1 : Rf} (cx : Cx I own cc nL ret d hs ini) (hd : decode cc pc = .ok (.dup_x1, 1)) (k : Y ρ I O (pc + 1) ls (vI x1 :: vR y1 :: vI x1 :: st) x) : Y ρ I O pc ls (vI x1 :: vR y1 :: st) x := by
  obtain ⟨p, l, e, R, s, m, args, below, meth, c, G, S0⟩ := I
  obtain ⟨hx, hb, -⟩ := cx
  intro S H locs la hS hbs hv hw1 hw2
  exact lv_dup_x1 hx hb hd rfl (cr_cat y1) (k S H locs la hS hbs hv hw1 ⟨trivial, hw2.2.1, trivial, hw2.2.2⟩)
theorem y_iload_n {x1 : Int32} {kf : Fin 4} (i : Nat) (cx : Cx I own cc nL ret d hs ini) (hd : decode cc pc = .ok (.iload_n kf, 1)) (hi : (kf : Nat) = i) (hg : ls[i]? = some (some (vI x1))) (k : Y ρ I O (pc + 1) ls (vI x1 :: st) x) : Y ρ I O pc ls st x := by
  obtain ⟨p, l, e, R, s, m, args, below, meth, c, G, S0⟩ := I
  obtain ⟨hx, hb, -⟩ := cx
  intro S H locs la hS hbs hv hw1 hw2
  have k := k S H locs la hS hbs hv hw1 ⟨hw1 i _ hg, hw2⟩
  have hg := hv.2.2 i _ (lc_get hg)
  exact lv_iload_n hx hb hd hi hg k
theorem y_iload {x1 : Int32} (i : Nat) (cx : Cx I own cc nL ret d hs ini) (hd : decode cc pc = .ok (.iload i, 2)) (hg : ls[i]? = some (some (vI x1))) (k : Y ρ I O (pc + 2) ls (vI x1 :: st) x) : Y ρ I O pc ls st x := by
  obtain ⟨p, l, e, R, s, m, args, below, meth, c, G, S0⟩ := I
  obtain ⟨hx, hb, -⟩ := cx
  intro S H locs la hS hbs hv hw1 hw2
  have k := k S H locs la hS hbs hv hw1 ⟨hw1 i _ hg, hw2⟩
  have hg := hv.2.2 i _ (lc_get hg)
  exact lv_iload hx hb hd hg k
theorem y_lload_n {x1 : Int64} {kf : Fin 4} (i : Nat) (cx : Cx I own cc nL ret d hs ini) (hd : decode cc pc = .ok (.lload_n kf, 1)) (hi : (kf : Nat) = i) (hg : ls[i]? = some (some (vL x1))) (k : Y ρ I O (pc + 1) ls (vL x1 :: st) x) : Y ρ I O pc ls st x := by
  obtain ⟨p, l, e, R, s, m, args, below, meth, c, G, S0⟩ := I
  obtain ⟨hx, hb, -⟩ := cx
  intro S H locs la hS hbs hv hw1 hw2
  have k := k S H locs la hS hbs hv hw1 ⟨hw1 i _ hg, hw2⟩
  have hg := hv.2.2 i _ (lc_get hg)
  exact lv_lload_n hx hb hd hi hg k
theorem y_lload {x1 : Int64} (i : Nat) (cx : Cx I own cc nL ret d hs ini) (hd : decode cc pc = .ok (.lload i, 2)) (hg : ls[i]? = some (some (vL x1))) (k : Y ρ I O (pc + 2) ls (vL x1 :: st) x) : Y ρ I O pc ls st x := by
  obtain ⟨p, l, e, R, s, m, args, below, meth, c, G, S0⟩ := I
  obtain ⟨hx, hb, -⟩ := cx
  intro S H locs la hS hbs hv hw1 hw2
  have k := k S H locs la hS hbs hv hw1 ⟨hw1 i _ hg, hw2⟩
  have hg := hv.2.2 i _ (lc_get hg)
  exact lv_lload hx hb hd hg k
theorem y_aload_n {x1 : Rf} {kf : Fin 4} (i : Nat) (cx : Cx I own cc nL ret d hs ini) (hd : decode cc pc = .ok (.aload_n kf, 1)) (hi : (kf : Nat) = i) (hg : ls[i]? = some (some (vR x1))) (k : Y ρ I O (pc + 1) ls (vR x1 :: st) x) : Y ρ I O pc ls st x := by
  obtain ⟨p, l, e, R, s, m, args, below, meth, c, G, S0⟩ := I
  obtain ⟨hx, hb, -⟩ := cx
  intro S H locs la hS hbs hv hw1 hw2
  have k := k S H locs la hS hbs hv hw1 ⟨hw1 i _ hg, hw2⟩
  have hg := hv.2.2 i _ (lc_get hg)
  cases x1 with
  | none => exact lv_aload_nN hx hb hd hi hg k
  | some a => exact lv_aload_n hx hb hd hi hg k
theorem y_aload {x1 : Rf} (i : Nat) (cx : Cx I own cc nL ret d hs ini) (hd : decode cc pc = .ok (.aload i, 2)) (hg : ls[i]? = some (some (vR x1))) (k : Y ρ I O (pc + 2) ls (vR x1 :: st) x) : Y ρ I O pc ls st x := by
  obtain ⟨p, l, e, R, s, m, args, below, meth, c, G, S0⟩ := I
  obtain ⟨hx, hb, -⟩ := cx
  intro S H locs la hS hbs hv hw1 hw2
  have k := k S H locs la hS hbs hv hw1 ⟨hw1 i _ hg, hw2⟩
  have hg := hv.2.2 i _ (lc_get hg)
  cases x1 with
  | none => exact lv_aloadN hx hb hd hg k
  | some a => exact lv_aload hx hb hd hg k
theorem y_istore_n {x1 : Int32} {kf : Fin 4} (i : Nat) (ls' : List (Option AV)) (cx : Cx I own cc nL ret d hs ini) (hd : decode cc pc = .ok (.istore_n kf, 1)) (hi : (kf : Nat) = i) (hlt : i < ls.length) (hp : oka ls i) (hls : ls.set i (some (vI x1)) = ls') (k : Y ρ I O (pc + 1) ls' st x) : Y ρ I O pc ls (vI x1 :: st) x := by
  subst hls
  obtain ⟨p, l, e, R, s, m, args, below, meth, c, G, S0⟩ := I
  obtain ⟨hx, hb, -⟩ := cx
  intro S H locs la hS hbs hv hw1 hw2
  have hh := hv.has
  rw [lc_len] at hh
  exact lv_istore_n hx hb hd hi hh hlt rfl (fun la' h' => k S H locs la' hS hbs (by rw [lc_set]; exact LV.st1 (by rw [lc_len]; exact hlt) hp.ok (by rw [lc_len]; exact h')) (hw1.set hw2.1) hw2.2)
theorem y_istore {x1 : Int32} (i : Nat) (ls' : List (Option AV)) (cx : Cx I own cc nL ret d hs ini) (hd : decode cc pc = .ok (.istore i, 2)) (hlt : i < ls.length) (hp : oka ls i) (hls : ls.set i (some (vI x1)) = ls') (k : Y ρ I O (pc + 2) ls' st x) : Y ρ I O pc ls (vI x1 :: st) x := by
  subst hls
  obtain ⟨p, l, e, R, s, m, args, below, meth, c, G, S0⟩ := I
  obtain ⟨hx, hb, -⟩ := cx
  intro S H locs la hS hbs hv hw1 hw2
  have hh := hv.has
  rw [lc_len] at hh
  exact lv_istore hx hb hd hh hlt rfl (fun la' h' => k S H locs la' hS hbs (by rw [lc_set]; exact LV.st1 (by rw [lc_len]; exact hlt) hp.ok (by rw [lc_len]; exact h')) (hw1.set hw2.1) hw2.2)
theorem y_lstore_n {x1 : Int64} {kf : Fin 4} (i : Nat) (ls' : List (Option AV)) (cx : Cx I own cc nL ret d hs ini) (hd : decode cc pc = .ok (.lstore_n kf, 1)) (hi : (kf : Nat) = i) (hlt : i + 1 < ls.length) (hp : oka ls i) (hls : (ls.set i (some (vL x1))).set (i + 1) none = ls') (k : Y ρ I O (pc + 1) ls' st x) : Y ρ I O pc ls (vL x1 :: st) x := by
  subst hls
  obtain ⟨p, l, e, R, s, m, args, below, meth, c, G, S0⟩ := I
  obtain ⟨hx, hb, -⟩ := cx
  intro S H locs la hS hbs hv hw1 hw2
  have hh := hv.has
  rw [lc_len] at hh
  exact lv_lstore_n hx hb hd hi hh hlt rfl (fun la' h' => k S H locs la' hS hbs (by rw [lc_set2]; exact LV.st2 (by rw [lc_len]; exact hlt) hp.ok (by rw [lc_len]; exact h')) ((hw1.set hw2.1).setN) hw2.2)
theorem y_lstore {x1 : Int64} (i : Nat) (ls' : List (Option AV)) (cx : Cx I own cc nL ret d hs ini) (hd : decode cc pc = .ok (.lstore i, 2)) (hlt : i + 1 < ls.length) (hp : oka ls i) (hls : (ls.set i (some (vL x1))).set (i + 1) none = ls') (k : Y ρ I O (pc + 2) ls' st x) : Y ρ I O pc ls (vL x1 :: st) x := by
  subst hls
  obtain ⟨p, l, e, R, s, m, args, below, meth, c, G, S0⟩ := I
  obtain ⟨hx, hb, -⟩ := cx
  intro S H locs la hS hbs hv hw1 hw2
  have hh := hv.has
  rw [lc_len] at hh
  exact lv_lstore hx hb hd hh hlt rfl (fun la' h' => k S H locs la' hS hbs (by rw [lc_set2]; exact LV.st2 (by rw [lc_len]; exact hlt) hp.ok (by rw [lc_len]; exact h')) ((hw1.set hw2.1).setN) hw2.2)
theorem y_astore_n {x1 : Rf} {kf : Fin 4} (i : Nat) (ls' : List (Option AV)) (cx : Cx I own cc nL ret d hs ini) (hd : decode cc pc = .ok (.astore_n kf, 1)) (hi : (kf : Nat) = i) (hlt : i < ls.length) (hp : oka ls i) (hls : ls.set i (some (vR x1)) = ls') (k : Y ρ I O (pc + 1) ls' st x) : Y ρ I O pc ls (vR x1 :: st) x := by
  subst hls
  obtain ⟨p, l, e, R, s, m, args, below, meth, c, G, S0⟩ := I
  obtain ⟨hx, hb, -⟩ := cx
  intro S H locs la hS hbs hv hw1 hw2
  have hh := hv.has
  rw [lc_len] at hh
  cases x1 with
  | none => exact lv_astore_nN hx hb hd hi hh hlt rfl (fun la' h' => k S H locs la' hS hbs (by rw [lc_set]; exact LV.st1 (by rw [lc_len]; exact hlt) hp.ok (by rw [lc_len]; exact h')) (hw1.set hw2.1) hw2.2)
  | some a => exact lv_astore_n hx hb hd hi hh hlt rfl (fun la' h' => k S H locs la' hS hbs (by rw [lc_set]; exact LV.st1 (by rw [lc_len]; exact hlt) hp.ok (by rw [lc_len]; exact h')) (hw1.set hw2.1) hw2.2)
theorem y_astore {x1 : Rf} (i : Nat) (ls' : List (Option AV)) (cx : Cx I own cc nL ret d hs ini) (hd : decode cc pc = .ok (.astore i, 2)) (hlt : i < ls.length) (hp : oka ls i) (hls : ls.set i (some (vR x1)) = ls') (k : Y ρ I O (pc + 2) ls' st x) : Y ρ I O pc ls (vR x1 :: st) x := by
  subst hls
  obtain ⟨p, l, e, R, s, m, args, below, meth, c, G, S0⟩ := I
  obtain ⟨hx, hb, -⟩ := cx
  intro S H locs la hS hbs hv hw1 hw2
  have hh := hv.has
  rw [lc_len] at hh
  cases x1 with
  | none => exact lv_astoreN hx hb hd hh hlt rfl (fun la' h' => k S H locs la' hS hbs (by rw [lc_set]; exact LV.st1 (by rw [lc_len]; exact hlt) hp.ok (by rw [lc_len]; exact h')) (hw1.set hw2.1) hw2.2)
  | some a => exact lv_astore hx hb hd hh hlt rfl (fun la' h' => k S H locs la' hS hbs (by rw [lc_set]; exact LV.st1 (by rw [lc_len]; exact hlt) hp.ok (by rw [lc_len]; exact h')) (hw1.set hw2.1) hw2.2)
theorem y_iinc {x1 v : Int32} {n : Int} (i : Nat) (ls' : List (Option AV)) (cx : Cx I own cc nL ret d hs ini) (hd : decode cc pc = .ok (.iinc i n, 3)) (hg : ls[i]? = some (some (vI x1))) (hn : Int32.ofInt n = v) (hp : oka ls i) (hls : ls.set i (some (vI (x1 + v))) = ls') (k : Y ρ I O (pc + 3) ls' st x) : Y ρ I O pc ls st x := by
  subst hls
  obtain ⟨p, l, e, R, s, m, args, below, meth, c, G, S0⟩ := I
  obtain ⟨hx, hb, -⟩ := cx
  intro S H locs la hS hbs hv hw1 hw2
  have hh := hv.has
  rw [lc_len] at hh
  have hlt : i < ls.length := (List.getElem?_eq_some_iff.mp hg).1
  obtain ⟨j, hj⟩ := List.getElem?_of_mem (asl_mem.mpr (lc_get hg))
  exact lv_iinc hx hb hd hh hj (by rw [hn]) hlt rfl (fun la' h' => k S H locs la' hS hbs (by rw [lc_set]; exact LV.st1 (by rw [lc_len]; exact hlt) hp.ok (by rw [lc_len]; exact h')) (hw1.set trivial) hw2)
/-- fewer locals known -/
def lsub : List (Option AV) → List (Option AV) → Prop
  | [], [] => True
  | none :: a, _ :: b => lsub a b
  | some v :: a, w :: b => w = some v ∧ lsub a b
  | _, _ => False
theorem lsub.len : ∀ {a b : List (Option AV)}, lsub a b → a.length = b.length
  | [], [], _ => rfl
  | none :: a, _ :: b, h => by rw [List.length_cons, List.length_cons, lsub.len (a := a) (b := b) h]
  | some v :: a, w :: b, h => by rw [List.length_cons, List.length_cons, lsub.len (a := a) (b := b) h.2]
theorem lsub.get : ∀ {a b : List (Option AV)}, lsub a b → ∀ (k : Nat) (v : AV), a[k]? = some (some v) → b[k]? = some (some v)
  | [], [], _, k, v, h => by simp at h
  | none :: a, w :: b, h, 0, v, e => by simp at e
  | none :: a, w :: b, h, k + 1, v, e => by
    rw [List.getElem?_cons_succ] at e ⊢
    exact lsub.get (a := a) (b := b) h k v e
  | some u :: a, w :: b, h, 0, v, e => by
    rw [List.getElem?_cons_zero] at e ⊢
    cases e
    rw [h.1]
  | some u :: a, w :: b, h, k + 1, v, e => by
    rw [List.getElem?_cons_succ] at e ⊢
    exact lsub.get (a := a) (b := b) h.2 k v e
theorem y_less (ls' : List (Option AV)) (h : lsub ls' ls) (k : Y ρ I O pc ls' st x) : Y ρ I O pc ls st x := by
  obtain ⟨p, l, e, R, s, m, args, below, meth, c, G, S0⟩ := I
  intro S H locs la hS hbs hv hw1 hw2
  refine k S H locs la hS hbs ⟨by rw [lc_len, h.len, ← lc_len]; exact hv.1, hv.2.1, fun j v hj => ?_⟩ (fun i v e => hw1 i v (h.get i v e)) hw2
  unfold lc at hj
  rw [List.getElem?_map] at hj
  cases hjj : ls'[j]? with
  | none => rw [hjj] at hj; cases hj
  | some w =>
    rw [hjj] at hj
    cases w with
    | none => cases hj
    | some u =>
      cases hj
      exact hv.2.2 j _ (lc_get (h.get j u hjj))
theorem y_goto {off : Int} (tgt : Nat) (cx : Cx I own cc nL ret d hs ini) (hd : decode cc pc = .ok (.goto off, 3)) (ht : (pc : Int) + off = (tgt : Int)) (k : Y ρ I O tgt ls st x) : Y ρ I O pc ls st x := by
  obtain ⟨p, l, e, R, s, m, args, below, meth, c, G, S0⟩ := I
  obtain ⟨hx, hb, -⟩ := cx
  intro S H locs la hS hbs hv hw1 hw2
  exact lv_goto hx hb hd ht (k S H locs la hS hbs hv hw1 hw2)
theorem y_if_eq {x1 : Int32} {off : Int} (tgt : Nat) (cx : Cx I own cc nL ret d hs ini) (hd : decode cc pc = .ok (.ifCond .eq off, 3)) (ht : (pc : Int) + off = (tgt : Int)) (kt : x1 = 0 → Y ρ I O tgt ls st x) (kf : ¬ x1 = 0 → Y ρ I O (pc + 3) ls st x) : Y ρ I O pc ls (vI x1 :: st) x := by
  obtain ⟨p, l, e, R, s, m, args, below, meth, c, G, S0⟩ := I
  obtain ⟨hx, hb, -⟩ := cx
  intro S H locs la hS hbs hv hw1 hw2
  exact lv_if_eq hx hb hd ht (fun z => kt z S H locs la hS hbs hv hw1 hw2.2) (fun z => kf z S H locs la hS hbs hv hw1 hw2.2)
theorem y_icmp_eq {x1 y1 : Int32} {off : Int} (tgt : Nat) (cx : Cx I own cc nL ret d hs ini) (hd : decode cc pc = .ok (.if_icmp .eq off, 3)) (ht : (pc : Int) + off = (tgt : Int)) (kt : x1 = y1 → Y ρ I O tgt ls st x) (kf : ¬ x1 = y1 → Y ρ I O (pc + 3) ls st x) : Y ρ I O pc ls (vI y1 :: vI x1 :: st) x := by
  obtain ⟨p, l, e, R, s, m, args, below, meth, c, G, S0⟩ := I
  obtain ⟨hx, hb, -⟩ := cx
  intro S H locs la hS hbs hv hw1 hw2
  exact lv_icmp_eq hx hb hd ht (fun z => kt z S H locs la hS hbs hv hw1 hw2.2.2) (fun z => kf z S H locs la hS hbs hv hw1 hw2.2.2)
theorem y_if_lt {x1 : Int32} {off : Int} (tgt : Nat) (cx : Cx I own cc nL ret d hs ini) (hd : decode cc pc = .ok (.ifCond .lt off, 3)) (ht : (pc : Int) + off = (tgt : Int)) (kt : x1 < 0 → Y ρ I O tgt ls st x) (kf : ¬ x1 < 0 → Y ρ I O (pc + 3) ls st x) : Y ρ I O pc ls (vI x1 :: st) x := by
  obtain ⟨p, l, e, R, s, m, args, below, meth, c, G, S0⟩ := I
  obtain ⟨hx, hb, -⟩ := cx
  intro S H locs la hS hbs hv hw1 hw2
  exact lv_if_lt hx hb hd ht (fun z => kt z S H locs la hS hbs hv hw1 hw2.2) (fun z => kf z S H locs la hS hbs hv hw1 hw2.2)
theorem y_icmp_lt {x1 y1 : Int32} {off : Int} (tgt : Nat) (cx : Cx I own cc nL ret d hs ini) (hd : decode cc pc = .ok (.if_icmp .lt off, 3)) (ht : (pc : Int) + off = (tgt : Int)) (kt : x1 < y1 → Y ρ I O tgt ls st x) (kf : ¬ x1 < y1 → Y ρ I O (pc + 3) ls st x) : Y ρ I O pc ls (vI y1 :: vI x1 :: st) x := by
  obtain ⟨p, l, e, R, s, m, args, below, meth, c, G, S0⟩ := I
  obtain ⟨hx, hb, -⟩ := cx
  intro S H locs la hS hbs hv hw1 hw2
  exact lv_icmp_lt hx hb hd ht (fun z => kt z S H locs la hS hbs hv hw1 hw2.2.2) (fun z => kf z S H locs la hS hbs hv hw1 hw2.2.2)
theorem y_if_ge {x1 : Int32} {off : Int} (tgt : Nat) (cx : Cx I own cc nL ret d hs ini) (hd : decode cc pc = .ok (.ifCond .ge off, 3)) (ht : (pc : Int) + off = (tgt : Int)) (kt : 0 ≤ x1 → Y ρ I O tgt ls st x) (kf : ¬ 0 ≤ x1 → Y ρ I O (pc + 3) ls st x) : Y ρ I O pc ls (vI x1 :: st) x := by
  obtain ⟨p, l, e, R, s, m, args, below, meth, c, G, S0⟩ := I
  obtain ⟨hx, hb, -⟩ := cx
  intro S H locs la hS hbs hv hw1 hw2
  exact lv_if_ge hx hb hd ht (fun z => kt z S H locs la hS hbs hv hw1 hw2.2) (fun z => kf z S H locs la hS hbs hv hw1 hw2.2)
theorem y_icmp_ge {x1 y1 : Int32} {off : Int} (tgt : Nat) (cx : Cx I own cc nL ret d hs ini) (hd : decode cc pc = .ok (.if_icmp .ge off, 3)) (ht : (pc : Int) + off = (tgt : Int)) (kt : y1 ≤ x1 → Y ρ I O tgt ls st x) (kf : ¬ y1 ≤ x1 → Y ρ I O (pc + 3) ls st x) : Y ρ I O pc ls (vI y1 :: vI x1 :: st) x := by
  obtain ⟨p, l, e, R, s, m, args, below, meth, c, G, S0⟩ := I
  obtain ⟨hx, hb, -⟩ := cx
  intro S H locs la hS hbs hv hw1 hw2
  exact lv_icmp_ge hx hb hd ht (fun z => kt z S H locs la hS hbs hv hw1 hw2.2.2) (fun z => kf z S H locs la hS hbs hv hw1 hw2.2.2)
theorem y_if_gt {x1 : Int32} {off : Int} (tgt : Nat) (cx : Cx I own cc nL ret d hs ini) (hd : decode cc pc = .ok (.ifCond .gt off, 3)) (ht : (pc : Int) + off = (tgt : Int)) (kt : 0 < x1 → Y ρ I O tgt ls st x) (kf : ¬ 0 < x1 → Y ρ I O (pc + 3) ls st x) : Y ρ I O pc ls (vI x1 :: st) x := by
  obtain ⟨p, l, e, R, s, m, args, below, meth, c, G, S0⟩ := I
  obtain ⟨hx, hb, -⟩ := cx
  intro S H locs la hS hbs hv hw1 hw2
  exact lv_if_gt hx hb hd ht (fun z => kt z S H locs la hS hbs hv hw1 hw2.2) (fun z => kf z S H locs la hS hbs hv hw1 hw2.2)
theorem y_icmp_gt {x1 y1 : Int32} {off : Int} (tgt : Nat) (cx : Cx I own cc nL ret d hs ini) (hd : decode cc pc = .ok (.if_icmp .gt off, 3)) (ht : (pc : Int) + off = (tgt : Int)) (kt : y1 < x1 → Y ρ I O tgt ls st x) (kf : ¬ y1 < x1 → Y ρ I O (pc + 3) ls st x) : Y ρ I O pc ls (vI y1 :: vI x1 :: st) x := by
  obtain ⟨p, l, e, R, s, m, args, below, meth, c, G, S0⟩ := I
  obtain ⟨hx, hb, -⟩ := cx
  intro S H locs la hS hbs hv hw1 hw2
  exact lv_icmp_gt hx hb hd ht (fun z => kt z S H locs la hS hbs hv hw1 hw2.2.2) (fun z => kf z S H locs la hS hbs hv hw1 hw2.2.2)
theorem y_if_le {x1 : Int32} {off : Int} (tgt : Nat) (cx : Cx I own cc nL ret d hs ini) (hd : decode cc pc = .ok (.ifCond .le off, 3)) (ht : (pc : Int) + off = (tgt : Int)) (kt : x1 ≤ 0 → Y ρ I O tgt ls st x) (kf : ¬ x1 ≤ 0 → Y ρ I O (pc + 3) ls st x) : Y ρ I O pc ls (vI x1 :: st) x := by
  obtain ⟨p, l, e, R, s, m, args, below, meth, c, G, S0⟩ := I
  obtain ⟨hx, hb, -⟩ := cx
  intro S H locs la hS hbs hv hw1 hw2
  exact lv_if_le hx hb hd ht (fun z => kt z S H locs la hS hbs hv hw1 hw2.2) (fun z => kf z S H locs la hS hbs hv hw1 hw2.2)
theorem y_icmp_le {x1 y1 : Int32} {off : Int} (tgt : Nat) (cx : Cx I own cc nL ret d hs ini) (hd : decode cc pc = .ok (.if_icmp .le off, 3)) (ht : (pc : Int) + off = (tgt : Int)) (kt : x1 ≤ y1 → Y ρ I O tgt ls st x) (kf : ¬ x1 ≤ y1 → Y ρ I O (pc + 3) ls st x) : Y ρ I O pc ls (vI y1 :: vI x1 :: st) x := by
  obtain ⟨p, l, e, R, s, m, args, below, meth, c, G, S0⟩ := I
  obtain ⟨hx, hb, -⟩ := cx
  intro S H locs la hS hbs hv hw1 hw2
  exact lv_icmp_le hx hb hd ht (fun z => kt z S H locs la hS hbs hv hw1 hw2.2.2) (fun z => kf z S H locs la hS hbs hv hw1 hw2.2.2)
theorem y_if_ne {x1 : Int32} {off : Int} (tgt : Nat) (cx : Cx I own cc nL ret d hs ini) (hd : decode cc pc = .ok (.ifCond .ne off, 3)) (ht : (pc : Int) + off = (tgt : Int)) (kt : ¬ x1 = 0 → Y ρ I O tgt ls st x) (kf : x1 = 0 → Y ρ I O (pc + 3) ls st x) : Y ρ I O pc ls (vI x1 :: st) x := by
  obtain ⟨p, l, e, R, s, m, args, below, meth, c, G, S0⟩ := I
  obtain ⟨hx, hb, -⟩ := cx
  intro S H locs la hS hbs hv hw1 hw2
  exact lv_if_ne hx hb hd ht (fun z => kt z S H locs la hS hbs hv hw1 hw2.2) (fun z => kf z S H locs la hS hbs hv hw1 hw2.2)
theorem y_icmp_ne {x1 y1 : Int32} {off : Int} (tgt : Nat) (cx : Cx I own cc nL ret d hs ini) (hd : decode cc pc = .ok (.if_icmp .ne off, 3)) (ht : (pc : Int) + off = (tgt : Int)) (kt : ¬ x1 = y1 → Y ρ I O tgt ls st x) (kf : x1 = y1 → Y ρ I O (pc + 3) ls st x) : Y ρ I O pc ls (vI y1 :: vI x1 :: st) x := by
  obtain ⟨p, l, e, R, s, m, args, below, meth, c, G, S0⟩ := I
  obtain ⟨hx, hb, -⟩ := cx
  intro S H locs la hS hbs hv hw1 hw2
  exact lv_icmp_ne hx hb hd ht (fun z => kt z S H locs la hS hbs hv hw1 hw2.2.2) (fun z => kf z S H locs la hS hbs hv hw1 hw2.2.2)
theorem y_ifnull {x1 : Rf} {off : Int} (tgt : Nat) (cx : Cx I own cc nL ret d hs ini) (hd : decode cc pc = .ok (.ifnull off, 3)) (ht : (pc : Int) + off = (tgt : Int)) (kt : x1 = none → Y ρ I O tgt ls st x) (kf : ¬ x1 = none → Y ρ I O (pc + 3) ls st x) : Y ρ I O pc ls (vR x1 :: st) x := by
  obtain ⟨p, l, e, R, s, m, args, below, meth, c, G, S0⟩ := I
  obtain ⟨hx, hb, -⟩ := cx
  intro S H locs la hS hbs hv hw1 hw2
  cases x1 with
  | none => exact lv_ifnullN hx hb hd ht (kt rfl S H locs la hS hbs hv hw1 hw2.2)
  | some a => exact lv_ifnull hx hb hd (kf (fun z => by cases z) S H locs la hS hbs hv hw1 hw2.2)
theorem y_ifnonnull {x1 : Rf} {off : Int} (tgt : Nat) (cx : Cx I own cc nL ret d hs ini) (hd : decode cc pc = .ok (.ifnonnull off, 3)) (ht : (pc : Int) + off = (tgt : Int)) (kt : ¬ x1 = none → Y ρ I O tgt ls st x) (kf : x1 = none → Y ρ I O (pc + 3) ls st x) : Y ρ I O pc ls (vR x1 :: st) x := by
  obtain ⟨p, l, e, R, s, m, args, below, meth, c, G, S0⟩ := I
  obtain ⟨hx, hb, -⟩ := cx
  intro S H locs la hS hbs hv hw1 hw2
  cases x1 with
  | none => exact lv_ifnonnullN hx hb hd (kf rfl S H locs la hS hbs hv hw1 hw2.2)
  | some a => exact lv_ifnonnull hx hb hd ht (kt (fun z => by cases z) S H locs la hS hbs hv hw1 hw2.2)
theorem y_acmp_ne {c1 a1 c2 a2 : Nat} {t1 t2 : List Int32} {off : Int} (tgt : Nat) (cx : Cx I own cc nL ret d hs ini) (hd : decode cc pc = .ok (.if_acmp .ne off, 3)) (ht : (pc : Int) + off = (tgt : Int)) (kt : ¬ a1 = a2 → Y ρ I O tgt ls st x) (kf : a1 = a2 → t1 = t2 → Y ρ I O (pc + 3) ls st x) : Y ρ I O pc ls (vR (some (c2, a2, t2)) :: vR (some (c1, a1, t1)) :: st) x := by
  obtain ⟨p, l, e, R, s, m, args, below, meth, c, G, S0⟩ := I
  obtain ⟨hx, hb, -⟩ := cx
  intro S H locs la hS hbs hv hw1 hw2
  refine lv_acmp_ne (rx := some a1) (ry := some a2) hx hb hd ht (fun z => kt (fun y => z (by rw [y])) S H locs la hS hbs hv hw1 hw2.2.2) (fun z => ?_)
  have z : a1 = a2 := Option.some.inj z
  refine kf z ?_ S H locs la hS hbs hv hw1 hw2.2.2
  subst z
  have e1 : hC S a1 = some (c2, t2) := hw2.1
  have e2 : hC S a1 = some (c1, t1) := hw2.2.1
  rw [e1] at e2
  cases e2
  rfl
/-- a switch, case by case -/
def SW (x : Int32) (K : Nat → Prop) : List (Int32 × Nat) → Nat → Prop
  | [], dt => K dt
  | q :: r, dt => (x = q.1 → K q.2) ∧ (¬ x = q.1 → SW x K r dt)
theorem SW.look {x : Int32} {K : Nat → Prop} {pc dt : Nat} {dflt : Int} (hdt : (pc : Int) + dflt = (dt : Int)) : ∀ (ps : List (Int × Int)) (cs : List (Int32 × Nat)), ps.map (fun q => (q.1, (pc : Int) + q.2)) = cs.map (fun q => (q.1.toInt, (q.2 : Int))) → SW x K cs dt →
    ∃ (off : Int) (tgt : Nat), Op.lookupswitch.offset ps dflt x.toInt = off ∧ (pc : Int) + off = (tgt : Int) ∧ K tgt
  | [], [], _, h => ⟨dflt, dt, rfl, hdt, h⟩
  | [], c :: cs, he, _ => by simp at he
  | q :: ps, [], he, _ => by simp at he
  | q :: ps, c :: cs, he, h => by
    simp only [List.map_cons, List.cons.injEq, Prod.mk.injEq] at he
    obtain ⟨⟨e1, e2⟩, e3⟩ := he
    obtain ⟨qa, qb⟩ := q
    by_cases hx : x = c.1
    · refine ⟨qb, c.2, ?_, e2, h.1 hx⟩
      rw [Op.lookupswitch.offset_cons, if_pos (by rw [hx]; exact e1)]
    · obtain ⟨off, tgt, h1, h2, h3⟩ := SW.look hdt ps cs e3 (h.2 hx)
      refine ⟨off, tgt, ?_, h2, h3⟩
      rw [lv_osw hx e1.symm]
      exact h1
theorem y_lsw {x1 : Int32} {dflt : Int} {ps : Array (Int × Int)} {len : Nat} (cs : List (Int32 × Nat)) (dt : Nat) (cx : Cx I own cc nL ret d hs ini) (hd : decode cc pc = .ok (.lookupswitch dflt ps, len)) (hp : (ps.toList.zip (ps.toList.drop 1)).all (fun (a, next) => a.1 < next.1) = true) (hc : ps.toList.map (fun q => (q.1, (pc : Int) + q.2)) = cs.map (fun q => (q.1.toInt, (q.2 : Int)))) (hdt : (pc : Int) + dflt = (dt : Int))
    (k : SW x1 (fun t => Y ρ I O t ls st x) cs dt) : Y ρ I O pc ls (vI x1 :: st) x := by
  obtain ⟨off, tgt, h1, h2, h3⟩ := SW.look hdt ps.toList cs hc k
  obtain ⟨p, l, e, R, s, m, args, below, meth, c, G, S0⟩ := I
  obtain ⟨hx, hb, -⟩ := cx
  intro S H locs la hS hbs hv hw1 hw2
  exact lv_lookup hx hb hd hp h1 h2 (h3 S H locs la hS hbs hv hw1 hw2.2)
theorem SW.tab {x : Int32} {K : Nat → Prop} {pc dt : Nat} : ∀ (offs : List Int) (lo : Int) (cs : List (Int32 × Nat)), cs.map (fun q => (q.1.toInt, (q.2 : Int))) = offs.mapIdx (fun i o => (lo + (i : Int), (pc : Int) + o)) → SW x K cs dt →
    (∃ (off : Int) (tgt : Nat), lo ≤ x.toInt ∧ offs[(x.toInt - lo).toNat]? = some off ∧ (pc : Int) + off = (tgt : Int) ∧ K tgt) ∨ ((x.toInt < lo ∨ lo + offs.length ≤ x.toInt) ∧ K dt)
  | [], lo, [], _, h => Or.inr ⟨by simp; omega, h⟩
  | [], lo, c :: cs, he, _ => by simp at he
  | o :: offs, lo, [], he, _ => by simp at he
  | o :: offs, lo, c :: cs, he, h => by
    rw [List.mapIdx_cons] at he
    simp only [List.map_cons, List.cons.injEq, Prod.mk.injEq] at he
    obtain ⟨⟨e1, e2⟩, e3⟩ := he
    by_cases hx : x = c.1
    · refine Or.inl ⟨o, c.2, by rw [hx, e1]; simp, ?_, e2.symm, h.1 hx⟩
      have : (x.toInt - lo).toNat = 0 := by rw [hx, e1]; simp
      rw [this]; rfl
    · have hne : x.toInt ≠ lo := fun z => hx (Int32.toInt_inj.mp (by rw [z, e1]; simp))
      rcases SW.tab offs (lo + 1) cs (by rw [e3]; congr 1; funext i o; congr 1; omega) (h.2 hx) with ⟨off, tgt, a0, a1, a2, a3⟩ | ⟨a1, a2⟩
      · refine Or.inl ⟨off, tgt, by omega, ?_, a2, a3⟩
        have : (x.toInt - lo).toNat = (x.toInt - (lo + 1)).toNat + 1 := by omega
        rw [this, List.getElem?_cons_succ]
        exact a1
      · refine Or.inr ⟨?_, a2⟩
        rw [List.length_cons]
        omega
theorem y_tsw {x1 : Int32} {dflt lo hi : Int} {offs : Array Int} {len : Nat} (cs : List (Int32 × Nat)) (dt : Nat) (cx : Cx I own cc nL ret d hs ini) (hd : decode cc pc = .ok (.tableswitch dflt lo hi offs, len)) (hc : cs.map (fun q => (q.1.toInt, (q.2 : Int))) = offs.toList.mapIdx (fun i o => (lo + (i : Int), (pc : Int) + o))) (hh : lo + offs.toList.length = hi + 1) (hdt : (pc : Int) + dflt = (dt : Int))
    (k : SW x1 (fun t => Y ρ I O t ls st x) cs dt) : Y ρ I O pc ls (vI x1 :: st) x := by
  rcases SW.tab offs.toList lo cs hc k with ⟨off, tgt, a0, a1, a2, a3⟩ | ⟨a1, a2⟩
  · have hlt : (x1.toInt - lo).toNat < offs.toList.length := (List.getElem?_eq_some_iff.mp a1).1
    obtain ⟨p, l, e, R, s, m, args, below, meth, c, G, S0⟩ := I
    obtain ⟨hx, hb, -⟩ := cx
    intro S H locs la hS hbs hv hw1 hw2
    exact lv_tableIn hx hb hd (by omega) (by omega) (by rw [← Array.getElem?_toList]; exact a1) a2 (a3 S H locs la hS hbs hv hw1 hw2.2)
  · obtain ⟨p, l, e, R, s, m, args, below, meth, c, G, S0⟩ := I
    obtain ⟨hx, hb, -⟩ := cx
    intro S H locs la hS hbs hv hw1 hw2
    exact lv_tableOut hx hb hd (by omega) hdt (a2 S H locs la hS hbs hv hw1 hw2.2)
theorem y_iret {v : Int32} (cx : Cx I own cc nL (some .int) d hs ini) (hd : decode cc pc = .ok (.ireturn, 1)) (k : O (.inl (some (vI v))) x) : Y ρ I O pc ls [vI v] x := by
  obtain ⟨p, l, e, R, s, m, args, below, meth, c, G, S0⟩ := I
  obtain ⟨hx, hb, -, -, -, -, hrt, hlk, -⟩ := cx
  intro S H locs la hS hbs hv hw1 hw2
  refine W.Qmono ?_ (W.iret (Qc := fun _ _ o t => t.heap = H ∧ o = .returned (some (.int v))) (free := fun q => gz G ≤ q) hx hb hrt (fun t ht _ => ⟨ht, rfl⟩) hbs.2.1 hd hlk)
  rintro t ⟨o, a1, a2, ⟨a3, a4⟩, L, ⟨-, a5, a6⟩, a7⟩
  exact ⟨o, a1, a2, a5, S, x, L, .inl (some (vI v)), a6, ⟨by rw [a3]; exact hbs.1, a7, hbs.2.2⟩, hS, a4, trivial, k⟩
theorem y_zret {v : Int32} {ty : FieldType} (cx : Cx I own cc nL (some ty) d hs ini) (hn : narrow ty (.int v) = .int v) (hd : decode cc pc = .ok (.ireturn, 1)) (k : O (.inl (some (vI v))) x) : Y ρ I O pc ls [vI v] x := by
  obtain ⟨p, l, e, R, s, m, args, below, meth, c, G, S0⟩ := I
  obtain ⟨hx, hb, -, -, -, -, hrt, hlk, -⟩ := cx
  intro S H locs la hS hbs hv hw1 hw2
  refine W.Qmono ?_ (W.zret (Qc := fun _ _ o t => t.heap = H ∧ o = .returned (some (.int v))) (free := fun q => gz G ≤ q) hx hb hrt hn (fun t ht _ => ⟨ht, rfl⟩) hbs.2.1 hd hlk)
  rintro t ⟨o, a1, a2, ⟨a3, a4⟩, L, ⟨-, a5, a6⟩, a7⟩
  exact ⟨o, a1, a2, a5, S, x, L, .inl (some (vI v)), a6, ⟨by rw [a3]; exact hbs.1, a7, hbs.2.2⟩, hS, a4, trivial, k⟩
theorem y_lret {v : Int64} (cx : Cx I own cc nL (some .long) d hs ini) (hd : decode cc pc = .ok (.lreturn, 1)) (k : O (.inl (some (vL v))) x) : Y ρ I O pc ls [vL v] x := by
  obtain ⟨p, l, e, R, s, m, args, below, meth, c, G, S0⟩ := I
  obtain ⟨hx, hb, -, -, -, -, hrt, hlk, -⟩ := cx
  intro S H locs la hS hbs hv hw1 hw2
  refine W.Qmono ?_ (W.lret (Qc := fun _ _ o t => t.heap = H ∧ o = .returned (some (.long v))) (free := fun q => gz G ≤ q) hx hb hrt (fun t ht _ => ⟨ht, rfl⟩) hbs.2.1 hd hlk)
  rintro t ⟨o, a1, a2, ⟨a3, a4⟩, L, ⟨-, a5, a6⟩, a7⟩
  exact ⟨o, a1, a2, a5, S, x, L, .inl (some (vL v)), a6, ⟨by rw [a3]; exact hbs.1, a7, hbs.2.2⟩, hS, a4, trivial, k⟩
theorem y_vret (cx : Cx I own cc nL none d hs ini) (hd : decode cc pc = .ok (.return_, 1)) (k : O (.inl none) x) : Y ρ I O pc ls [] x := by
  obtain ⟨p, l, e, R, s, m, args, below, meth, c, G, S0⟩ := I
  obtain ⟨hx, hb, -, -, -, -, hrt, hlk, -⟩ := cx
  intro S H locs la hS hbs hv hw1 hw2
  refine W.Qmono ?_ (W.vret (Qc := fun _ _ o t => t.heap = H ∧ o = .returned none) (free := fun q => gz G ≤ q) hx hb hrt (fun t ht _ => ⟨ht, rfl⟩) hbs.2.1 hd hlk)
  rintro t ⟨o, a1, a2, ⟨a3, a4⟩, L, ⟨-, a5, a6⟩, a7⟩
  exact ⟨o, a1, a2, a5, S, x, L, .inl none, a6, ⟨by rw [a3]; exact hbs.1, a7, hbs.2.2⟩, hS, a4, trivial, k⟩
theorem y_aret {r : Rf} {rt : FieldType} (cx : Cx I own cc nL (some rt) d hs ini) (hn : (∃ n, rt = .object n) ∨ ∃ t, rt = .array t) (hd : decode cc pc = .ok (.areturn, 1)) (k : O (.inl (some (vR r))) x) : Y ρ I O pc ls [vR r] x := by
  obtain ⟨p, l, e, R, s, m, args, below, meth, c, G, S0⟩ := I
  obtain ⟨hx, hb, -, -, -, -, hrt, hlk, -⟩ := cx
  intro S H locs la hS hbs hv hw1 hw2
  refine W.Qmono ?_ (W.aret (Qc := fun _ _ o t => t.heap = H ∧ o = .returned (some (cr r))) (free := fun q => gz G ≤ q) hx hb hrt hn (by cases r with | none => exact Or.inl rfl | some a => exact Or.inr ⟨_, rfl⟩) (fun t ht _ => ⟨ht, rfl⟩) hbs.2.1 hd hlk)
  rintro t ⟨o, a1, a2, ⟨a3, a4⟩, L, ⟨-, a5, a6⟩, a7⟩
  exact ⟨o, a1, a2, a5, S, x, L, .inl (some (vR r)), a6, ⟨by rw [a3]; exact hbs.1, a7, hbs.2.2⟩, hS, a4, hw2.1, k⟩
end YR

set_option maxRecDepth 100000
theorem pdI : parseFieldDescriptor "I" = some .int := by decide +kernel
theorem pdZ : parseFieldDescriptor "Z" = some .boolean := by decide +kernel
theorem pdB : parseFieldDescriptor "B" = some .byte := by decide +kernel
theorem pdJ : parseFieldDescriptor "J" = some .long := by decide +kernel
section YNM
variable {σ : Type} {ρ : σ → HS → Prop} {I : Iv} {own : String} {cc : ByteArray} {nL : Nat} {ret : Option FieldType} {d : Nat} {hs : List (Nat × Nat × Nat × Nat)} {ini : Bool} {O : OA → σ → Prop} {pc : Nat} {ls : List (Option AV)} {st : List AV} {x : σ}
theorem y_nmI {e : Int32} (k : ∀ v, v = e → Y ρ I O pc ls (vI v :: st) x) : Y ρ I O pc ls (vI e :: st) x := k e rfl
theorem y_nmL {e : Int64} (k : ∀ v, v = e → Y ρ I O pc ls (vL v :: st) x) : Y ρ I O pc ls (vL e :: st) x := k e rfl
theorem y_nmS (k : ∀ z, z = x → Y ρ I O pc ls st z) : Y ρ I O pc ls st x := k x rfl
theorem y_iincN {x1 v : Int32} {n : Int} (i : Nat) (ls' : Int32 → List (Option AV)) (cx : Cx I own cc nL ret d hs ini) (hd : decode cc pc = .ok (.iinc i n, 3)) (hg : ls[i]? = some (some (vI x1))) (hn : Int32.ofInt n = v) (hp : oka ls i) (hls : ∀ w, ls.set i (some (vI w)) = ls' w) (k : ∀ w, w = x1 + v → Y ρ I O (pc + 3) (ls' w) st x) : Y ρ I O pc ls st x :=
  y_iinc i (ls' (x1 + v)) cx hd hg hn hp (hls _) (k _ rfl)
end YNM

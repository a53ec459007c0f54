set_option maxRecDepth 100000
def oI {σ : Type} (N : Int32 → σ → Prop) (X : Nat → σ → Prop) : OA → σ → Prop := fun o x => match o with
  | .inl (some (.inl r)) => N r x
  | .inr a => X a x
  | _ => False
def oL {σ : Type} (N : Int64 → σ → Prop) (X : Nat → σ → Prop) : OA → σ → Prop := fun o x => match o with
  | .inl (some (.inr (.inl r))) => N r x
  | .inr a => X a x
  | _ => False
def oR {σ : Type} (N : Rf → σ → Prop) (X : Nat → σ → Prop) : OA → σ → Prop := fun o x => match o with
  | .inl (some (.inr (.inr r))) => N r x
  | .inr a => X a x
  | _ => False
def oV {σ : Type} (N : σ → Prop) (X : Nat → σ → Prop) : OA → σ → Prop := fun o x => match o with
  | .inl none => N x
  | .inr a => X a x
  | _ => False
/-- the instruction at pc links to y, with these arguments on the stack -/
def LinkY : Iv → Nat → List AV → List AV → MethodName → Prop
  | (p, l, e, R, s, m, args, below, meth, c, G, S0), pc, As, rest, y =>
    ∀ (S : HS) (H : Heap) (locs : List Loc) (la : Array Slot) (T : State) (cells slots : Nat), Bs G S0 S H locs → lvS S As → T.heap = H → Stand p l e R s m args below meth c T locs cells slots →
      Lk p l e R s m args below meth c T locs cells slots (F0 m pc la ((As.reverse ++ rest).map cv)) (rest.map cv) y (As.map cv).toArray
theorem lvS_app {S : HS} : ∀ {a b : List AV}, lvS S (a ++ b) ↔ lvS S a ∧ lvS S b
  | [], b => ⟨fun h => ⟨trivial, h⟩, fun h => h.2⟩
  | v :: a, b => by
    show lv S v ∧ lvS S (a ++ b) ↔ (lv S v ∧ lvS S a) ∧ lvS S b
    rw [lvS_app (a := a)]
    exact ⟨fun h => ⟨⟨h.1, h.2.1⟩, h.2.2⟩, fun h => ⟨h.1.1, h.1.2, h.2⟩⟩
theorem lvS_rev {S : HS} : ∀ {a : List AV}, lvS S a.reverse ↔ lvS S a
  | [] => Iff.rfl
  | v :: a => by
    rw [List.reverse_cons, lvS_app, lvS_rev (a := a)]
    exact ⟨fun h => ⟨h.2.1, h.1⟩, fun h => ⟨h.2, h.1, trivial⟩⟩
section YK
variable {I : Iv} {own : String} {cc : ByteArray} {nL : Nat} {ret : Option FieldType} {d : Nat} {ini : Bool} {pc : Nat} {ls : List (Option AV)} {st : List AV}
/-- a call by contract; callee and caller may speak of the state in words of their own -/
theorem y_call {σ σ' : Type} {ρ : σ → HS → Prop} {ρ' : σ' → HS → Prop} {O : OA → σ → Prop} {O' : OA → σ' → Prop} {x : σ} {x0 : σ'} {y : MethodName} {bytes : ByteArray} {maxL d' : Nat} {rt : Option FieldType} {ws : List Cond} {stk : List AV} (As rest : List AV) (cx : Cx I own cc nL ret (d + 1) [] ini) (hst : stk = As.reverse ++ rest) (hlen : ls.length = nL)
    (hM : ∀ l G, Ct ρ' l y ws d' G As x0 O') (hws : GoodIn lw_all ws) (hdd : d' ≤ d) (hcode : Cond.code y bytes maxL rt ∈ lw_all ∨ ∃ hh, Cond.codeWith y bytes maxL rt hh ∈ lw_all) (hini : Cond.initialized y.cls ∈ lw_all) (hlk : LinkY I pc As rest y) (hW : (rest.map catA).sum + (maxL + 11) ≤ 64)
    (hin : ∀ S, ρ x S → ρ' x0 S) (kr : ∀ (v : Option AV) (x' : σ') (S' : HS), ρ' x' S' → O' (.inl v) x' → ∃ z, ρ z S' ∧ Y ρ I O (pc + 3) ls (v.toList ++ rest) z) (kx : ∀ (a : Nat) (x' : σ') (S' : HS), ρ' x' S' → O' (.inr a) x' → ∃ z, ρ z S' ∧ O (.inr a) z) : Y ρ I O pc ls stk x := by
  subst hst
  obtain ⟨p, l, e, R, s, m, args, below, meth, c0, G, S0⟩ := I
  obtain ⟨hx, hb, hml, hown, hts, hE, -, hlk0, hR0, hht, -, hl0, -⟩ := cx
  intro S H locs la hS hbs hv hw1 hw2
  subst hR0
  obtain ⟨hA, hR⟩ := lvS_app.mp hw2
  have hA := lvS_rev.mp hA
  intro T hT X
  refine w_call (d := d) X hT hbs hE hts (hin S hS) hA (hM l G) hl0 hws hdd hcode hini (hlk S H locs la T _ _ hbs hA hT X) (by rw [hml, ← hlen, ← lc_len]; exact hv.1) hW ?_ ?_
  · intro S' x' v T' locs' hx' hbs' hm hlv hO X'
    obtain ⟨z, hz, k⟩ := kr v x' S' hx' hO
    have := k S' T'.heap locs' la hz hbs' hv (hw1.mono hm) (lvS_app.mpr ⟨by cases v with | none => trivial | some w => exact ⟨hlv, trivial⟩, lvS.mono hm hR⟩) T' rfl X'
    rw [List.map_append] at this
    cases v with
    | none => exact this
    | some w => exact this
  · intro S' x' a T' locs' hx' hbs' hm hC5 hO X'
    obtain ⟨z, hz, hO2⟩ := kx a x' S' hx' hO
    obtain ⟨a1, a2, a3, a4, a5⟩ := X'.leaveThrown a (g := F0 m pc la (rest.map cv)) rfl rfl rfl (by rw [hht]; intro q hq; cases hq) hlk0
    exact ⟨_, a1, _, a2, a3, a4, S', z, locs', .inr a, a5, hbs', hz, rfl, hC5, hO2⟩
/-- calls by what comes back, caller and callee in the same words -/
theorem y_callI {σ : Type} {ρ : σ → HS → Prop} {O : OA → σ → Prop} {x : σ} {N : Int32 → σ → Prop} {X : Nat → σ → Prop} {y : MethodName} {bytes : ByteArray} {maxL d' : Nat} {rt : Option FieldType} {ws : List Cond} {stk : List AV} (As rest : List AV) (cx : Cx I own cc nL ret (d + 1) [] ini) (hst : stk = As.reverse ++ rest) (hlen : ls.length = nL)
    (hM : ∀ l G, Ct ρ l y ws d' G As x (oI N X)) (hws : GoodIn lw_all ws) (hdd : d' ≤ d) (hcode : Cond.code y bytes maxL rt ∈ lw_all ∨ ∃ hh, Cond.codeWith y bytes maxL rt hh ∈ lw_all) (hini : Cond.initialized y.cls ∈ lw_all) (hlk : LinkY I pc As rest y) (hW : (rest.map catA).sum + (maxL + 11) ≤ 64)
    (kr : ∀ (r : Int32) (x' : σ), N r x' → Y ρ I O (pc + 3) ls (vI r :: rest) x') (kx : ∀ (a : Nat) (x' : σ), X a x' → O (.inr a) x') : Y ρ I O pc ls stk x :=
  y_call As rest cx hst hlen hM hws hdd hcode hini hlk hW (fun _ h => h) (fun v x' S' hz hO => match v, hO with | some (.inl r), hO => ⟨x', hz, kr r x' hO⟩) (fun a x' S' hz hO => ⟨x', hz, kx a x' hO⟩)
theorem y_callL {σ : Type} {ρ : σ → HS → Prop} {O : OA → σ → Prop} {x : σ} {N : Int64 → σ → Prop} {X : Nat → σ → Prop} {y : MethodName} {bytes : ByteArray} {maxL d' : Nat} {rt : Option FieldType} {ws : List Cond} {stk : List AV} (As rest : List AV) (cx : Cx I own cc nL ret (d + 1) [] ini) (hst : stk = As.reverse ++ rest) (hlen : ls.length = nL)
    (hM : ∀ l G, Ct ρ l y ws d' G As x (oL N X)) (hws : GoodIn lw_all ws) (hdd : d' ≤ d) (hcode : Cond.code y bytes maxL rt ∈ lw_all ∨ ∃ hh, Cond.codeWith y bytes maxL rt hh ∈ lw_all) (hini : Cond.initialized y.cls ∈ lw_all) (hlk : LinkY I pc As rest y) (hW : (rest.map catA).sum + (maxL + 11) ≤ 64)
    (kr : ∀ (r : Int64) (x' : σ), N r x' → Y ρ I O (pc + 3) ls (vL r :: rest) x') (kx : ∀ (a : Nat) (x' : σ), X a x' → O (.inr a) x') : Y ρ I O pc ls stk x :=
  y_call As rest cx hst hlen hM hws hdd hcode hini hlk hW (fun _ h => h) (fun v x' S' hz hO => match v, hO with | some (.inr (.inl r)), hO => ⟨x', hz, kr r x' hO⟩) (fun a x' S' hz hO => ⟨x', hz, kx a x' hO⟩)
theorem y_callR {σ : Type} {ρ : σ → HS → Prop} {O : OA → σ → Prop} {x : σ} {N : Rf → σ → Prop} {X : Nat → σ → Prop} {y : MethodName} {bytes : ByteArray} {maxL d' : Nat} {rt : Option FieldType} {ws : List Cond} {stk : List AV} (As rest : List AV) (cx : Cx I own cc nL ret (d + 1) [] ini) (hst : stk = As.reverse ++ rest) (hlen : ls.length = nL)
    (hM : ∀ l G, Ct ρ l y ws d' G As x (oR N X)) (hws : GoodIn lw_all ws) (hdd : d' ≤ d) (hcode : Cond.code y bytes maxL rt ∈ lw_all ∨ ∃ hh, Cond.codeWith y bytes maxL rt hh ∈ lw_all) (hini : Cond.initialized y.cls ∈ lw_all) (hlk : LinkY I pc As rest y) (hW : (rest.map catA).sum + (maxL + 11) ≤ 64)
    (kr : ∀ (r : Rf) (x' : σ), N r x' → Y ρ I O (pc + 3) ls (vR r :: rest) x') (kx : ∀ (a : Nat) (x' : σ), X a x' → O (.inr a) x') : Y ρ I O pc ls stk x :=
  y_call As rest cx hst hlen hM hws hdd hcode hini hlk hW (fun _ h => h) (fun v x' S' hz hO => match v, hO with | some (.inr (.inr r)), hO => ⟨x', hz, kr r x' hO⟩) (fun a x' S' hz hO => ⟨x', hz, kx a x' hO⟩)
theorem y_callV {σ : Type} {ρ : σ → HS → Prop} {O : OA → σ → Prop} {x : σ} {N : σ → Prop} {X : Nat → σ → Prop} {y : MethodName} {bytes : ByteArray} {maxL d' : Nat} {rt : Option FieldType} {ws : List Cond} {stk : List AV} (As rest : List AV) (cx : Cx I own cc nL ret (d + 1) [] ini) (hst : stk = As.reverse ++ rest) (hlen : ls.length = nL)
    (hM : ∀ l G, Ct ρ l y ws d' G As x (oV N X)) (hws : GoodIn lw_all ws) (hdd : d' ≤ d) (hcode : Cond.code y bytes maxL rt ∈ lw_all ∨ ∃ hh, Cond.codeWith y bytes maxL rt hh ∈ lw_all) (hini : Cond.initialized y.cls ∈ lw_all) (hlk : LinkY I pc As rest y) (hW : (rest.map catA).sum + (maxL + 11) ≤ 64)
    (kr : ∀ (x' : σ), N x' → Y ρ I O (pc + 3) ls rest x') (kx : ∀ (a : Nat) (x' : σ), X a x' → O (.inr a) x') : Y ρ I O pc ls stk x :=
  y_call As rest cx hst hlen hM hws hdd hcode hini hlk hW (fun _ h => h) (fun v x' S' hz hO => match v, hO with | none, hO => ⟨x', hz, kr x' hO⟩) (fun a x' S' hz hO => ⟨x', hz, kx a x' hO⟩)
/-- the receiver's class -/
def rcv (c : Nat) (C : String) : Prop := (ob c = true ∧ C = cn (ck c)) ∨ ((c = 14 ∨ c = 16) ∧ C = "java/lang/String") ∨ (c = 5 ∧ C = "ClassFileReader$Malformed")
theorem rcv.cell {G : GT} {S0 S : HS} {H : Heap} {locs : List Loc} {s : State} {c a : Nat} {t : List Int32} {C : String} (h : rcv c C) (hE : EnvT G s) (hbs : Bs G S0 S H locs) (hca : hC S a = some (c, t)) : ∃ cell : Cell, H[a]? = some cell ∧ cell.vm.isStatics = false ∧ s.vm.findClass C = some cell.cls := by
  rcases h with ⟨hob, rfl⟩ | ⟨h | h, rfl⟩ | ⟨h, rfl⟩
  · obtain ⟨cell, h1, h2, h3, h4⟩ := y_recv hE hbs hob hca
    exact ⟨cell, h1, h2, h4⟩
  · subst h
    rcases hbs.1.kc hca with ⟨h1, -⟩ | ⟨h1, -⟩ | ⟨-, -, v, x, z, hat, -⟩ | ⟨h1, -⟩ | ⟨h1, -⟩ | ⟨h1, -⟩
    · cases h1
    · cases h1
    · obtain ⟨r, h1, cell, q1, q2, q3, -⟩ := hat
      exact ⟨cell, q1, by rw [q3]; rfl, by rw [q2]; exact (hE.1.1 14 _ rfl).2.1⟩
    · cases h1
    · cases h1
    · cases h1
  · subst h
    rcases hbs.1.kc hca with ⟨h1, -⟩ | ⟨h1, -⟩ | ⟨h1, -⟩ | ⟨h1, -⟩ | ⟨-, j, hj, rfl, -⟩ | ⟨h1, -⟩
    · cases h1
    · cases h1
    · cases h1
    · cases h1
    · obtain ⟨cell, k1, k2, k3, k4⟩ := (hE.2.2.1 j hj).1
      refine ⟨cell, ?_, k2, k3⟩
      rw [hbs.1.2.2.1 _ (Nat.not_le.mp k4)]
      exact k1
    · cases h1
  · subst h
    rcases hbs.1.kc hca with ⟨h1, -⟩ | ⟨-, -, -, -, w, -, -, hat⟩ | ⟨h1, -⟩ | ⟨h1, -⟩ | ⟨h1, -⟩ | ⟨h1, -⟩
    · cases h1
    · obtain ⟨r, h1, cell, q1, q2, q3, -⟩ := hat
      exact ⟨cell, q1, by rw [q3]; rfl, by rw [q2]; exact (hE.1.1 5 _ rfl).2.1⟩
    · cases h1
    · cases h1
    · cases h1
    · cases h1
theorem rev_stk (v : AV) (As rest : List AV) : ((v :: As).reverse ++ rest).map cv = (As.map cv).reverse ++ cv v :: rest.map cv := by
  rw [List.reverse_cons, List.append_assoc, List.map_append, List.map_reverse]
  rfl
def MLK (own : String) (idx : Nat) (y : MethodName) : Prop := Cond.methodLink own idx y ∈ lw_all ∨ ∃ host, Cond.methodLinkNest own idx y host ∈ lw_tbl
theorem MLK.use {G : GT} {own : String} {idx : Nat} {y : MethodName} {args : Array Value} {s : State} (h : MLK own idx y) (hts : ∀ w ∈ lw_all, w.before args s = true) (hE : EnvT G s) : (Cond.methodLink own idx y).before args s = true ∨ ∃ host, (Cond.methodLinkNest own idx y host).before args s = true := by
  rcases h with h | ⟨host, h⟩
  · exact Or.inl (hts _ h)
  · exact Or.inr ⟨host, va_Nw.use rfl (hE.2.1 _ h rfl)⟩
theorem par_len {y : MethodName} {n : Nat} (h : (parseMethodDescriptor y.desc).map (fun d => d.parameters.length) = some n) {As : List AV} (hn : As.length = n) : ∀ sig, parseMethodDescriptor y.desc = some sig → (As.map cv).length = sig.parameters.length := by
  intro sig hs
  rw [hs] at h
  rw [List.length_map, hn]
  exact (Option.some.inj h).symm
theorem link_V {c a idx n maxL : Nat} {t : List Int32} {As rest : List AV} {hs : List (Nat × Nat × Nat × Nat)} {y : MethodName} {bytes : ByteArray} {rt : Option FieldType} {C : String} (cx : Cx I own cc nL ret d hs ini) (hrc : rcv c C) (hl : MLK own idx y) (hi : Cond.instanceMethod y ∈ lw_all) (hsel : Cond.selects C y y ∈ lw_all) (hcd : Cond.code y bytes maxL rt ∈ lw_all)
    (hd : y.cls ≠ "java/lang/invoke/MethodHandle" ∧ y.cls ≠ "java/lang/invoke/VarHandle" ∧ (parseMethodDescriptor y.desc).map (fun d => d.parameters.length) = some n) (hn : As.length = n) (hdg : decode cc pc = .ok (.invokevirtual idx, 3)) : LinkY I pc (vR (some (c, a, t)) :: As) rest y := by
  obtain ⟨p, l, e, R, s, m, args, below, meth, c0, G, S0⟩ := I
  obtain ⟨hx, hb, hml, hown, hts, hE, -⟩ := cx
  intro S H locs la T cells slots hbs hA hT X
  obtain ⟨cell, h1, h2, h3⟩ := hrc.cell hE hbs hA.1
  exact lk_V X hx hown (hl.use hts hE) (hts _ hi) (hts _ hsel) (hts _ hcd) ⟨hd.1, hd.2.1⟩ (by rw [hT]; exact h1) h2 h3 (g := F0 m pc la _) rfl (argsL := As.map cv) (par_len hd.2.2 hn) (rev_stk _ As rest) (by rw [hb]; exact hdg)
theorem link_VU {c a idx n : Nat} {t : List Int32} {As rest : List AV} {hs : List (Nat × Nat × Nat × Nat)} {x y : MethodName} {owner : String} {C : String} (cx : Cx I own cc nL ret d hs ini) (hrc : rcv c C) (hl : Cond.methodLink own idx x ∈ lw_all) (hsm : Cond.sameMethod x.cls owner x.name x.desc ∈ lw_all) (hde : Cond.declares ⟨owner, x.name, x.desc⟩ ∈ lw_tbl ∨ ∃ b m r, Cond.instanceMethod ⟨owner, x.name, x.desc⟩ ∈ lw_all ∧ Cond.code ⟨owner, x.name, x.desc⟩ b m r ∈ lw_all) (hi : Cond.instanceMethod y ∈ lw_all) (hsel : Cond.selects C x y ∈ lw_all)
    (hd : owner ≠ "java/lang/invoke/MethodHandle" ∧ owner ≠ "java/lang/invoke/VarHandle" ∧ (parseMethodDescriptor x.desc).map (fun d => d.parameters.length) = some n) (hn : As.length = n) (hdg : decode cc pc = .ok (.invokevirtual idx, 3)) : LinkY I pc (vR (some (c, a, t)) :: As) rest y := by
  obtain ⟨p, l, e, R, s, m, args, below, meth, c0, G, S0⟩ := I
  obtain ⟨hx, hb, hml, hown, hts, hE, -⟩ := cx
  intro S H locs la T cells slots hbs hA hT X
  obtain ⟨cell, h1, h2, h3⟩ := hrc.cell hE hbs hA.1
  have hdec : va_Decl s ⟨owner, x.name, x.desc⟩ := by
    rcases hde with h | ⟨b, mm, r, h, h'⟩
    · exact va_Decl.abs (hE.2.1 _ h rfl)
    · exact va_Decl.of (hts _ h) (hts _ h')
  exact lk_VU X hx hown (hts _ hl) (hts _ hsm) hdec ⟨hd.1, hd.2.1⟩ (hts _ hsel) (hts _ hi) (by rw [hT]; exact h1) h2 h3 (g := F0 m pc la _) rfl (argsL := As.map cv) (par_len hd.2.2 hn) (rev_stk _ As rest) (by rw [hb]; exact hdg)
theorem link_S {idx n maxL : Nat} {As rest : List AV} {hs : List (Nat × Nat × Nat × Nat)} {y : MethodName} {bytes : ByteArray} {rt : Option FieldType} (cx : Cx I own cc nL ret d hs ini) (hl : MLK own idx y) (hi : Cond.static y ∈ lw_all) (hin : Cond.initialized y.cls ∈ lw_all) (hcd : Cond.code y bytes maxL rt ∈ lw_all)
    (hd : y.cls ≠ "java/lang/invoke/MethodHandle" ∧ y.cls ≠ "java/lang/invoke/VarHandle" ∧ (parseMethodDescriptor y.desc).map (fun d => d.parameters.length) = some n) (hn : As.length = n) (hdg : decode cc pc = .ok (.invokestatic idx, 3)) : LinkY I pc As rest y := by
  obtain ⟨p, l, e, R, s, m, args, below, meth, c0, G, S0⟩ := I
  obtain ⟨hx, hb, hml, hown, hts, hE, -⟩ := cx
  intro S H locs la T cells slots hbs hA hT X
  exact lk_S X hx hown (hl.use hts hE) (hts _ hi) (hts _ hin) (hts _ hcd) ⟨hd.1, hd.2.1⟩ (g := F0 m pc la _) rfl (argsL := As.map cv) (rest := rest.map cv) (par_len hd.2.2 hn) (by show List.map cv (As.reverse ++ rest) = _; rw [List.map_append, List.map_reverse]) (by rw [hb]; exact hdg)
theorem link_I {c a idx n maxL : Nat} {t : List Int32} {As rest : List AV} {hs : List (Nat × Nat × Nat × Nat)} {y : MethodName} {bytes : ByteArray} (cx : Cx I own cc nL ret d hs ini) (hy1 : y.name = "<init>") (hl : MLK own idx y) (hi : Cond.instanceMethod y ∈ lw_all) (hcd : Cond.code y bytes maxL none ∈ lw_all)
    (hd : y.cls ≠ "java/lang/invoke/MethodHandle" ∧ y.cls ≠ "java/lang/invoke/VarHandle" ∧ (parseMethodDescriptor y.desc).map (fun d => d.parameters.length) = some n) (hn : As.length = n) (hdg : decode cc pc = .ok (.invokespecial idx, 3)) : LinkY I pc (vR (some (c, a, t)) :: As) rest y := by
  obtain ⟨p, l, e, R, s, m, args, below, meth, c0, G, S0⟩ := I
  obtain ⟨hx, hb, hml, hown, hts, hE, -⟩ := cx
  intro S H locs la T cells slots hbs hA hT X
  exact lk_I X hx hown hy1 (hl.use hts hE) (hts _ hi) (hts _ hcd) ⟨hd.1, hd.2.1⟩ (g := F0 m pc la _) rfl (a := a) (argsL := As.map cv) (par_len hd.2.2 hn) (rev_stk _ As rest) (by rw [hb]; exact hdg)
theorem link_SU {c a idx n maxL : Nat} {t : List Int32} {As rest : List AV} {hs : List (Nat × Nat × Nat × Nat)} {y : MethodName} {bytes : ByteArray} {rt : Option FieldType} {sup C : String} (cx : Cx I own cc nL ret d hs ini) (hrc : rcv c C) (hl : Cond.methodLink own idx ⟨sup, y.name, y.desc⟩ ∈ lw_all) (hsm : Cond.sameMethod sup y.cls y.name y.desc ∈ lw_all) (hsup : Cond.superclass own sup ∈ lw_all) (hup : sup = y.cls ∨ Cond.superclass sup y.cls ∈ lw_all) (hi : Cond.instanceMethod y ∈ lw_all) (hcd : Cond.code y bytes maxL rt ∈ lw_all) (hno : y.name ≠ "<init>")
    (hd : y.cls ≠ "java/lang/invoke/MethodHandle" ∧ y.cls ≠ "java/lang/invoke/VarHandle" ∧ (parseMethodDescriptor y.desc).map (fun d => d.parameters.length) = some n) (hn : As.length = n) (hdg : decode cc pc = .ok (.invokespecial idx, 3)) : LinkY I pc (vR (some (c, a, t)) :: As) rest y := by
  obtain ⟨p, l, e, R, s, m, args, below, meth, c0, G, S0⟩ := I
  obtain ⟨hx, hb, hml, hown, hts, hE, -⟩ := cx
  intro S H locs la T cells slots hbs hA hT X
  obtain ⟨cell, h1, h2, h3⟩ := hrc.cell hE hbs hA.1
  obtain ⟨kB, hkB, -⟩ := Vm.findClass_spec h3
  refine lk_SU X hx hown (hts _ hl) (hts _ hsm) (hts _ hsup) (fun cS cY e1 e2 => ?_) (hts _ hi) (hts _ hcd) hno (by rw [hT]; exact h1) h2 hkB (g := F0 m pc la _) rfl (argsL := As.map cv) (par_len hd.2.2 hn) (rev_stk _ As rest) (by rw [hb]; exact hdg)
  rcases hup with h | h
  · rw [h] at e1
    cases e1.symm.trans e2
    simp [Vm.isSubclass, Vm.isSubclassAux]
  · obtain ⟨ps, dk, kp, hps, hdk, hkp, hsuper, -, -, -⟩ := Cond.superclass_spec e1 (hts _ h)
    cases hps.symm.trans e2
    simp only [Vm.isSubclass, Vm.isSubclassAux, hdk, hsuper, Bool.or_eq_true, beq_iff_eq]
    right
    have hlt := (Array.getElem?_eq_some_iff.mp hdk).1
    cases hn : s.vm.classes.size with
    | zero => omega
    | succ n => simp [Vm.isSubclassAux]
end YK

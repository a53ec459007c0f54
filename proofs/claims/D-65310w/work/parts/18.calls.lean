set_option maxRecDepth 100000
/-- a contract: from x0, called with these arguments, the method ends with O -/
def Ct {σ : Type} (ρ : σ → HS → Prop) (l : Launch) (y : MethodName) (ws : List Cond) (d : Nat) (G : GT) (As : List AV) (x0 : σ) (O : OA → σ → Prop) : Prop :=
  ∀ S0, ρ x0 S0 → l.stackTraces = false → MetFree l y (headSpec ws (rmD d S0)) (fun a s => a = (As.map cv).toArray ∧ EnvT G s ∧ Rep G S0 s.heap ∧ lvS S0 As) (fun _ _ _ _ _ => True) (fun _ st o t => PostC ρ G S0 O st o t)
/-- the locals with which a method begins -/
def entL : List AV → List (Option AV)
  | [] => []
  | .inr (.inl x) :: vs => some (vL x) :: none :: entL vs
  | v :: vs => some v :: entL vs
def entN (As : List AV) (n : Nat) : List (Option AV) := entL As ++ List.replicate (n - (entL As).length) none
def catA (v : AV) : Nat := match v with
  | .inr (.inl _) => 2
  | _ => 1
theorem catA_cv (v : AV) : (cv v).category = catA v := by
  match v with
  | .inl x => rfl
  | .inr (.inl x) => rfl
  | .inr (.inr r) => exact cr_cat r
theorem catA_sum (st : List AV) : ((st.map cv).map fun v => v.category).sum = (st.map catA).sum := by
  rw [List.map_map]
  congr 1
  exact List.map_congr_left (fun v _ => catA_cv v)
theorem entL_args : ∀ (As : List AV) (i k : Nat) (v : AV), (entL As)[k]? = some (some v) → (i + k, cv v) ∈ lv_args i (As.map cv) := by
  intro As
  induction As with
  | nil => intro i k v h; simp [entL] at h
  | cons w As ih =>
    intro i k v h
    match w with
    | .inl x =>
      cases k with
      | zero => cases h; exact List.mem_cons_self
      | succ k =>
        have h : (entL As)[k]? = some (some v) := h
        have := ih (i + 1) k v h
        rw [show i + 1 + k = i + (k + 1) by omega] at this
        exact List.mem_cons_of_mem _ this
    | .inr (.inr x) =>
      cases k with
      | zero => cases h; exact List.mem_cons_self
      | succ k =>
        have h : (entL As)[k]? = some (some v) := h
        have := ih (i + 1) k v h
        rw [show i + 1 + k = i + (k + 1) by omega] at this
        refine List.mem_cons_of_mem _ ?_
        rw [if_neg (by rw [catA_cv]; exact (by decide : ¬ 1 = 2))]
        exact this
    | .inr (.inl x) =>
      match k with
      | 0 => cases h; exact List.mem_cons_self
      | 1 => cases h
      | k + 2 =>
        have h : (entL As)[k]? = some (some v) := h
        have := ih (i + 2) k v h
        rw [show i + 2 + k = i + (k + 2) by omega] at this
        exact List.mem_cons_of_mem _ this
theorem entL_lv {S : HS} : ∀ (As : List AV), lvS S As → lvL S (entL As) := by
  intro As
  induction As with
  | nil => intro _ i v h; simp [entL] at h
  | cons w As ih =>
    intro h i v e
    match w with
    | .inl x =>
      cases i with
      | zero => cases e; exact h.1
      | succ i => exact ih h.2 i v e
    | .inr (.inr x) =>
      cases i with
      | zero => cases e; exact h.1
      | succ i => exact ih h.2 i v e
    | .inr (.inl x) =>
      match i with
      | 0 => cases e; exact h.1
      | 1 => cases e
      | i + 2 => exact ih h.2 i v e
theorem entN_get {As : List AV} {n k : Nat} {v : AV} (h : (entN As n)[k]? = some (some v)) : (entL As)[k]? = some (some v) := by
  unfold entN at h
  by_cases hk : k < (entL As).length
  · rw [List.getElem?_append_left hk] at h
    exact h
  · rw [List.getElem?_append_right (by omega)] at h
    have := List.eq_of_mem_replicate (List.mem_of_getElem? h)
    cases this
theorem entL_len : ∀ As : List AV, (lg_sl (As.map cv)).length = (entL As).length := by
  intro As
  induction As with
  | nil => rfl
  | cons v As ih =>
    have e1 : lg_sl ((v :: As).map cv) = (if (cv v).category = 2 then [Slot.val (cv v), .second] else [.val (cv v)]) ++ lg_sl (As.map cv) := rfl
    rw [e1, List.length_append, catA_cv, ih]
    match v with
    | .inl x => exact Nat.add_comm _ _
    | .inr (.inr x) => exact Nat.add_comm _ _
    | .inr (.inl x) => exact Nat.add_comm _ _
/-- a method's contract out of the walk of its body -/
theorem Ct.ofY {σ : Type} {ρ : σ → HS → Prop} {l : Launch} {y : MethodName} {d maxL : Nat} {G : GT} {As : List AV} {x0 : σ} {O : OA → σ → Prop} {cc : ByteArray} {ret : Option FieldType} (ls : List (Option AV)) (ini : Bool) (hy : plainName y.cls = true) (hini : ini = true → y.name = "<init>") (hls : entN As maxL = ls) (hlen : ls.length = maxL) (hle : (entL As).length ≤ maxL)
    (body : ∀ I : Iv, Cx I y.cls cc maxL ret d [] ini → Y ρ I O 0 ls [] x0) : Ct ρ l y (ws_ y cc maxL ret) d G As x0 O := by
  intro S0 hS0 hl0
  refine MetFree.of_bodyS (code := cc) (maxLocals := maxL) (ret := ret) hy ?_ ?_
  · intro args s m h hn
    obtain ⟨meth, c, h1, h2, h3, h4, h5, h6, -, -⟩ := Cond.code_spec hn (atoms_spec (ws := ws_ y cc maxL ret) h _ List.mem_cons_self)
    exact ⟨meth, c, h1, h2, h3, h4, h5, h6⟩
  · intro p e s m args below meth c s₁ B hml hP _
    obtain ⟨rfl, hE, hr, hlv⟩ := hP
    have hts := atoms_spec (ws := ws_ y cc maxL ret) B.pre
    have hno := B.noHandlers (hts _ List.mem_cons_self)
    have cx : Cx (p, l, e, rmD d S0, s, m, (As.map cv).toArray, below, meth, c, G, S0) y.cls cc maxL ret d [] ini := by
      refine ⟨B.exec, B.bytes, hml, findClass_of_methodNamed B.named, fun w h => hts w (List.mem_cons_of_mem _ h), hE, B.returns, B.notSynchronized, rfl, ?_, fun h => ?_, hl0, hr⟩
      · have h0 : c.exceptionTable.size = 0 := by simpa [Array.isEmpty] using hno
        exact List.eq_nil_of_length_eq_zero (by simpa using h0)
      · rw [← hini h]
        exact (name_of_methodNamed B.named B.method).1
    have hh0 : s₁.heap = s.heap := by rw [B.state]; rfl
    have hlen2 := entL_len As
    have hl := lv_entry (As.map cv) (n := maxL) (by rw [hlen2]; exact hle)
    have hv : LV ((lg_sl (As.map cv) ++ List.replicate (maxL - (lg_sl (As.map cv)).length) Slot.unset).toArray) (lc ls) := by
      refine ⟨by rw [hl.1, lc_len, hlen], hl.2.1, fun k v hk => ?_⟩
      unfold lc at hk
      rw [List.getElem?_map] at hk
      cases hkk : ls[k]? with
      | none => rw [hkk] at hk; cases hk
      | some w =>
        rw [hkk] at hk
        cases w with
        | none => cases hk
        | some u =>
          cases hk
          rw [← hls] at hkk
          have h1 := entL_args As 0 k u (entN_get hkk)
          rw [Nat.zero_add] at h1
          exact hl.2.2 _ h1
    have hY := body _ cx S0 s₁.heap [] _ hS0 ⟨by rw [hh0]; exact hr, (fun _ h => by cases h), Nat.le_refl _, Nat.le_refl _, Mono.rf⟩ hv (fun i v e => by rw [← hls] at e; exact entL_lv As hlv i v (entN_get e)) trivial
    rw [Nat.sub_self, Nat.sub_self] at hY
    obtain ⟨t, a1, o, b1, b2, b3⟩ := hY s₁ rfl (Stand.of_body B)
    refine ⟨t, o, ?_, b1, b2, b3⟩
    rw [lg_entry_eq]
    exact a1
/-- a call has been linked: what is left is to run it -/
def Lk (p : Program) (l : Launch) (e : Env) (R : Room) (s : State) (m : MethodId) (args : Array Value) (below : List Frame) (meth : Method) (c : Code) (T : State) (locs : List Loc) (cells slots : Nat) (g : JFrame) (rest : List Value) (y : MethodName) (a : Array Value) : Prop :=
  ∃ (vm₁ : Vm) (mk : MethodId) (ig : Instr), s.WarmedH vm₁ ∧ Stand p l e R s m args below meth c (T.setVm vm₁) locs cells slots ∧ (T.setVm vm₁).methodNamed? y = some mk ∧ decode c.code g.pc = .ok (ig, 3) ∧
    ∀ target, Steps p.tables e below (doInvoke e ((T.setVm vm₁).setTop { g with stack := rest }) [] mk a).1 target → Steps p.tables e below (T.setTop g) target
section LK
variable {p : Program} {l : Launch} {e : Env} {R : Room} {s : State} {m : MethodId} {args : Array Value} {below : List Frame} {meth : Method} {c : Code} {T : State} {locs : List Loc} {cells slots : Nat}
theorem lk_V (X : Stand p l e R s m args below meth c T locs cells slots) (hexec : p.tables.exec = Jvm.exec) {own C : String} {index : Nat} {y : MethodName} {bytes : ByteArray} {maxL : Nat} {ret : Option FieldType}
    (hown : s.vm.findClass own = some m.cls) (hlink : (Cond.methodLink own index y).before args s = true ∨ ∃ host, (Cond.methodLinkNest own index y host).before args s = true) (hinst : (Cond.instanceMethod y).before args s = true) (hsel : (Cond.selects C y y).before args s = true)
    (hcode : (Cond.code y bytes maxL ret).before args s = true) (hy : y.cls ≠ "java/lang/invoke/MethodHandle" ∧ y.cls ≠ "java/lang/invoke/VarHandle")
    {b : Addr} {cellB : Cell} (hcell : T.heap[b]? = some cellB) (hobj : cellB.vm.isStatics = false) (hcls : s.vm.findClass C = some cellB.cls)
    {g : JFrame} (hg : g.method = m) {argsL rest : List Value} (hlen : ∀ sig, parseMethodDescriptor y.desc = some sig → argsL.length = sig.parameters.length)
    (hstack : g.stack = argsL.reverse ++ .ref b :: rest) (hdg : decode c.code g.pc = .ok (.invokevirtual index, 3)) :
    Lk p l e R s m args below meth c T locs cells slots g rest y (Value.ref b :: argsL).toArray := by
  obtain ⟨mk, methM, hnamed, hmethM, hstM, habM⟩ := Cond.instanceMethod_spec hinst
  obtain ⟨methM', cM, hmethM', -, -, -, -, -, -, hsigM⟩ := Cond.code_spec hnamed hcode
  cases hmethM.symm.trans hmethM'
  obtain ⟨c2, r2, m2, q1, q2, q3, q4, kP, hkP, hkPi⟩ := Cond.selects_spec hsel
  cases hcls.symm.trans q1
  cases (State.methodFound?_of_named hnamed hy).symm.trans q2
  cases hnamed.symm.trans q3
  have hselP : selectMethod e.platform s.vm cellB.cls mk = .method mk := by rw [Launch.admits_selectMethod X.admits]; exact q4
  rcases hlink with hlink | ⟨host, hlink⟩
  · obtain ⟨vm₁, X₁, hstep₁⟩ := X.invokevirtual hexec hown hlink hnamed hmethM hstM hkP hkPi hy (a := b) (cell := cellB) hcell
      (fun z h => by rw [h] at hobj; cases hobj) hselP hmethM habM hkP hkPi (g := g) hg (argsL := argsL) (rest := rest) (hlen _ hsigM) hstack hdg
    exact ⟨vm₁, mk, _, X₁.warmed, X₁, X₁.named hnamed, hdg, fun target h => hstep₁ _ fun acts => by rw [doInvoke_state]; exact h⟩
  · obtain ⟨vm₁, X₁, hstep₁⟩ := X.invokevirtualNest hexec hown hlink hnamed hmethM hstM hkP hkPi hy (a := b) (cell := cellB) hcell
      (fun z h => by rw [h] at hobj; cases hobj) hselP hmethM habM hkP hkPi (g := g) hg (argsL := argsL) (rest := rest) (hlen _ hsigM) hstack hdg
    exact ⟨vm₁, mk, _, X₁.warmed, X₁, X₁.named hnamed, hdg, fun target h => hstep₁ _ fun acts => by rw [doInvoke_state]; exact h⟩
theorem lk_VU (X : Stand p l e R s m args below meth c T locs cells slots) (hexec : p.tables.exec = Jvm.exec) {own C owner : String} {index : Nat} {x y : MethodName}
    (hown : s.vm.findClass own = some m.cls) (hlink : (Cond.methodLink own index x).before args s = true) (hsame : (Cond.sameMethod x.cls owner x.name x.desc).before args s = true)
    (hd0 : va_Decl s ⟨owner, x.name, x.desc⟩) (howner : owner ≠ "java/lang/invoke/MethodHandle" ∧ owner ≠ "java/lang/invoke/VarHandle")
    (hsel : (Cond.selects C x y).before args s = true) (hinst : (Cond.instanceMethod y).before args s = true)
    {b : Addr} {cellB : Cell} (hcell : T.heap[b]? = some cellB) (hobj : cellB.vm.isStatics = false) (hcls : s.vm.findClass C = some cellB.cls)
    {g : JFrame} (hg : g.method = m) {argsL rest : List Value} (hlen : ∀ sig, parseMethodDescriptor x.desc = some sig → argsL.length = sig.parameters.length)
    (hstack : g.stack = argsL.reverse ++ .ref b :: rest) (hdg : decode c.code g.pc = .ok (.invokevirtual index, 3)) :
    Lk p l e R s m args below meth c T locs cells slots g rest y (Value.ref b :: argsL).toArray := by
  obtain ⟨r0, r, hn, hrm, hstR, hsigR⟩ := hd0
  obtain ⟨cn, ck, r1, hcn, hck, hni, hf, hn1⟩ := Cond.sameMethod_found hsame
  cases hn.symm.trans hn1
  obtain ⟨mk, methM, hnamed, hmethM, -, habM⟩ := Cond.instanceMethod_spec hinst
  obtain ⟨c2, r2, m2, q1, q2, q3, q4, kP, hkP, hkPi⟩ := Cond.selects_spec hsel
  cases hcls.symm.trans q1
  cases hf.symm.trans q2
  cases hnamed.symm.trans q3
  have hselP : selectMethod e.platform s.vm cellB.cls r0 = .method mk := by rw [Launch.admits_selectMethod X.admits]; exact q4
  obtain ⟨vm₁, X₁, hstep₁⟩ := X.invokevirtualUp hexec hown hlink hsame howner hn hrm hstR (a := b) (cell := cellB) hcell
    (fun z h => by rw [h] at hobj; cases hobj) hselP hmethM habM hkP hkPi (g := g) hg (argsL := argsL) (rest := rest) (hlen _ hsigR) hstack hdg
  exact ⟨vm₁, mk, _, X₁.warmed, X₁, X₁.named hnamed, hdg, fun target h => hstep₁ _ fun acts => by rw [doInvoke_state]; exact h⟩
theorem lk_S (X : Stand p l e R s m args below meth c T locs cells slots) (hexec : p.tables.exec = Jvm.exec) {own : String} {index : Nat} {y : MethodName} {bytes : ByteArray} {maxL : Nat} {ret : Option FieldType}
    (hown : s.vm.findClass own = some m.cls) (hlink : (Cond.methodLink own index y).before args s = true ∨ ∃ host, (Cond.methodLinkNest own index y host).before args s = true) (hstat : (Cond.static y).before args s = true) (hinit : (Cond.initialized y.cls).before args s = true)
    (hcode : (Cond.code y bytes maxL ret).before args s = true) (hy : y.cls ≠ "java/lang/invoke/MethodHandle" ∧ y.cls ≠ "java/lang/invoke/VarHandle")
    {g : JFrame} (hg : g.method = m) {argsL rest : List Value} (hlen : ∀ sig, parseMethodDescriptor y.desc = some sig → argsL.length = sig.parameters.length)
    (hstack : g.stack = argsL.reverse ++ rest) (hdg : decode c.code g.pc = .ok (.invokestatic index, 3)) :
    Lk p l e R s m args below meth c T locs cells slots g rest y argsL.toArray := by
  obtain ⟨mk, hnamed⟩ := Cond.code_named hcode
  obtain ⟨methM, cM, hmethM, -, -, -, -, -, -, hsigM⟩ := Cond.code_spec hnamed hcode
  have hstatic : methM.isStatic = true := Cond.static_spec hnamed hmethM hstat
  obtain ⟨kP, hkP, -⟩ := className_of_methodNamed hnamed
  have hinitP : kP.init = .initialized := Cond.initialized_spec (findClass_of_methodNamed hnamed) hkP hinit
  rcases hlink with hlink | ⟨host, hlink⟩
  · obtain ⟨vm₁, X₁, hstep₁⟩ := X.invokestatic hexec hown hlink hnamed hmethM hstatic hkP hinitP hy (g := g) hg (argsL := argsL) (rest := rest) (hlen _ hsigM) hstack hdg
    exact ⟨vm₁, mk, _, X₁.warmed, X₁, X₁.named hnamed, hdg, fun target h => hstep₁ _ fun acts => by rw [doInvoke_state]; exact h⟩
  · obtain ⟨vm₁, X₁, hstep₁⟩ := X.invokestaticNest hexec hown hlink hnamed hmethM hstatic hkP hinitP hy (g := g) hg (argsL := argsL) (rest := rest) (hlen _ hsigM) hstack hdg
    exact ⟨vm₁, mk, _, X₁.warmed, X₁, X₁.named hnamed, hdg, fun target h => hstep₁ _ fun acts => by rw [doInvoke_state]; exact h⟩
theorem lk_I (X : Stand p l e R s m args below meth c T locs cells slots) (hexec : p.tables.exec = Jvm.exec) {own : String} {index : Nat} {y : MethodName} {bytes : ByteArray} {maxL : Nat}
    (hown : s.vm.findClass own = some m.cls) (hy1 : y.name = "<init>") (hlink : (Cond.methodLink own index y).before args s = true ∨ ∃ host, (Cond.methodLinkNest own index y host).before args s = true) (hinst : (Cond.instanceMethod y).before args s = true)
    (hcode : (Cond.code y bytes maxL none).before args s = true) (hy : y.cls ≠ "java/lang/invoke/MethodHandle" ∧ y.cls ≠ "java/lang/invoke/VarHandle")
    {g : JFrame} (hg : g.method = m) {a : Addr} {argsL rest : List Value} (hlen : ∀ sig, parseMethodDescriptor y.desc = some sig → argsL.length = sig.parameters.length)
    (hstack : g.stack = argsL.reverse ++ .ref a :: rest) (hdg : decode c.code g.pc = .ok (.invokespecial index, 3)) :
    Lk p l e R s m args below meth c T locs cells slots g rest y (Value.ref a :: argsL).toArray := by
  subst hg
  have hpl : e.platform.magicAccessors = ({} : Platform).magicAccessors := by rw [X.admits.platform]
  rcases hlink with hlink | ⟨host, hlink⟩
  · obtain ⟨mk, methM, cM, kP, vm₁, hnamed, hmethM, hcodeM, -, hlocalsM, -, hkP, -, hW₁, hstep₁⟩ := Steps.initColdArgs (e := e) X.here hexec X.warmed hpl hown hy1 hy hlink hinst hcode (f := g) rfl hlen hstack hdg
    have X₁ := X.noted hW₁
    exact ⟨vm₁, mk, _, X₁.warmed, X₁, X₁.named hnamed, hdg, fun target h => hstep₁ _ fun acts => by rw [doInvoke_state]; exact h⟩
  · obtain ⟨mk, methM, cM, kP, vm₁, hnamed, hmethM, hcodeM, -, hlocalsM, -, hkP, -, hW₁, hstep₁⟩ := Steps.initColdArgsNest (e := e) X.here hexec X.warmed hpl hown hy1 hy hlink hinst hcode (f := g) rfl hlen hstack hdg
    have X₁ := X.noted hW₁
    exact ⟨vm₁, mk, _, X₁.warmed, X₁, X₁.named hnamed, hdg, fun target h => hstep₁ _ fun acts => by rw [doInvoke_state]; exact h⟩
/-- super.m(..), of a method that the class above, or one above that, declares -/
theorem lk_SU (X : Stand p l e R s m args below meth c T locs cells slots) (hexec : p.tables.exec = Jvm.exec) {own sup : String} {index : Nat} {y : MethodName} {bytes : ByteArray} {maxL : Nat} {ret : Option FieldType}
    (hown : s.vm.findClass own = some m.cls) (hlink : (Cond.methodLink own index ⟨sup, y.name, y.desc⟩).before args s = true) (hsame : (Cond.sameMethod sup y.cls y.name y.desc).before args s = true) (hsup : (Cond.superclass own sup).before args s = true) (hsub : ∀ cS cY : ClassId, s.vm.findClass sup = some cS → s.vm.findClass y.cls = some cY → s.vm.isSubclass cS cY = true)
    (hinst : (Cond.instanceMethod y).before args s = true) (hcode : (Cond.code y bytes maxL ret).before args s = true) (hno : y.name ≠ "<init>")
    {b : Addr} {cellB : Cell} {kB : Class} (hcell : T.heap[b]? = some cellB) (hobj : cellB.vm.isStatics = false) (hkB : s.vm.classes[cellB.cls]? = some kB)
    {g : JFrame} (hg : g.method = m) {argsL rest : List Value} (hlen : ∀ sig, parseMethodDescriptor y.desc = some sig → argsL.length = sig.parameters.length)
    (hstack : g.stack = argsL.reverse ++ .ref b :: rest) (hdg : decode c.code g.pc = .ok (.invokespecial index, 3)) :
    Lk p l e R s m args below meth c T locs cells slots g rest y (Value.ref b :: argsL).toArray := by
  obtain ⟨mk, methM, hnamed, hmethM, hstM, habM⟩ := Cond.instanceMethod_spec hinst
  obtain ⟨methM', cM, hmethM', -, -, -, -, -, -, hsigM⟩ := Cond.code_spec hnamed hcode
  cases hmethM.symm.trans hmethM'
  obtain ⟨ps, dk, kp, hps, hdk, hkp, hsuper, -, -, hnid⟩ := Cond.superclass_spec hown hsup
  have hn : s.methodNamed? ⟨y.cls, y.name, y.desc⟩ = some mk := hnamed
  have hsub2 : s.vm.isSubclass ps mk.cls = true := hsub _ _ hps (findClass_of_methodNamed hnamed)
  obtain ⟨vm₁, X₁, hstep₁⟩ := X.invokespecialUp hexec hown hlink hsame hn hmethM hstM habM hno hdk hnid hps hsuper hsub2 (a := b) (cell := cellB) hcell
    (fun z h => by rw [h] at hobj; cases hobj) hkB (g := g) hg (argsL := argsL) (rest := rest) (hlen _ hsigM) hstack hdg
  exact ⟨vm₁, mk, _, X₁.warmed, X₁, X₁.named hnamed, hdg, fun target h => hstep₁ _ (by rw [doInvoke_state]; exact h)⟩
end LK

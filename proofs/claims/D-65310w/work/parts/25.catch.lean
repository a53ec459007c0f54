set_option maxRecDepth 100000
/-- the search through the table ends at its first row, whose class is linked now or was before -/
theorem w_go {Q : Handler → Pre} {E : CtlPost} {e : Env} {d : Bool} {acts : List Action} {s : State} {f : JFrame} {a : Addr} {row : ExceptionTableEntry} {t : List ExceptionTableEntry} {cell : Cell} (hcov : covers row f.pc = true) (h0 : row.catchType ≠ 0) (hl : s.vm.ClassLinks e.platform f.method.cls row.catchType cell.cls) (hcell : s.heap[a]? = some cell) (hobj : ∀ k, cell.vm ≠ .statics k) (hkt : ∃ k, s.vm.classes[cell.cls]? = some k) :
    wp (findHandler.go f a (row :: t)) Q E e d acts s ↔ Q (.found row.handlerPc) d acts (s.setVm (s.vm.noted f.method.cls row.catchType (.cls cell.cls))) := by
  have hal : s.vm.Alike (s.vm.noted f.method.cls row.catchType (.cls cell.cls)) := (Vm.Alike.refl s.vm).noted _ _ _
  obtain ⟨k1, hk1⟩ := hkt
  obtain ⟨k2, hk2, -⟩ := hal.2.2 _ _ hk1
  have hasg : (s.vm.noted f.method.cls row.catchType (.cls cell.cls)).assignable cell.cls cell.cls = true := va_asg _ _
  obtain ⟨ha, ht⟩ := (resolveClass_links e.toSetting hl).op (op := VmOp.resolveClass f.method.cls row.catchType) rfl
  simp only [covers] at hcov
  simp [findHandler.go, hcov, h0, ha, ht, hcell, hobj, hk2, hasg, VmOp.dirties, VmOp.acts]
set_option maxHeartbeats 1000000 in
/-- a Malformed is caught by the first row of the method's own table -/
theorem w_caught {p : Program} {l : Launch} {e : Env} {R : Room} {s : State} {m : MethodId} {args : Array Value} {below : List Frame} {meth : Method} {c : Code} {T : State} {locs : List Loc} {cells slots : Nat}
    (X : Stand p l e R s m args below meth c T locs cells slots) (a : Addr) {g : JFrame} (hg : g.method = m) {cell : Cell} (hcell : T.heap[a]? = some cell) (hobj : cell.vm.isStatics = false) {own name : String} (hown : s.vm.findClass own = some m.cls)
    {row : ExceptionTableEntry} {rest : List ExceptionTableEntry} (hsplit : c.exceptionTable.toList = row :: rest) (hcov : covers row g.pc = true) (h0 : row.catchType ≠ 0) (hlink : (Cond.classLink own row.catchType name).before args s = true) (hcls : s.vm.findClass name = some cell.cls) :
    ∃ vm', Stand p l e R s m args below meth c (T.setVm vm') locs cells slots ∧ ∀ target, Steps p.tables e below ((T.setVm vm').setTop { g with pc := row.handlerPc, stack := [.ref a] }) target → Steps p.tables e below ((T.setTop g).pushFrame (.throwing a)) target := by
  subst hg
  have hpl : e.platform.magicAccessors = ({} : Platform).magicAccessors := by rw [X.admits.platform]
  obtain ⟨cT, hcT, hl⟩ := Cond.classLink_spec hown hlink e.platform hpl
  cases hcls.symm.trans hcT
  obtain ⟨dk, _, _, kt, hdk, _, _, _, _, hkt, _, hopen⟩ := hl.here
  have hW' : s.WarmedH (T.vm.noted g.method.cls row.catchType (.cls cell.cls)) := X.warmed.noted hdk hopen (State.rightAt_cls hl)
  have hlT := X.warmed.classLinks hl
  refine ⟨_, X.noted hW', fun target hrest => ?_⟩
  have hvm : ((T.setTop g).pushFrame (.throwing a)).vm = T.vm := throwing_vm T g a
  have hheap : ((T.setTop g).pushFrame (.throwing a)).heap = T.heap := throwing_heap T g a
  obtain ⟨kt', hkt', -⟩ := hW'.alike.2.2 _ _ hkt
  have hasg : (T.vm.noted g.method.cls row.catchType (.cls cell.cls)).assignable cell.cls cell.cls = true := va_asg _ _
  have hfind : ∀ (Q : Handler → Pre) (E : CtlPost) (d : Bool) (acts : List Action), wp (findHandler g a) Q E e d acts ((T.setTop g).pushFrame (.throwing a)) ↔ Q (.found row.handlerPc) d acts (((T.setTop g).pushFrame (.throwing a)).setVm (T.vm.noted g.method.cls row.catchType (.cls cell.cls))) := by
    intro Q E d acts
    rw [W.findHandler_eq (by rw [hvm]; exact X.method') X.code, hsplit]
    obtain ⟨kq, hkq, -⟩ := X.warmed.alike.2.2 _ _ hkt
    have := w_go (Q := Q) (E := E) (e := e) (d := d) (acts := acts) (s := (T.setTop g).pushFrame (.throwing a)) (f := g) (a := a) (t := rest) hcov h0 (by rw [hvm]; exact hlT) (by rw [hheap]; exact hcell) (VmData.ne_statics_of hobj) ⟨kq, by rw [hvm]; exact hkq⟩
    rw [hvm] at this
    exact this
  have hstep : (stepThrowing e ((T.setTop g).pushFrame (.throwing a)) a (.java g :: T.frames.tail)).Is ((((T.setTop g).pushFrame (.throwing a)).setVm (T.vm.noted g.method.cls row.catchType (.cls cell.cls))).setFrames (.java { g with pc := row.handlerPc, stack := [.ref a] } :: T.frames.tail)) [] := by
    simp only [stepThrowing, searchFrame, vmDo]
    generalize hr : Sem.go _ e false [] ((T.setTop g).pushFrame (.throwing a)) = res
    obtain ⟨as, rfl, ha⟩ := Sem.eq_ok_of hr (a := Handler.found row.handlerPc) (s' := ((T.setTop g).pushFrame (.throwing a)).setVm (T.vm.noted g.method.cls row.catchType (.cls cell.cls))) (acts' := []) (by simp [hfind _ _ _ _])
    exact ⟨rfl, ha⟩
  obtain ⟨hgo, hw⟩ := X.here.throwing a
  refine Steps.head hgo hw ?_
  rw [stepThread_throwing (frames_entered X.here.top _), hstep.1]
  obtain ⟨g₀, hg0⟩ := Option.isSome_iff_exists.mp X.here.top
  obtain ⟨r, hr⟩ := State.topJava?_eq_some.mp hg0
  have e1 : (((T.setTop g).pushFrame (.throwing a)).setVm (T.vm.noted g.method.cls row.catchType (.cls cell.cls))).setFrames (.java { g with pc := row.handlerPc, stack := [.ref a] } :: T.frames.tail) = (T.setVm (T.vm.noted g.method.cls row.catchType (.cls cell.cls))).setTop { g with pc := row.handlerPc, stack := [.ref a] } := by
    rw [State.setTop_of_frames _ (show (T.setVm (T.vm.noted g.method.cls row.catchType (.cls cell.cls))).frames = .java g₀ :: r from hr), hr]
    rw [State.setTop_of_frames _ hr]
    rw [State.pushFrame, State.setFrames_setFrames]
    show ((T.setVm _).setFrames _).setFrames _ = _
    rw [State.setFrames_setFrames]
    rfl
  rw [e1]
  exact hrest
section YCT
variable {I : Iv} {own : String} {cc : ByteArray} {nL : Nat} {ret : Option FieldType} {d : Nat} {ini : Bool} {pc : Nat} {ls : List (Option AV)}
/-- a call under a try: what is thrown is caught by the table's first row -/
theorem y_callC {O : OA → HS → Prop} {S : HS} {N : HS → Prop} {X : Nat → HS → Prop} {y : MethodName} {bytes : ByteArray} {maxL d' r1 r2 r3 r4 : Nat} {rt : Option FieldType} {ws : List Cond} {stk : List AV} {hs : List (Nat × Nat × Nat × Nat)} (As : List AV) (cx : Cx I own cc nL ret (d + 1) ((r1, r2, r3, r4) :: hs) ini) (hst : stk = As.reverse ++ []) (hlen : ls.length = nL)
    (hM : ∀ l G, Ct Eq l y ws d' G As S (oV N X)) (hws : GoodIn lw_all ws) (hdd : d' ≤ d) (hcode : Cond.code y bytes maxL rt ∈ lw_all ∨ ∃ hh, Cond.codeWith y bytes maxL rt hh ∈ lw_all) (hini : Cond.initialized y.cls ∈ lw_all) (hlk : LinkY I pc As [] y) (hW : maxL + 11 ≤ 64)
    (hr : r1 ≤ pc ∧ pc < r2 ∧ r4 ≠ 0) (hcl : Cond.classLink own r4 "ClassFileReader$Malformed" ∈ lw_all)
    (kr : ∀ S', N S' → Y Eq I O (pc + 3) ls [] S') (kx : ∀ (a : Nat) (S' : HS), X a S' → Y Eq I O r3 ls [vR (some (5, a, []))] S') : Y Eq I O pc ls stk S := by
  subst hst
  obtain ⟨p, l, e, R, s, m, args, below, meth, c0, G, S0⟩ := I
  obtain ⟨hx, hb, hml, hown, hts, hE, -, hlk0, hR0, hht, -, hl0, -⟩ := cx
  intro S1 H locs la hS hbs hv hw1 hw2
  subst hS
  subst hR0
  obtain ⟨hA, -⟩ := lvS_app.mp hw2
  have hA := lvS_rev.mp hA
  intro T hT X0
  refine w_call (d := d) X0 hT hbs hE hts (rfl : S = S) hA (hM l G) hl0 hws hdd hcode hini (hlk S H locs la T _ _ hbs hA hT X0) (by rw [hml, ← hlen, ← lc_len]; exact hv.1) (by simpa using hW) ?_ ?_
  · intro S' x' v T' locs' hx' hbs' hm hlv hO X'
    subst hx'
    match v, hO with
    | none, hO => exact kr x' hO x' T'.heap locs' la rfl hbs' hv (hw1.mono hm) trivial T' rfl X'
  · intro S' x' a T' locs' hx' hbs' hm hC5 hO X'
    subst hx'
    obtain ⟨cell, g1, g2, g3⟩ := rcv.cell (C := "ClassFileReader$Malformed") (Or.inr (Or.inr ⟨rfl, rfl⟩)) hE hbs' hC5
    obtain ⟨vm', X2, st2⟩ := w_caught X' a (g := F0 m pc la []) rfl g1 g2 hown (row := ⟨r1, r2, r3, r4⟩) (rest := tableOf hs) hht (by simp only [covers, Bool.and_eq_true, decide_eq_true_eq]; exact ⟨hr.1, hr.2.1⟩) hr.2.2 (hts _ hcl) g3
    obtain ⟨t, t1, t2⟩ := kx a x' hO x' T'.heap locs' la rfl hbs' hv (hw1.mono hm) ⟨hC5, trivial⟩ (T'.setVm vm') rfl X2
    exact ⟨t, st2 t t1, t2⟩
/-- a call outside the table's rows of a method that throws nothing -/
theorem y_callV0 {O : OA → HS → Prop} {S : HS} {N : HS → Prop} {y : MethodName} {bytes : ByteArray} {maxL d' : Nat} {rt : Option FieldType} {ws : List Cond} {stk rest : List AV} {hs : List (Nat × Nat × Nat × Nat)} (As : List AV) (cx : Cx I own cc nL ret (d + 1) hs ini) (hst : stk = As.reverse ++ rest) (hlen : ls.length = nL)
    (hM : ∀ l G, Ct Eq l y ws d' G As S (oV N (fun _ _ => False))) (hws : GoodIn lw_all ws) (hdd : d' ≤ d) (hcode : Cond.code y bytes maxL rt ∈ lw_all ∨ ∃ hh, Cond.codeWith y bytes maxL rt hh ∈ lw_all) (hini : Cond.initialized y.cls ∈ lw_all) (hlk : LinkY I pc As rest y) (hW : (rest.map catA).sum + (maxL + 11) ≤ 64)
    (kr : ∀ S', N S' → Y Eq I O (pc + 3) ls rest S') : Y Eq I O pc ls stk S := by
  subst hst
  obtain ⟨p, l, e, R, s, m, args, below, meth, c0, G, S0⟩ := I
  obtain ⟨hx, hb, hml, hown, hts, hE, -, hlk0, hR0, hht, -, hl0, -⟩ := cx
  intro S1 H locs la hS hbs hv hw1 hw2
  subst hS
  subst hR0
  obtain ⟨hA, hRst⟩ := lvS_app.mp hw2
  have hA := lvS_rev.mp hA
  intro T hT X0
  refine w_call (d := d) X0 hT hbs hE hts (rfl : S = S) hA (hM l G) hl0 hws hdd hcode hini (hlk S H locs la T _ _ hbs hA hT X0) (by rw [hml, ← hlen, ← lc_len]; exact hv.1) hW ?_ ?_
  · intro S' x' v T' locs' hx' hbs' hm hlv hO X'
    subst hx'
    match v, hO with
    | none, hO => exact kr x' hO x' T'.heap locs' la rfl hbs' hv (hw1.mono hm) (lvS.mono hm hRst) T' rfl X'
  · intro S' x' a T' locs' hx' hbs' hm hC5 hO X'
    exact False.elim hO
end YCT
/-- the contract of a method with a table of handlers, out of the walk of its body -/
theorem Ct.ofYW {σ : Type} {ρ : σ → HS → Prop} {l : Launch} {y : MethodName} {d maxL : Nat} {G : GT} {As : List AV} {x0 : σ} {O : OA → σ → Prop} {cc : ByteArray} {ret : Option FieldType} {hs : List (Nat × Nat × Nat × Nat)} (ls : List (Option AV)) (hy : plainName y.cls = true) (hls : entN As maxL = ls) (hlen : ls.length = maxL) (hle : (entL As).length ≤ maxL)
    (body : ∀ I : Iv, Cx I y.cls cc maxL ret d hs false → Y ρ I O 0 ls [] x0) : Ct ρ l y (wsW_ y cc maxL ret hs) d G As x0 O := by
  intro S0 hS0 hl0
  refine MetFree.of_bodyS (code := cc) (maxLocals := maxL) (ret := ret) hy ?_ ?_
  · intro args s m h hn
    obtain ⟨m', meth, c, h0, h1, h2, h3, h4, -, h5, h6, -⟩ := Cond.codeWith_spec (atoms_spec (ws := wsW_ y cc maxL ret hs) h _ List.mem_cons_self)
    cases hn.symm.trans h0
    exact ⟨meth, c, h1, h2, h3, h4, h5, h6⟩
  · intro p e s m args below meth c s₁ B hml hP _
    obtain ⟨rfl, hE, hr, hlv⟩ := hP
    have hts := atoms_spec (ws := wsW_ y cc maxL ret hs) B.pre
    obtain ⟨m', meth', c', g0, g1, g2, -, -, g3, -⟩ := Cond.codeWith_spec (hts _ List.mem_cons_self)
    cases g0.symm.trans B.named
    cases g1.symm.trans B.method
    cases g2.symm.trans (Stand.of_body B).code
    have cx : Cx (p, l, e, rmD d S0, s, m, (As.map cv).toArray, below, meth, c, G, S0) y.cls cc maxL ret d hs false := by
      refine ⟨B.exec, B.bytes, hml, findClass_of_methodNamed B.named, fun w h => hts w (List.mem_cons_of_mem _ h), hE, B.returns, B.notSynchronized, rfl, ?_, (fun h => by cases h), hl0, hr⟩
      rw [← g3]
      unfold tableOf
      rw [List.map_map]
      exact (List.map_id _).symm
    have hh0 : s₁.heap = s.heap := by rw [B.state]; rfl
    have hlen2 := entL_len As
    have hl := lv_entry (As.map cv) (n := maxL) (by rw [hlen2]; exact hle)
    have hv : LV ((lg_sl (As.map cv) ++ List.replicate (maxL - (lg_sl (As.map cv)).length) Slot.unset).toArray) (lc ls) := by
      refine ⟨by rw [hl.1, lc_len, hlen], hl.2.1, fun k v hk => ?_⟩
      unfold lc at hk
      rw [List.getElem?_map] at hk
      cases hkk : ls[k]? with
      | none => rw [hkk] at hk; cases hk
      | some w =>
        rw [hkk] at hk
        cases w with
        | none => cases hk
        | some u =>
          cases hk
          rw [← hls] at hkk
          have h1 := entL_args As 0 k u (entN_get hkk)
          rw [Nat.zero_add] at h1
          exact hl.2.2 _ h1
    have hY := body _ cx S0 s₁.heap [] _ hS0 ⟨by rw [hh0]; exact hr, (fun _ h => by cases h), Nat.le_refl _, Nat.le_refl _, Mono.rf⟩ hv (fun i v e => by rw [← hls] at e; exact entL_lv As hlv i v (entN_get e)) trivial
    rw [Nat.sub_self, Nat.sub_self] at hY
    obtain ⟨t, a1, o, b1, b2, b3⟩ := hY s₁ rfl (Stand.of_body B)
    refine ⟨t, o, ?_, b1, b2, b3⟩
    rw [lg_entry_eq]
    exact a1

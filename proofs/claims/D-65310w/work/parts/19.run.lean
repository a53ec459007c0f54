set_option maxRecDepth 100000
/-- a linked call runs by its contract -/
theorem w_call {p : Program} {l : Launch} {e : Env} {s : State} {m : MethodId} {args : Array Value} {below : List Frame} {meth : Method} {c : Code} {T : State} {locs : List Loc} {G : GT} {S0 S : HS} {H : Heap} {d d' maxL : Nat} {σ : Type} {ρ : σ → HS → Prop} {x0 : σ} {O' : OA → σ → Prop} {Q : State → Prop} {y : MethodName} {bytes : ByteArray} {ret : Option FieldType} {ws : List Cond} {As rest : List AV} {pc : Nat} {la : Array Slot} {stk : List Value}
    (X : Stand p l e (rmD (d + 1) S0) s m args below meth c T locs (hB S0 - hB S) (hU S0 - hU S)) (hT : T.heap = H) (hbs : Bs G S0 S H locs) (hE : EnvT G s) (hts : ∀ w ∈ lw_all, w.before args s = true)
    (hS : ρ x0 S) (hAs : lvS S As) (hM : Ct ρ l y ws d' G As x0 O') (hl0 : l.stackTraces = false) (hws : GoodIn lw_all ws) (hdd : d' ≤ d) (hcode : Cond.code y bytes maxL ret ∈ lw_all ∨ ∃ hh, Cond.codeWith y bytes maxL ret hh ∈ lw_all) (hini : Cond.initialized y.cls ∈ lw_all)
    (hlk : Lk p l e (rmD (d + 1) S0) s m args below meth c T locs (hB S0 - hB S) (hU S0 - hU S) (F0 m pc la stk) (rest.map cv) y (As.map cv).toArray) (hsize : la.size = c.maxLocals) (hW : (rest.map catA).sum + (maxL + 11) ≤ 64)
    (kr : ∀ (S' : HS) (x' : σ) (v : Option AV) (T' : State) (locs' : List Loc), ρ x' S' → Bs G S0 S' T'.heap locs' → Mono S S' → lvO S' (.inl v) → O' (.inl v) x' → Stand p l e (rmD (d + 1) S0) s m args below meth c T' locs' (hB S0 - hB S') (hU S0 - hU S') → ∃ t, Steps p.tables e below (T'.setTop (F0 m (pc + 3) la ((v.map cv).toList ++ rest.map cv))) t ∧ Q t)
    (kx : ∀ (S' : HS) (x' : σ) (a : Nat) (T' : State) (locs' : List Loc), ρ x' S' → Bs G S0 S' T'.heap locs' → Mono S S' → hC S' a = some (5, []) → O' (.inr a) x' → Stand p l e (rmD (d + 1) S0) s m args below meth c T' locs' (hB S0 - hB S') (hU S0 - hU S') → ∃ t, Steps p.tables e below ((T'.setTop (F0 m pc la (rest.map cv))).pushFrame (.throwing a)) t ∧ Q t) :
    ∃ t, Steps p.tables e below (T.setTop (F0 m pc la stk)) t ∧ Q t := by
  obtain ⟨vm₁, mk, ig, hW₁, X₁, hn, hdg, hstep⟩ := hlk
  have hb3 := hbs.2.2.1
  have hb4 := hbs.2.2.2.1
  have hM := hM S hS hl0
  have hinit0 : (Cond.initialized y.cls).before (As.map cv).toArray (T.setVm vm₁) = true := word_at (U := T.setVm vm₁) X₁.warmed (Or.inl (by first | rfl | simp [Cond.onTables, Cond.keeps, Cond.steady])) (hts _ hini)
  have hpre0 : (headSpec ws (rmD d' S)).pre.before (As.map cv).toArray (T.setVm vm₁) = true := atoms_intro fun w hw => pay_in hts hws w hw _ _ X₁.warmed
  obtain ⟨kY, hkY, -⟩ := className_of_methodNamed hn
  have hinitY : kY.init = .initialized := Cond.initialized_spec (findClass_of_methodNamed hn) hkY hinit0
  obtain ⟨methY, cY, hmY, hcY, hlY⟩ : ∃ methY cY, (T.setVm vm₁).vm.method? mk = some methY ∧ methY.code = some cY ∧ cY.maxLocals = maxL := by
    rcases hcode with h | ⟨hh, h⟩
    · obtain ⟨methY, cY, hmY, hcY, -, hlY, -⟩ := Cond.code_spec hn (word_at (U := T.setVm vm₁) (a' := #[]) X₁.warmed (Or.inl (by first | rfl | simp [Cond.onTables, Cond.keeps, Cond.steady])) (hts _ h))
      exact ⟨methY, cY, hmY, hcY, hlY⟩
    · obtain ⟨mk', methY, cY, hn', hmY, hcY, -, hlY, -⟩ := Cond.codeWith_spec (word_at (U := T.setVm vm₁) (a' := #[]) X₁.warmed (Or.inl (by first | rfl | simp [Cond.onTables, Cond.keeps, Cond.steady])) (hts _ h))
      cases hn.symm.trans hn'
      exact ⟨methY, cY, hmY, hcY, hlY⟩
  have h : At (T.setVm vm₁) (F0 m pc la (rest.map cv)).method c below := X₁.here
  have happ : (headSpec ws (rmD d' S)).appliesLoose y e.platform ((T.setVm vm₁).calling (F0 m pc la (rest.map cv)) mk (As.map cv).toArray) = true :=
    Spec.appliesLoose_calling (g := F0 m pc la (rest.map cv)) h hdg hn hkY hinitY
      (X₁.room_calling (g := F0 m pc la (rest.map cv)) (R' := rmD d' S) hsize hmY hcY (by show d' + 1 ≤ d + 1; omega) (by rw [hlY, catA_sum]; show 2 * (F0 m pc la (rest.map cv)).monitorRoom + _ + _ + 64 * d' ≤ 64 * (d + 1); simp only [JFrame.monitorRoom]; omega) (by show _ + hB S ≤ hB S0; omega) (by show _ + hU S ≤ hU S0; omega)) hpre0
  obtain ⟨mid, hmid⟩ := h.above
  have hfr : ((T.setVm vm₁).setTop (F0 m pc la (rest.map cv))).frames = (.java (F0 m pc la (rest.map cv)) :: mid) ++ below := by rw [State.frames_setTop' (F0 m pc la (rest.map cv)) h.top, hmid]; rfl
  have hE₁ : EnvT G ((T.setVm vm₁).calling (F0 m pc la (rest.map cv)) mk (As.map cv).toArray) := EnvT.moved (s := s) (U := (T.setVm vm₁).calling (F0 m pc la (rest.map cv)) mk (As.map cv).toArray) X₁.warmed hE
  have hR₁ : Rep G S ((T.setVm vm₁).calling (F0 m pc la (rest.map cv)) mk (As.map cv).toArray).heap := by
    show Rep G S T.heap
    rw [hT]
    exact hbs.1
  obtain ⟨o, s₂, hsteps, hrun, hend, hq⟩ := Steps.callFree hM p X₁.admits X₁.cas X₁.clock (acts := []) hfr happ ⟨rfl, hE₁, hR₁, hAs⟩ trivial
  rw [State.frames_setTop' _ h.top, X₁.tail] at hend
  obtain ⟨hwm, S', x', L, oa, hsame, hbs', hx', ho, hlv, hO⟩ := hq
  have c1 : hB S0 - hB S + (hB S - hB S') = hB S0 - hB S' := by have := hbs'.2.2.1; omega
  have c2 : hU S0 - hU S + (hU S - hU S') = hU S0 - hU S' := by have := hbs'.2.2.2.1; omega
  have hbs2 : Bs G S0 S' s₂.heap (locs ++ L) := ⟨hbs'.1, fun q hq => by rcases List.mem_append.mp hq with z | z; exact hbs.2.1 q z; exact hbs'.2.1 q z, Nat.le_trans hbs'.2.2.1 hb3, Nat.le_trans hbs'.2.2.2.1 hb4, hbs.2.2.2.2.tr hbs'.2.2.2.2⟩
  cases oa with
  | inl v =>
    subst ho
    obtain ⟨T', X', hheap, ht⟩ : ∃ T', Stand p l e (rmD (d + 1) S0) s m args below meth c T' (locs ++ L) (hB S0 - hB S') (hU S0 - hU S') ∧ T'.heap = s₂.heap ∧ s₂ = T'.setTop (F0 m (pc + 3) la ((v.map cv).toList ++ rest.map cv)) := by
      obtain ⟨T', X', -, -, ht⟩ := X₁.outOf (g := F0 m pc la (rest.map cv)) rfl hdg hend hwm hsame
      rw [c1, c2] at X'
      refine ⟨T', X', ?_, ht⟩
      rw [ht]
      rfl
    obtain ⟨t, a1, a2⟩ := kr S' x' v T' _ hx' (by rw [hheap]; exact hbs2) hbs'.2.2.2.2 hlv hO X'
    exact ⟨t, hstep t (hsteps.trans (by rw [ht]; exact a1)), a2⟩
  | inr a =>
    subst ho
    obtain ⟨T', X', -, -, ht⟩ := X₁.outOfThrown (g := F0 m pc la (rest.map cv)) rfl hend hwm hsame
    rw [c1, c2] at X'
    have hheap : T'.heap = s₂.heap := by rw [ht]; rfl
    obtain ⟨t, a1, a2⟩ := kx S' x' a T' _ hx' (by rw [hheap]; exact hbs2) hbs'.2.2.2.2 hlv hO X'
    exact ⟨t, hstep t (hsteps.trans (by rw [ht]; exact a1)), a2⟩

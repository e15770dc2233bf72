/-! THE HEAP's KIT, 9: results of methods that may throw -/
/-- the heap at the end -/
def uX1 {α : Type} (z : (Nat × UH) ⊕ (α × UH)) : UH := match z with
  | .inl q => q.2
  | .inr q => q.2
def uX0 (z : (Nat × UH) ⊕ UH) : UH := match z with
  | .inl q => q.2
  | .inr q => q
def uMQi (below : List Frame) (G : uG) (z : (Nat × UH) ⊕ (Int32 × UH)) (args : Array Value) (s : State) (mc ms : Nat) : State → Prop := match z with
  | .inl q => uMQX below G q.1 q.2 s mc ms
  | .inr q => MQ below (uQi G q.1 q.2) args s mc ms (uA G)
def uMQr (below : List Frame) (G : uG) (z : (Nat × UH) ⊕ (Option Nat × UH)) (args : Array Value) (s : State) (mc ms : Nat) : State → Prop := match z with
  | .inl q => uMQX below G q.1 q.2 s mc ms
  | .inr q => MQ below (uQr G q.1 q.2) args s mc ms (uA G)
def uMQv (below : List Frame) (G : uG) (z : (Nat × UH) ⊕ UH) (args : Array Value) (s : State) (mc ms : Nat) : State → Prop := match z with
  | .inl q => uMQX below G q.1 q.2 s mc ms
  | .inr q => MQ below (uQv G q) args s mc ms (uA G)
/-- a call of a method that may throw -/
def uxcall {α β : Type} (o : Option ((Nat × UH) ⊕ (α × UH))) (k : Nat → UH → Option β) (f : α → UH → Option β) : Option β := o.bind fun z => match z with
  | .inl q => k q.1 q.2
  | .inr q => f q.1 q.2
def uxcallv {β : Type} (o : Option ((Nat × UH) ⊕ UH)) (k : Nat → UH → Option β) (f : UH → Option β) : Option β := o.bind fun z => match z with
  | .inl q => k q.1 q.2
  | .inr q => f q
theorem uxcall_n {α β : Type} {o : Option ((Nat × UH) ⊕ (α × UH))} {k : Nat → UH → Option β} {f : α → UH → Option β} {r : β} (h : uxcall o k f = some r) : (∃ x u, o = some (.inl (x, u)) ∧ k x u = some r) ∨ ∃ a u, o = some (.inr (a, u)) ∧ f a u = some r := by
  rcases o with _ | q | q
  · cases h
  · exact Or.inl ⟨q.1, q.2, rfl, h⟩
  · exact Or.inr ⟨q.1, q.2, rfl, h⟩
theorem uxcallv_n {β : Type} {o : Option ((Nat × UH) ⊕ UH)} {k : Nat → UH → Option β} {f : UH → Option β} {r : β} (h : uxcallv o k f = some r) : (∃ x u, o = some (.inl (x, u)) ∧ k x u = some r) ∨ ∃ u, o = some (.inr u) ∧ f u = some r := by
  rcases o with _ | q | q
  · cases h
  · exact Or.inl ⟨q.1, q.2, rfl, h⟩
  · exact Or.inr ⟨q, rfl, h⟩
theorem u_noE {c : Code} {pc : Nat} (hE : c.exceptionTable.toList = []) : ∀ z ∈ c.exceptionTable.toList, covers z pc = false := by
  rw [hE]
  exact fun _ h => absurd h List.not_mem_nil
section UROWS9
variable {l : Launch} {cc : ByteArray} {nL : Nat} {G : uG} {u uf : UH} {ret : Option FieldType} {own : String} {x : Nat}
theorem u_tabE {p : Program} {y : MethodName} {S : Spec} {e : Env} {s : State} {m : MethodId} {args : Array Value} {below : List Frame} {meth : Method} {c : Code} {s₁ : State} (B : BodyLoose p l y S cc nL ret e s m args below meth c s₁) (h : (Cond.code y cc nL ret).before args s = true) : c.exceptionTable.toList = [] := by
  have h0 : c.exceptionTable.size = 0 := by simpa [Array.isEmpty] using B.noHandlers h
  exact List.eq_nil_of_length_eq_zero (by simpa using h0)
/-- a method out of its walk, its table of handlers empty -/
theorem u_metE {y : MethodName} {av : List Value} {rm : Room} {mc ms : Nat} {Qc : Array Value → State → Outcome → State → Prop} (hy : plainFor y = true) (hyc : y.cls = own) (hlen : (lg_sl av).length ≤ nL)
    (body : ∀ {p : Program} {e : Env} {s : State} {m : MethodId} {args : Array Value} {below : List Frame} {meth : Method} {c : Code}, uC p s m args meth c G own cc nL ret → c.exceptionTable.toList = [] → meth.name = y.name → s.heap.size = u.1 → ∀ ls : Array Slot, lv_has ls nL (lv_args 0 av) → uP G u s.heap → W p l e rm s m args below meth c s.heap [] 0 0 (MQ below Qc args s mc ms (uA G)) (F0 m 0 ls [])) :
    Met l y (ws_ y cc nL ret) rm (uPc G u av) Qc mc ms (uA G) := by
  refine uMet_of (cc := cc) (maxL := nL) (ret := ret) hy rfl ?_
  intro p e s m args below meth c s₁ B hml hv
  obtain ⟨rfl, hP, hK, hb0, hZ⟩ := hv
  have hts := atoms_spec (ws := ws_ y cc nL ret) B.pre
  have hE := u_tabE B (hts _ List.mem_cons_self)
  have hts : ∀ w ∈ lw_all, w.before _ s = true := fun w h => hts w (List.mem_cons_of_mem _ h)
  rw [lg_entry_eq]
  exact body ⟨⟨B.exec, B.bytes, hml, hyc ▸ findClass_of_methodNamed B.named, hts⟩, hK, ⟨hb0, hZ⟩, B.returns, B.notSynchronized⟩ hE (name_of_methodNamed B.named B.method).1 hP.1 _ (lv_entry av hlen) hP
/-- the same, of a run that throws -/
theorem u_metX {y : MethodName} {av : List Value} {rm : Room} {mc ms : Nat} (hy : plainFor y = true) (hyc : y.cls = own) (hlen : (lg_sl av).length ≤ nL)
    (body : ∀ {p : Program} {e : Env} {s : State} {m : MethodId} {args : Array Value} {below : List Frame} {meth : Method} {c : Code}, uC p s m args meth c G own cc nL ret → c.exceptionTable.toList = [] → meth.name = y.name → s.heap.size = u.1 → ∀ ls : Array Slot, lv_has ls nL (lv_args 0 av) → uP G u s.heap → W p l e rm s m args below meth c s.heap [] 0 0 (uMQX below G x uf s mc ms) (F0 m 0 ls [])) :
    uMX l y (ws_ y cc nL ret) rm G u av x uf mc ms := by
  refine MetFree.of_bodySF (code := cc) (maxLocals := nL) (ret := ret) hy ?_ ?_
  · intro args s m h hn
    obtain ⟨meth, c, h1, h2, h3, h4, h5, h6, -, -⟩ := Cond.code_spec hn (atoms_spec (ws := ws_ y cc nL ret) h _ List.mem_cons_self)
    exact ⟨meth, c, h1, h2, h3, h4, h5, h6⟩
  · intro p e s m args below meth c s₁ B hml hv _
    obtain ⟨rfl, hP, hK, hb0, hZ⟩ := hv
    have hts := atoms_spec (ws := ws_ y cc nL ret) B.pre
    have hE := u_tabE B (hts _ List.mem_cons_self)
    have hts : ∀ w ∈ lw_all, w.before _ s = true := fun w h => hts w (List.mem_cons_of_mem _ h)
    have hh0 : s₁.heap = s.heap := by rw [B.state]; rfl
    have hb := body (e := e) (below := below) ⟨⟨B.exec, B.bytes, hml, hyc ▸ findClass_of_methodNamed B.named, hts⟩, hK, ⟨hb0, hZ⟩, B.returns, B.notSynchronized⟩ hE (name_of_methodNamed B.named B.method).1 hP.1 _ (lv_entry av hlen) hP
    rw [← lg_entry_eq] at hb
    obtain ⟨t, a1, o, b1, b2, b3⟩ := hb s₁ hh0 (Stand.of_body B)
    exact ⟨t, o, a1, b1, b2, b3⟩
/-- a method with one handler of its own -/
theorem u_metW {y : MethodName} {av : List Value} {rm : Room} {mc ms : Nat} {Qc : Array Value → State → Outcome → State → Prop} {h1 h2 h3 h4 : Nat} (hy : plainFor y = true) (hyc : y.cls = own) (hlen : (lg_sl av).length ≤ nL)
    (body : ∀ {p : Program} {e : Env} {s : State} {m : MethodId} {args : Array Value} {below : List Frame} {meth : Method} {c : Code}, uC p s m args meth c G own cc nL ret → c.exceptionTable.toList = [{ startPc := h1, endPc := h2, handlerPc := h3, catchType := h4 }] → meth.name = y.name → s.heap.size = u.1 → ∀ ls : Array Slot, lv_has ls nL (lv_args 0 av) → uP G u s.heap → W p l e rm s m args below meth c s.heap [] 0 0 (MQ below Qc args s mc ms (uA G)) (F0 m 0 ls [])) :
    Met l y (wsW_ y cc nL ret [(h1, h2, h3, h4)]) rm (uPc G u av) Qc mc ms (uA G) := by
  refine MetFree.of_bodySF (code := cc) (maxLocals := nL) (ret := ret) hy ?_ ?_
  · intro args s m h hn
    obtain ⟨m9, meth, c, hn9, g1, g2, g3, g4, -, g5, g6, -⟩ := Cond.codeWith_spec (atoms_spec (ws := wsW_ y cc nL ret [(h1, h2, h3, h4)]) h _ List.mem_cons_self)
    cases hn.symm.trans hn9
    exact ⟨meth, c, g1, g2, g3, g4, g5, g6⟩
  · intro p e s m args below meth c s₁ B hml hv _
    obtain ⟨rfl, hP, hK, hb0, hZ⟩ := hv
    have hts := atoms_spec (ws := wsW_ y cc nL ret [(h1, h2, h3, h4)]) B.pre
    obtain ⟨m9, meth9, c9, hn9, g1, g2, -, -, g4, -⟩ := Cond.codeWith_spec (hts _ List.mem_cons_self)
    cases B.named.symm.trans hn9
    cases B.method.symm.trans g1
    cases (Stand.of_body B).code.symm.trans g2
    have hE : c.exceptionTable.toList = [{ startPc := h1, endPc := h2, handlerPc := h3, catchType := h4 }] := by
      rcases hc : c.exceptionTable.toList with _ | ⟨z, zs⟩
      · rw [hc] at g4; cases g4
      · rw [hc, List.map_cons] at g4
        obtain ⟨z1, z2, z3, z4⟩ := z
        cases zs with
        | nil =>
          have g5 := (List.cons.inj g4).1
          simp only [Prod.mk.injEq] at g5
          obtain ⟨rfl, rfl, rfl, rfl⟩ := g5
          rfl
        | cons a b => cases (List.cons.inj g4).2
    have hts : ∀ w ∈ lw_all, w.before _ s = true := fun w h => hts w (List.mem_cons_of_mem _ h)
    have hh0 : s₁.heap = s.heap := by rw [B.state]; rfl
    have hb := body (e := e) (below := below) ⟨⟨B.exec, B.bytes, hml, hyc ▸ findClass_of_methodNamed B.named, hts⟩, hK, ⟨hb0, hZ⟩, B.returns, B.notSynchronized⟩ hE (name_of_methodNamed B.named B.method).1 hP.1 _ (lv_entry av hlen) hP
    rw [← lg_entry_eq] at hb
    obtain ⟨t, a1, o, b1, b2, b3⟩ := hb s₁ hh0 (Stand.of_body B)
    exact ⟨t, o, a1, b1, b2, ⟨b3.1, b3.2⟩⟩
end UROWS9

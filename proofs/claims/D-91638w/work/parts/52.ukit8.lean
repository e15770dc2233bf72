/-! THE HEAP's KIT, 8: methods that throw -/
/-- what a method that threw leaves -/
def uXQ (G : uG) (x : Nat) (u : UH) (mc ms : Nat) (st : State) (o : Outcome) (t : State) : Prop :=
  o = .threw x ∧ uP G u t.heap ∧ va_F (uA G) st t ∧ st.WarmedH t.vm ∧ ∃ L : List Loc, st.sameButNew ({ t with vm := st.vm } : State) L mc ms ∧ ∀ q ∈ L, uA G q.base
/-- a contract: from such a heap it throws what lies at x -/
def uMX (l : Launch) (y : MethodName) (ws : List Cond) (rm : Room) (G : uG) (u : UH) (av : List Value) (x : Nat) (uf : UH) (mc ms : Nat) : Prop :=
  MetFree l y (headSpec ws rm) (uPc G u av) (fun _ _ _ _ _ => True) (fun _ st o t => uXQ G x uf mc ms st o t)
/-- the end of a walk that throws -/
def uMQX (below : List Frame) (G : uG) (x : Nat) (u : UH) (s : State) (mc ms : Nat) : State → Prop := fun t => ∃ o, t.status = .running ∧ Ended t below o ∧ uXQ G x u mc ms s o t
theorem uSF (v : State) (vm' : Vm) (F K : List Frame) : ((v.setFrames F).setVm vm').setFrames K = (v.setVm vm').setFrames K := by
  have h1 : (v.setFrames F).setVm vm' = (v.setVm vm').setFrames F := rfl
  rw [h1, State.setFrames_setFrames]
/-- the search ends in a handler, and notes the class that it asked for -/
def uFinds (e : Env) (s : State) (f : JFrame) (a : Addr) (pc : Nat) (vm' : Vm) : Prop := ∀ (Q : Handler → Pre) (E : CtlPost) (d : Bool) (acts : List Action), wp (findHandler f a) Q E e d acts s ↔ Q (.found pc) d acts (s.setVm vm')
theorem u_stepX {e : Env} {s : State} {a : Addr} {f : JFrame} {r : List Frame} {pc : Nat} {vm' : Vm} (hfind : uFinds e s f a pc vm') : (stepThrowing e s a (.java f :: r)).Is ((s.setVm vm').setFrames (.java { f with pc := pc, stack := [.ref a] } :: r)) [] := by
  simp only [stepThrowing, searchFrame, vmDo]
  generalize hr : Sem.go _ e false [] s = res
  obtain ⟨as, rfl, ha⟩ := Sem.eq_ok_of hr (a := Handler.found pc) (s' := s.setVm vm') (acts' := []) (by simp [hfind _ _ _ _])
  exact ⟨rfl, ha⟩
theorem u_caught {tb : Tables} {e : Env} {s target : State} {g : JFrame} {c : Code} {below : List Frame} {a : Addr} (h : At s g.method c below) {pc : Nat} {vm' : Vm} (hfind : uFinds e ((s.setTop g).pushFrame (.throwing a)) g a pc vm') (hrest : Steps tb e below ((s.setVm vm').setTop { g with pc := pc, stack := [.ref a] }) target) : Steps tb e below ((s.setTop g).pushFrame (.throwing a)) target := by
  obtain ⟨hgo, hw⟩ := h.throwing a
  refine Steps.head hgo hw ?_
  rw [stepThread_throwing (frames_entered h.top _), (u_stepX (s := (s.setTop g).pushFrame (.throwing a)) hfind).1]
  obtain ⟨g₀, hg⟩ := Option.isSome_iff_exists.mp h.top
  obtain ⟨r, hr⟩ := State.topJava?_eq_some.mp hg
  have hr' : (s.setVm vm').frames = .java g₀ :: r := hr
  rw [State.setTop_of_frames _ hr'] at hrest
  rw [hr, List.tail_cons, State.pushFrame, uSF, State.setTop_of_frames _ hr, uSF]
  exact hrest
section UROWS8
variable {p : Program} {l : Launch} {e : Env} {R : Room} {s : State} {m : MethodId} {args : Array Value} {below : List Frame} {meth : Method} {c : Code} {H : Heap} {locs : List Loc} {cells slots : Nat} {Q : State → Prop}
variable {cc : ByteArray} {pc nL : Nat} {ls : Array Slot} {rest st : List Value} {G : uG} {u u' uf : UH} {ret : Option FieldType} {own : String} {a t x : Nat} {cA : ClassId} {mc ms : Nat}
theorem u_athrow (hC : uC p s m args meth c G own cc nL ret) (hE : ∀ z ∈ c.exceptionTable.toList, covers z pc = false) (hP : uP G u H) (hS : va_S (uA G) s.heap H locs) (hdg : decode cc pc = .ok (.athrow, 1)) : W p l e R s m args below meth c H locs cells slots (uMQX below G x u s cells slots) (F0 m pc ls (.ref x :: rest)) := by
  intro T hT X
  obtain ⟨h1, h2, h3, h4, h5⟩ := X.athrowLeaves hC.1.1 (g := F0 m pc ls (.ref x :: rest)) rfl rfl rfl hE (a := x) (rest := rest) rfl (by rw [hC.1.2.1]; exact hdg) hC.2.2.2.2
  exact ⟨_, h1, .threw x, h2, h3, rfl, (by show uP G u T.heap; rw [hT]; exact hP), hS.F hT, h4, locs, h5, hS.2.2⟩
/-- what a call that throws does to the walk: it stands with the note laid over its frame -/
def uRunX (p : Program) (l : Launch) (e : Env) (R : Room) (s : State) (m : MethodId) (args : Array Value) (below : List Frame) (meth : Method) (c : Code) (H : Heap) (locs : List Loc) (cells slots mc ms : Nat) (g : JFrame) (rest : List Value) (G : uG) (x : Nat) (uf : UH) : Prop :=
  ∀ T : State, T.heap = H → Stand p l e R s m args below meth c T locs cells slots → ∃ (T' : State) (L : List Loc), Stand p l e R s m args below meth c T' (locs ++ L) (cells + mc) (slots + ms) ∧ (∀ q ∈ L, uA G q.base) ∧ uP G uf T'.heap ∧ H.size ≤ T'.heap.size ∧ (∀ q : Nat, q < H.size → ¬ uA G q → T'.heap[q]? = H[q]?) ∧
    ∀ tg, Steps p.tables e below ((T'.setTop { g with stack := rest }).pushFrame (.throwing x)) tg → Steps p.tables e below (T.setTop g) tg
theorem u_thrown {y : MethodName} {ws : List Cond} {rm : Room} {av : List Value} {bytes : ByteArray} {maxL : Nat} {U : State} (hM : uMX l y ws rm G u av x uf mc ms) (X : Stand p l e R s m args below meth c U locs cells slots) {g : JFrame} (hg : g.method = m) (hsize : g.locals.size = c.maxLocals) {ig : Instr} (hdg : decode c.code g.pc = .ok (ig, 3)) (hW : 2 * g.monitorRoom + (g.stack.map fun v => v.category).sum ≤ 8) {mk : MethodId} (hn : U.methodNamed? y = some mk)
    (hrc : rm.cells = mc) (hrs : rm.slots = ms) (hframes : rm.frames + 1 ≤ R.frames) (hlocals : 8 + (maxL + 11) + rm.locals ≤ R.locals) (hws : ∀ w ∈ ws, w.before av.toArray U = true) (hcode : Cond.code y bytes maxL ret ∈ ws) (hinit : (Cond.initialized y.cls).before av.toArray U = true) (hf : cells + mc ≤ R.cells ∧ slots + ms ≤ R.slots) (hpre : uPc G u av av.toArray U) :
    ∃ (B : State) (L : List Loc), Stand p l e R s m args below meth c B (locs ++ L) (cells + mc) (slots + ms) ∧ (∀ q ∈ L, uA G q.base) ∧ uP G uf B.heap ∧ va_F (uA G) U B ∧ Steps p.tables e below (doInvoke e (U.setTop g) [] mk av.toArray).1 ((B.setTop g).pushFrame (.throwing x)) := by
  obtain ⟨methY, cY, hmY, hcY, -, hlY, -, -, -, -⟩ := Cond.code_spec hn (hws _ hcode)
  obtain ⟨kY, hkY, -⟩ := className_of_methodNamed hn
  have hinitY : kY.init = .initialized := Cond.initialized_spec (findClass_of_methodNamed hn) hkY hinit
  have h : At U g.method c below := by rw [hg]; exact X.here
  have happ : (headSpec ws rm).appliesLoose y e.platform (U.calling g mk av.toArray) = true :=
    Spec.appliesLoose_calling (g := g) h hdg hn hkY hinitY (X.room_calling (g := g) (R' := rm) hsize hmY hcY hframes (by rw [hlY]; omega) (by rw [hrc]; exact hf.1) (by rw [hrs]; exact hf.2)) (atoms_intro fun w hw => hws w hw)
  obtain ⟨mid, hmid⟩ := h.above
  have hfr : (U.setTop g).frames = (.java g :: mid) ++ below := by rw [State.frames_setTop' g h.top, hmid]; rfl
  obtain ⟨o, s₂, hsteps, -, hend, hq⟩ := Steps.callFree hM p X.admits X.cas X.clock (acts := []) hfr happ (uPc_blind _ _ _ _ hpre) trivial
  have hq' : uXQ G x uf mc ms (U.calling g mk av.toArray) o s₂ := hq
  rw [State.frames_setTop' g h.top] at hend
  obtain ⟨rfl, hP2, hF2, hW₂, L, ⟨e2, q2, q3, q4, q5, q6⟩, hL⟩ := hq'
  have e3 : s₂ = ({ (U.calling g mk av.toArray).setFrames s₂.frames with heap := s₂.heap, slotsUsed := s₂.slotsUsed } : State).setVm s₂.vm := by
    have : s₂ = ({ s₂ with vm := (U.calling g mk av.toArray).vm } : State).setVm s₂.vm := rfl
    rw [e2] at this
    exact this
  have hf₂ : s₂.frames = .throwing x :: .java g :: U.frames.tail := hend
  have hW' : U.WarmedH s₂.vm := hW₂
  obtain ⟨g₀, hg0⟩ := Option.isSome_iff_exists.mp h.top
  obtain ⟨r, hr⟩ := State.topJava?_eq_some.mp hg0
  have hs₂ : s₂ = ((({ U with heap := s₂.heap, slotsUsed := s₂.slotsUsed } : State).setVm s₂.vm).setTop g).pushFrame (.throwing x) := by
    have hr' : (({ U with heap := s₂.heap, slotsUsed := s₂.slotsUsed } : State).setVm s₂.vm).frames = .java g₀ :: r := hr
    refine e3.trans ?_
    rw [hf₂, State.calling_eq h.top, State.setFrames_setFrames, State.pushFrame, State.frames_setTop _ hr', State.setTop_of_frames _ hr', State.setFrames_setFrames, hr]
    rfl
  have hsame : U.sameButNew ({ U with heap := s₂.heap, slotsUsed := s₂.slotsUsed } : State) L mc ms := by
    refine ⟨?_, q2, q3, q4, q5, q6⟩
    obtain ⟨t, ht, -⟩ := State.frames_cons hr
    show ({ U with heap := s₂.heap, slotsUsed := s₂.slotsUsed } : State) = { U.setFrames U.frames with heap := s₂.heap, slotsUsed := s₂.slotsUsed }
    rw [State.setFrames_self ht]
  subst hg
  refine ⟨(({ U with heap := s₂.heap, slotsUsed := s₂.slotsUsed } : State).setVm s₂.vm), L, ⟨X.admits, X.cas, X.clock, X.frames, X.room, X.hears, X.method, X.code, (X.here.setHeapUsed s₂.heap s₂.slotsUsed).setVm hW'.alike, X.tail, State.WarmedH.trans X.warmed hW', X.limits, X.bytes, X.same.trans (hsame.setVm s.vm)⟩, hL, hP2, hF2, ?_⟩
  rw [← hs₂]
  exact hsteps
theorem u_runVX {y : MethodName} {ws : List Cond} {rm : Room} {bytes : ByteArray} {maxL n index : Nat} {ret' : Option FieldType} {C : String} {b : Addr} {As : List Value} {g : JFrame} {nL' : Nat} {cc' : ByteArray}
    (S : CallFix p m c cc' nL' s args lw_all own) (hM : uMX l y ws rm G u (.ref b :: As) x uf mc ms) (cw : CallW R s args own C index y bytes maxL ret' ws rm mc ms n) (hp : PreV s H C b (uPc G u (.ref b :: As)) As)
    (hg : g.method = m) (hn : As.length = n) (hsize : g.locals.size = nL') (hstack : g.stack = As.reverse ++ .ref b :: rest) (hW : 2 * g.monitorRoom + (rest.map fun v => v.category).sum ≤ 8) (hdg : decode cc' g.pc = .ok (.invokevirtual index, 3)) (hf : cells + mc ≤ R.cells ∧ slots + ms ≤ R.slots) :
    uRunX p l e R s m args below meth c H locs cells slots mc ms g rest G x uf := by
  obtain ⟨⟨hrc, hrs, hfr, hlo, hws, hcw, hcode, hini, hy, hlen, hl⟩, hin, hse⟩ := cw
  obtain ⟨hx, hb, hml, ho, -⟩ := S
  obtain ⟨-, ⟨cellB, hcB, hoB, hclB⟩, hPc⟩ := hp
  intro T hT X
  obtain ⟨mk, methM, hnamed, hmethM, hstM, habM⟩ := Cond.instanceMethod_spec hin
  obtain ⟨methM', cM, hmethM', -, -, -, -, -, -, hsigM⟩ := Cond.code_spec hnamed hcode
  cases hmethM.symm.trans hmethM'
  obtain ⟨c2, r2, m2, q1, q2, q3, q4, kP, hkP, hkPi⟩ := Cond.selects_spec hse
  cases hclB.symm.trans q1
  cases (State.methodFound?_of_named hnamed hy).symm.trans q2
  cases hnamed.symm.trans q3
  have hselP : selectMethod e.platform s.vm cellB.cls mk = .method mk := by rw [Launch.admits_selectMethod X.admits]; exact q4
  obtain ⟨vm₁, X₁, hstep₁⟩ := X.invokevirtual hx ho hl hnamed hmethM hstM hkP hkPi hy (a := b) (cell := cellB) (by rw [hT]; exact hcB)
    (fun z h => by rw [h] at hoB; cases hoB) hselP hmethM habM hkP hkPi (g := g) hg (argsL := As) (rest := rest) (hn.trans (hlen _ hsigM)) hstack (by rw [hb]; exact hdg)
  obtain ⟨B, L, X', hL, hP2, hF2, hsteps⟩ := u_thrown hM X₁ (g := { g with stack := rest }) hg (hsize.trans hml.symm) (by rw [hb]; exact hdg) hW (X₁.named hnamed) hrc hrs hfr hlo (fun w hw => hws w hw _ _ X₁.warmed) hcw (word_at X₁.warmed (Or.inl (by first | rfl | simp [Cond.onTables, Cond.keeps, Cond.steady])) hini) hf (hPc _ hT X₁.warmed)
  have hh : (T.setVm vm₁).heap = H := hT
  refine ⟨B, L, X', hL, hP2, by rw [← hh]; exact hF2.1, fun q h1 h2 => by rw [← hh] at h1; rw [hF2.2 q h1 h2, hh], fun tg htg => hstep₁ _ fun acts => ?_⟩
  rw [doInvoke_state]
  exact hsteps.trans htg
/-- no handler: what the callee threw goes on -/
theorem u_callX (hC : uC p s m args meth c G own cc nL ret) (hE : ∀ z ∈ c.exceptionTable.toList, covers z pc = false) (hr : uRunX p l e R s m args below meth c H locs cells slots mc ms (F0 m pc ls st) rest G x uf) (hS : va_S (uA G) s.heap H locs) {mc' ms' : Nat} (hmc : cells + mc = mc') (hms : slots + ms = ms') : W p l e R s m args below meth c H locs cells slots (uMQX below G x uf s mc' ms') (F0 m pc ls st) := by
  subst hmc
  subst hms
  intro T hT X
  obtain ⟨T', L, X', hL, hP, hz, hk, hgo⟩ := hr T hT X
  obtain ⟨h1, h2, h3, h4, h5⟩ := X'.leaveThrown x (g := { F0 m pc ls st with stack := rest }) rfl rfl rfl hE hC.2.2.2.2
  refine ⟨_, hgo _ h1, .threw x, h2, h3, rfl, hP, ⟨Nat.le_trans hS.1 hz, fun q g1 g2 => ?_⟩, h4, locs ++ L, h5, fun q hq => ?_⟩
  · exact (hk q (Nat.lt_of_lt_of_le g1 hS.1) g2).trans (hS.2.1 q g1 g2)
  · rcases List.mem_append.mp hq with h | h
    · exact hS.2.2 q h
    · exact hL q h
/-- a handler of the method's own takes it -/
theorem u_callC (hC : uC p s m args meth c G own cc nL ret) {z : ExceptionTableEntry} {hpc ci index N : Nat} {C : String} {Ty : u_T} (hE : c.exceptionTable.toList = [z]) (hz : covers z pc = true) (h0 : z.catchType = index) (h00 : index ≠ 0) (hh : z.handlerPc = hpc) (hc : gCl[ci]? = some (C, Ty, N)) (hlink : (Cond.classLink own index C) ∈ lw_all) (hi : uIs uf x ci = true)
    (hr : uRunX p l e R s m args below meth c H locs cells slots mc ms (F0 m pc ls st) rest G x uf) (hS : va_S (uA G) s.heap H locs)
    (kk : ∀ (H1 : Heap) (locs1 : List Loc), uP G uf H1 → va_S (uA G) s.heap H1 locs1 → W p l e R s m args below meth c H1 locs1 (cells + mc) (slots + ms) Q (F0 m hpc ls [.ref x])) : W p l e R s m args below meth c H locs cells slots Q (F0 m pc ls st) := by
  intro T hT X
  obtain ⟨T', L, X', hL, hP, hzz, hk, hgo⟩ := hr T hT X
  obtain ⟨cell, c1, c2, c3⟩ := u_rcv hC hP hi hc
  have hpl : e.platform.magicAccessors = ({} : Platform).magicAccessors := by rw [X.admits.platform]
  obtain ⟨c', hc', hcl⟩ := Cond.classLink_spec hC.1.2.2.2.1 (hC.1.2.2.2.2 _ hlink) e.platform hpl
  cases c3.symm.trans hc'
  obtain ⟨dk, _, _, kt, hd, _, _, _, _, hkt, _, hopen⟩ := hcl.here
  have hcl₀ := X'.warmed.classLinks hcl
  have hW' : s.WarmedH (T'.vm.noted m.cls index (.cls cell.cls)) := X'.warmed.noted hd hopen (State.rightAt_cls hcl)
  have hal := X'.warmed.alike
  obtain ⟨kt', hkt', -⟩ := hal.2.2 _ _ hkt
  have X2 := X'.noted hW'
  obtain ⟨t, t1, t2⟩ := kk T'.heap (locs ++ L) hP ⟨Nat.le_trans hS.1 hzz, fun q g1 g2 => (hk q (Nat.lt_of_lt_of_le g1 hS.1) g2).trans (hS.2.1 q g1 g2), fun q hq => by
    rcases List.mem_append.mp hq with h | h
    · exact hS.2.2 q h
    · exact hL q h⟩ (T'.setVm (T'.vm.noted m.cls index (.cls cell.cls))) rfl X2
  refine ⟨t, hgo _ ?_, t2⟩
  have hfind : uFinds e ((T'.setTop (F0 m pc ls rest)).pushFrame (.throwing x)) (F0 m pc ls rest) x hpc (T'.vm.noted m.cls index (.cls cell.cls)) := by
    intro Q E d acts
    rw [Jvm.W.findHandler_eq (meth := meth) (code := c) X'.method' X'.code, hE]
    have hx1 : covers z (F0 m pc ls rest).pc = true := hz
    simp only [covers] at hx1
    obtain ⟨ha, ht⟩ := (resolveClass_links e.toSetting hcl₀).op (op := VmOp.resolveClass m.cls index) rfl
    have hal2 : T'.vm.Alike (T'.vm.noted m.cls index (.cls cell.cls)) := (Vm.Alike.refl T'.vm).noted _ _ _
    obtain ⟨k2', hk2', -⟩ := hal2.2.2 _ _ hkt'
    have hfit' : (T'.vm.noted m.cls index (.cls cell.cls)).assignable cell.cls cell.cls = true := va_asg _ _
    simp [findHandler.go, hx1, h0, h00, hh, ha, ht, Stand.throwing_vm, Stand.throwing_heap, c1, VmData.ne_statics_of c2, hk2', hfit', VmOp.dirties, VmOp.acts]
  exact u_caught (g := F0 m pc ls rest) X'.here hfind t1
end UROWS8

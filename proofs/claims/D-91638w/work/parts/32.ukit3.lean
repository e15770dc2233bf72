/-! THE HEAP's KIT, 3: new cells, calls, ends, a method out of its walk -/
def uDefs (ty : Nat → FieldType) (N : Nat) : List Value := (List.range N).map fun j => defaultValue (ty j)
theorem uDefs_at {ty : Nat → FieldType} {N j : Nat} (h : j < N) : vp_V (uDefs ty N) j = defaultValue (ty j) := by
  simp [vp_V, uDefs, h]
theorem uDefs_len {ty : Nat → FieldType} {N : Nat} : (uDefs ty N).length = N := by simp [uDefs]
def uPc (G : uG) (u : UH) (av : List Value) : Array Value → State → Prop := va_Pc av (fun U => uP G u U.heap ∧ uK G U ∧ ub G ≤ U.heap.size ∧ uZ G U U.heap)
def uQi (G : uG) (r : Int32) (u : UH) := va_Qi (fun (r' : Int32) (x : UH) => r' = r ∧ x = u) (fun x t => uP G x t.heap) (uA G)
def uQl (G : uG) (r : Int64) (u : UH) := va_Ql (fun (r' : Int64) (x : UH) => r' = r ∧ x = u) (fun x t => uP G x t.heap) (uA G)
def uQv (G : uG) (u : UH) := va_Qv (fun (x : UH) => x = u) (fun x t => uP G x t.heap) (uA G)
def uQr (G : uG) (r : Option Nat) (u : UH) := va_Qq (fun (r' : Option Nat) (x : UH) => r' = r ∧ x = u) (fun x t => uP G x t.heap) (uA G)
theorem uPc_blind {G : uG} {u : UH} {av : List Value} : FrameBlind (uPc G u av) := by
  intro a U g mk q
  obtain ⟨q0, qP, qK, qb, qZ⟩ := q
  exact ⟨q0, qP, uK.same (u := U) (U := U.calling g mk a) rfl qK, qb, uZ.same (u := U) (U := U.calling g mk a) rfl qZ⟩
section UROWS3
variable {p : Program} {l : Launch} {e : Env} {R : Room} {s : State} {m : MethodId} {args : Array Value} {below : List Frame} {meth : Method} {c : Code} {H : Heap} {locs : List Loc} {cells slots : Nat} {Q : State → Prop}
variable {cc : ByteArray} {pc nL : Nat} {ls : Array Slot} {rest st : List Value} {G : uG} {u u' : UH} {ret : Option FieldType} {own : String} {a t : Nat} {cA : ClassId}
theorem u_sz (hC : uC p s m args meth c G own cc nL ret) (hP : uP G u H) (hS : va_S (uA G) s.heap H locs) : ub G ≤ u.1 := by
  rw [← hP.1]
  exact Nat.le_trans hC.2.2.1.1 hS.1
theorem u_new (hC : uC p s m args meth c G own cc nL ret) (hP : uP G u H) (hS : va_S (uA G) s.heap H locs) {C : String} {T : u_T} {N ci index : Nat} (hc : gCl[ci]? = some (C, T, N)) (hin : ∀ w ∈ u_ws C T N, w ∈ lw_all) (ty : Nat → FieldType) (hty : ∀ k, k < N → parseFieldDescriptor (T k).2.2.1 = some (ty k)) (hcl : (Cond.classLink own index C) ∈ lw_all) (hinst : (Cond.instantiable C N) ∈ lw_all) (hini : (Cond.initialized C) ∈ lw_all) (hcells : cells + 1 ≤ R.cells) (hslots : slots + N ≤ R.slots) (hdg : decode cc pc = .ok (.new index, 3))
    (kk : ∀ H1 : Heap, uP G (uNew u N (.inr (ci, uDefs ty N))) H1 → va_S (uA G) s.heap H1 locs → W p l e R s m args below meth c H1 locs (cells + 1) (slots + N) Q (F0 m (pc + 3) ls (.ref u.1 :: rest))) : W p l e R s m args below meth c H locs cells slots Q (F0 m pc ls rest) := by
  have hb0 := u_sz hC hP hS
  obtain ⟨⟨hx, hb, hml, hown, hts⟩, hK, -⟩ := id hC
  have hKn := hK.1.1 ci _ hc
  refine W.newcK hx hb hown (hts _ hcl) (hts _ hinst) (hts _ hini) rfl hdg hcells hslots hKn.2.1 hP.1 fun H1 kC hkC e1 z1 o1 => ?_
  obtain ⟨cell, b1, b2, b3, b4⟩ := u_born ty hts hin hKn hkC e1 hty
  have o1 : ∀ q : Nat, q < H.size → H1[q]? = H[q]? := fun q hq => o1 q (by rw [← hP.1]; exact hq)
  refine kk H1 (hP.new (by rw [z1, hP.1]) ⟨(C, T, N), cell, hc, b1, b2, ⟨(by rw [b3]; exact fun h => (by cases h)), (by rw [b3]; rfl), fun _ => b3⟩, uDefs_len, fun k hk => by rw [uDefs_at hk]; exact b4 k hk⟩ o1) ⟨Nat.le_trans hS.1 (by rw [z1, hP.1]; omega), fun q h1 h2 => (o1 q (Nat.lt_of_lt_of_le h1 hS.1)).trans (hS.2.1 q h1 h2), hS.2.2⟩
theorem u_newa (hC : uC p s m args meth c G own cc nL ret) (hP : uP G u H) (hS : va_S (uA G) s.heap H locs) {atype : ArrayType} (harr : (Cond.arrayClass (newarray.typeOf atype)) ∈ lw_all) (ht : (uTys G)[t]? = some (cA, newarray.typeOf atype)) {n : Int32} {N : Nat} {x : (Nat → Int32) ⊕ (Nat → Int64) ⊕ (Nat → UInt32) ⊕ (Nat → UInt64) ⊕ (Nat → Option Nat)} (hx0 : ∀ j : Nat, uV x j = defaultValue (newarray.typeOf atype)) (hn : ¬ n < 0) (hN : n.toNatClampNeg = N) (hbytes : N * componentBytes (newarray.typeOf atype) ≤ 536870912) (hcells : cells + 1 ≤ R.cells) (hslots : slots + N ≤ R.slots) (hdg : decode cc pc = .ok (.newarray atype, 2))
    (kk : ∀ H1 : Heap, uP G (uNew u N (.inl (t, N, x))) H1 → va_S (uA G) s.heap H1 locs → W p l e R s m args below meth c H1 locs (cells + 1) (slots + N) Q (F0 m (pc + 2) ls (.ref u.1 :: rest))) (h7 : t < 7 := by decide) : W p l e R s m args below meth c H locs cells slots Q (F0 m pc ls (.int n :: rest)) := by
  have hb0 := u_sz hC hP hS
  obtain ⟨⟨hx, hb, hml, hown, hts⟩, hK, -⟩ := id hC
  refine va_newaK hx hb (hts _ harr) rfl hdg rfl hn hN hbytes hcells hslots hP.1 fun H1 cA' e1 z1 o1 hAr hNm => ?_
  have hcA : cA' = cA := by
    have h1 := (hK.1.2 t _ (by rw [← uTy_lt h7]; exact ht)).2
    have h2 : s.vm.findClass ("[" ++ (newarray.typeOf atype).toString) = some cA := by cases atype <;> exact h1
    exact Option.some.inj (hNm.symm.trans h2)
  subst hcA
  have o1 : ∀ q : Nat, q < H.size → H1[q]? = H[q]? := fun q hq => o1 q (by rw [← hP.1]; exact hq)
  refine kk H1 (hP.new (by rw [z1, hP.1]) ⟨_, _, ht, e1, rfl, ⟨fun h => (by cases h), rfl, fun _ => rfl⟩, ⟨Nat.le_of_eq (arrV_size _ _ _).symm, (by rw [arrV_size])⟩, fun j hj => ?_⟩ o1) ⟨Nat.le_trans hS.1 (by rw [z1, hP.1]; omega), fun q h1 h2 => (o1 q (Nat.lt_of_lt_of_le h1 hS.1)).trans (hS.2.1 q h1 h2), hS.2.2⟩
  show (arrV _ _ _).slots[j]? = some (uV x j)
  rw [hx0 j]
  exact arrV_read _ _ hj
theorem u_anew (hC : uC p s m args meth c G own cc nL ret) (hP : uP G u H) (hS : va_S (uA G) s.heap H locs) {C : String} {index : Nat} (hcl : (Cond.classLink own index C) ∈ lw_all) (hover : va_AO C s) (ht : (uTys G)[t]? = some (cA, .object C)) {n : Int32} {N : Nat} (hn : ¬ n < 0) (hN : n.toNatClampNeg = N) (hbytes : N * 4 ≤ 536870912) (hcells : cells + 1 ≤ R.cells) (hslots : slots + N ≤ R.slots) (hdg : decode cc pc = .ok (.anewarray index, 3))
    (kk : ∀ H1 : Heap, uP G (uNew u N (.inl (t, N, .inr (.inr (.inr (.inr (fun _ => none))))))) H1 → va_S (uA G) s.heap H1 locs → W p l e R s m args below meth c H1 locs (cells + 1) (slots + N) Q (F0 m (pc + 3) ls (.ref u.1 :: rest))) : W p l e R s m args below meth c H locs cells slots Q (F0 m pc ls (.int n :: rest)) := by
  have hb0 := u_sz hC hP hS
  obtain ⟨⟨hx, hb, hml, hown, hts⟩, hK, -⟩ := id hC
  subst hN
  refine W.anew hx hb hown (hts _ hcl) (va_AO.use hover) rfl hdg rfl hn hbytes hcells hslots fun cA' kA comp f1 f2 f3 f4 => ?_
  have hcA : cA' = cA := by
    obtain ⟨_, _, _, _, _, h1⟩ := (hC.ra ht)
    exact Option.some.inj (f1.symm.trans h1)
  subst hcA
  rw [hP.1]
  generalize hH1 : H.push ({ cls := cA', slots := Array.replicate n.toNatClampNeg .null, vm := .none } : Cell) = H1
  have z1 : H1.size = H.size + 1 := by rw [← hH1, Array.size_push]
  have e1 : H1[u.1]? = some (arrV cA' n.toNatClampNeg (fun _ => .null)) := by rw [← hH1, ← hP.1, Array.getElem?_push_size, ← arrV_new]
  have o1 : ∀ q : Nat, q < H.size → H1[q]? = H[q]? := fun q hq => by rw [← hH1, Array.getElem?_push, if_neg (Nat.ne_of_lt hq)]
  refine kk H1 (hP.new z1 ⟨_, _, ht, e1, rfl, ⟨fun h => (by cases h), rfl, fun _ => rfl⟩, ⟨Nat.le_of_eq (arrV_size _ _ _).symm, (by rw [arrV_size])⟩, fun j hj => ?_⟩ o1) ⟨Nat.le_trans hS.1 (by rw [z1]; omega), fun q h1 h2 => (o1 q (Nat.lt_of_lt_of_le h1 hS.1)).trans (hS.2.1 q h1 h2), hS.2.2⟩
  exact arrV_read _ _ hj
theorem u_pre {av : List Value} {U : State} (hC : uC p s m args meth c G own cc nL ret) (hP : uP G u H) (hS : va_S (uA G) s.heap H locs) (hU : U.heap = H) (hW : s.WarmedH U.vm) : uPc G u av av.toArray U :=
  ⟨rfl, by rw [hU]; exact hP, hC.2.1.warm hW, by rw [hU]; exact Nat.le_trans hC.2.2.1.1 hS.1, by rw [hU]; exact hC.2.2.1.2.warm hW hS.2.1⟩
/-- a receiver of a class -/
def uIs (u : UH) (a ci : Nat) : Bool := match u.2.2 a with
  | some (.inr (c, _)) => c == ci
  | _ => false
theorem u_rcv {C : String} {T : u_T} {N ci : Nat} (hC : uC p s m args meth c G own cc nL ret) (hP : uP G u H) (hi : uIs u a ci = true) (hc : gCl[ci]? = some (C, T, N)) : ∃ cell : Cell, H[a]? = some cell ∧ cell.vm.isStatics = false ∧ s.vm.findClass C = some cell.cls := by
  unfold uIs at hi
  split at hi
  · rename_i c0 fs he
    have : c0 = ci := by simpa using hi
    subst this
    obtain ⟨r, cell, h1, q1, q2, q3, -⟩ := hP.2 a _ he
    cases hc.symm.trans h1
    exact ⟨cell, q1, q3.2.1, by rw [q2]; exact (hC.2.1.1.1 c0 _ hc).2.1⟩
  · cases hi
variable {mc ms : Nat} {aa : Array Value}
theorem u_calli {r : Int32} (hr : va_Run p l e R s m args below meth c H locs cells slots mc ms (F0 m pc ls st) rest (uQi G r u' aa) (uA G)) (hS : va_S (uA G) s.heap H locs)
    (kk : ∀ (H1 : Heap) (locs1 : List Loc), uP G u' H1 → va_S (uA G) s.heap H1 locs1 → W p l e R s m args below meth c H1 locs1 (cells + mc) (slots + ms) Q (F0 m (pc + 3) ls (.int r :: rest))) : W p l e R s m args below meth c H locs cells slots Q (F0 m pc ls st) :=
  va_calli hr hS (fun _ _ h => h) (fun _ h => h) (fun r' x t H1 locs1 ht hvm hw hB hz hk hS1 => by obtain ⟨rfl, rfl⟩ := hw; exact kk H1 locs1 (by rw [← ht]; exact hB) hS1)
theorem u_calll {r : Int64} (hr : va_Run p l e R s m args below meth c H locs cells slots mc ms (F0 m pc ls st) rest (uQl G r u' aa) (uA G)) (hS : va_S (uA G) s.heap H locs)
    (kk : ∀ (H1 : Heap) (locs1 : List Loc), uP G u' H1 → va_S (uA G) s.heap H1 locs1 → W p l e R s m args below meth c H1 locs1 (cells + mc) (slots + ms) Q (F0 m (pc + 3) ls (.long r :: rest))) : W p l e R s m args below meth c H locs cells slots Q (F0 m pc ls st) :=
  va_calll hr hS (fun _ _ h => h) (fun _ h => h) (fun r' x t H1 locs1 ht hvm hw hB hz hk hS1 => by obtain ⟨rfl, rfl⟩ := hw; exact kk H1 locs1 (by rw [← ht]; exact hB) hS1)
theorem u_callv (hr : va_Run p l e R s m args below meth c H locs cells slots mc ms (F0 m pc ls st) rest (uQv G u' aa) (uA G)) (hS : va_S (uA G) s.heap H locs)
    (kk : ∀ (H1 : Heap) (locs1 : List Loc), uP G u' H1 → va_S (uA G) s.heap H1 locs1 → W p l e R s m args below meth c H1 locs1 (cells + mc) (slots + ms) Q (F0 m (pc + 3) ls rest)) : W p l e R s m args below meth c H locs cells slots Q (F0 m pc ls st) :=
  va_callv hr hS (fun _ _ h => h) (fun _ h => h) (fun x t H1 locs1 ht hvm hw hB hz hk hS1 => by cases hw; exact kk H1 locs1 (by rw [← ht]; exact hB) hS1)
theorem u_callr {r : Option Nat} (hr : va_Run p l e R s m args below meth c H locs cells slots mc ms (F0 m pc ls st) rest (uQr G r u' aa) (uA G)) (hS : va_S (uA G) s.heap H locs)
    (kk : ∀ (H1 : Heap) (locs1 : List Loc), uP G u' H1 → va_S (uA G) s.heap H1 locs1 → W p l e R s m args below meth c H1 locs1 (cells + mc) (slots + ms) Q (F0 m (pc + 3) ls (va_rf r :: rest))) : W p l e R s m args below meth c H locs cells slots Q (F0 m pc ls st) :=
  va_callq hr hS (fun _ _ h => h) (fun _ h => h) (fun r' x t H1 locs1 ht hvm hw hB hz hk hS1 => by obtain ⟨rfl, rfl⟩ := hw; exact kk H1 locs1 (by rw [← ht]; exact hB) hS1)
/-- ends -/
theorem u_iret {r : Int32} (hC : uC p s m args meth c G own cc nL (some .int)) (hP : uP G u H) (hS : va_S (uA G) s.heap H locs) (hdg : decode cc pc = .ok (.ireturn, 1)) : W p l e R s m args below meth c H locs cells slots (MQ below (uQi G r u) args s cells slots (uA G)) (F0 m pc ls [.int r]) :=
  W.iret hC.1.1 hC.1.2.1 hC.2.2.2.1 (fun t ht hW => ⟨⟨r, u, rfl, ⟨rfl, rfl⟩, (by show uP G u t.heap; rw [ht]; exact hP)⟩, hS.F ht⟩) hS.2.2 hdg hC.2.2.2.2
theorem u_zret {r : Int32} {ty : FieldType} (hC : uC p s m args meth c G own cc nL (some ty)) (hr : narrow ty (.int r) = .int r) (hP : uP G u H) (hS : va_S (uA G) s.heap H locs) (hdg : decode cc pc = .ok (.ireturn, 1)) : W p l e R s m args below meth c H locs cells slots (MQ below (uQi G r u) args s cells slots (uA G)) (F0 m pc ls [.int r]) :=
  W.zret hC.1.1 hC.1.2.1 hC.2.2.2.1 hr (fun t ht hW => ⟨⟨r, u, rfl, ⟨rfl, rfl⟩, (by show uP G u t.heap; rw [ht]; exact hP)⟩, hS.F ht⟩) hS.2.2 hdg hC.2.2.2.2
theorem u_lret {r : Int64} (hC : uC p s m args meth c G own cc nL (some .long)) (hP : uP G u H) (hS : va_S (uA G) s.heap H locs) (hdg : decode cc pc = .ok (.lreturn, 1)) : W p l e R s m args below meth c H locs cells slots (MQ below (uQl G r u) args s cells slots (uA G)) (F0 m pc ls [.long r]) :=
  W.lret hC.1.1 hC.1.2.1 hC.2.2.2.1 (fun t ht hW => ⟨⟨r, u, rfl, ⟨rfl, rfl⟩, (by show uP G u t.heap; rw [ht]; exact hP)⟩, hS.F ht⟩) hS.2.2 hdg hC.2.2.2.2
theorem u_vret (hC : uC p s m args meth c G own cc nL none) (hP : uP G u H) (hS : va_S (uA G) s.heap H locs) (hdg : decode cc pc = .ok (.return_, 1)) : W p l e R s m args below meth c H locs cells slots (MQ below (uQv G u) args s cells slots (uA G)) (F0 m pc ls []) :=
  W.vret hC.1.1 hC.1.2.1 hC.2.2.2.1 (fun t ht hW => ⟨⟨u, rfl, rfl, (by show uP G u t.heap; rw [ht]; exact hP)⟩, hS.F ht⟩) hS.2.2 hdg hC.2.2.2.2
theorem u_aret {r : Option Nat} {ty : FieldType} (hC : uC p s m args meth c G own cc nL (some ty)) (hty : (∃ n, ty = .object n) ∨ ∃ t, ty = .array t) (hP : uP G u H) (hS : va_S (uA G) s.heap H locs) (hdg : decode cc pc = .ok (.areturn, 1)) : W p l e R s m args below meth c H locs cells slots (MQ below (uQr G r u) args s cells slots (uA G)) (F0 m pc ls [va_rf r]) :=
  W.aret hC.1.1 hC.1.2.1 hC.2.2.2.1 hty (by cases r with | none => exact Or.inl rfl | some a => exact Or.inr ⟨a, rfl⟩) (fun t ht hW => ⟨⟨r, u, rfl, ⟨rfl, rfl⟩, (by show uP G u t.heap; rw [ht]; exact hP)⟩, hS.F ht⟩) hS.2.2 hdg hC.2.2.2.2
theorem uMet_of {y : MethodName} {ws ws' : List Cond} {rm : Room} {Pc : Array Value → State → Prop} {Qc : Array Value → State → Outcome → State → Prop} {mc ms : Nat} {free : Addr → Prop} {cc : ByteArray} {maxL : Nat} {ret : Option FieldType}
    (hy : plainFor y = true) (hw : ws = Cond.code y cc maxL ret :: ws')
    (body : ∀ p e s m args below meth c s₁, BodyLoose p l y (headSpec ws rm) cc maxL ret e s m args below meth c s₁ → c.maxLocals = maxL → Pc args s →
      W p l e (headSpec ws rm).room s m args below meth c s.heap [] 0 0 (MQ below Qc args s mc ms free) (entryFrame m args maxL)) : Met l y ws rm Pc Qc mc ms free := by
  refine MetFree.of_bodySF (code := cc) (maxLocals := maxL) (ret := ret) hy ?_ ?_
  · intro args s m h hn
    obtain ⟨meth, c, h1, h2, h3, h4, h5, h6, -, -⟩ := Cond.code_spec hn (atoms_spec (ws := ws) h _ (by rw [hw]; exact List.mem_cons_self))
    exact ⟨meth, c, h1, h2, h3, h4, h5, h6⟩
  · intro p e s m args below meth c s₁ B hml hP _
    have hh0 : s₁.heap = s.heap := by rw [B.state]; rfl
    obtain ⟨t, a1, o, b1, b2, b3⟩ := body p e s m args below meth c s₁ B hml hP s₁ hh0 (Stand.of_body B)
    exact ⟨t, o, a1, b1, b2, ⟨b3.1, b3.2⟩⟩
/-- a method out of its walk -/
theorem u_met {y : MethodName} {av : List Value} {rm : Room} {mc ms : Nat} {Qc : Array Value → State → Outcome → State → Prop} (hy : plainFor y = true) (hyc : y.cls = own) (hlen : (lg_sl av).length ≤ nL)
    (body : ∀ {p : Program} {e : Env} {s : State} {m : MethodId} {args : Array Value} {below : List Frame} {meth : Method} {c : Code}, uC p s m args meth c G own cc nL ret → meth.name = y.name → s.heap.size = u.1 → ∀ ls : Array Slot, lv_has ls nL (lv_args 0 av) → uP G u s.heap → W p l e rm s m args below meth c s.heap [] 0 0 (MQ below Qc args s mc ms (uA G)) (F0 m 0 ls [])) :
    Met l y (ws_ y cc nL ret) rm (uPc G u av) Qc mc ms (uA G) := by
  refine uMet_of (cc := cc) (maxL := nL) (ret := ret) hy rfl ?_
  intro p e s m args below meth c s₁ B hml hv
  obtain ⟨rfl, hP, hK, hb0, hZ⟩ := hv
  have hts := atoms_spec (ws := ws_ y cc nL ret) B.pre
  have hts : ∀ w ∈ lw_all, w.before _ s = true := fun w h => hts w (List.mem_cons_of_mem _ h)
  rw [lg_entry_eq]
  exact body ⟨⟨B.exec, B.bytes, hml, hyc ▸ findClass_of_methodNamed B.named, hts⟩, hK, ⟨hb0, hZ⟩, B.returns, B.notSynchronized⟩ (name_of_methodNamed B.named B.method).1 hP.1 _ (lv_entry av hlen) hP
end UROWS3

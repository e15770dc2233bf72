/-! THE HEAP's KIT: an abstract heap (its size, the slots made so far, the cells by address); rows for fields, arrays, new cells -/
/-- an array: its type's place, its length, what it holds; an object: its class's place, its fields -/
abbrev uE : Type := (Nat × vp_A) ⊕ (Nat × List Value)
abbrev UH : Type := Nat × Nat × (Nat → Option uE)
/-- all classes whose objects are pictured -/
def gCl : List vw_C := [(RX1, TX1, 16), (RX2, TX2, 9), (RX3, TX3, 75), (RX4, TX4, 8), (RX5, TX5, 8), (RX6, TX6, 3), (RX8, TX8, 8), (RX9, TX9, 3), (RX10, TX10, 4), (RX11, TX11, 5), (RX12, TX12, 2), (RX13, TX13, 4), (RX14, TX14, 11), (RX15, TX15, 3), (RX16, TX15, 0), (RX17, TX15, 0), (RX18, TX18, 8), (RX19, TX19, 2), (RJ2, TJ2, 3), (RJ5, TJ5, 4), (RJ6, TJ6, 4), (RJ19, TJ19, 1), (RJ21, TJ21, 6), (RJ21, TX15, 0)]
/-- what the statics hold (references, by place in gSt), where the literals lie (by place in gLit), where the small Integers lie -/
abbrev uEnv : Type := (Nat → Option Nat) × (Nat → Nat) × (Nat → Nat)
/-- dC and dI; array classes with their types; the first address that is ours; the constants -/
abbrev uG : Type := va_G × (Nat → ClassId) × Nat × uEnv
def uTy7 (G : uG) : List (ClassId × FieldType) := [(G.2.1 0, .int), (G.2.1 1, .byte), (G.2.1 2, .boolean), (G.2.1 3, .long), (G.2.1 4, .object "java/lang/Object"), (G.2.1 5, .object "SoftWheels$Way"), (G.2.1 6, .object "SoftWheels$Doubt")]
/-- .. and the script: an array of ints, of whatever class it is -/
def uTys (G : uG) : List (ClassId × FieldType) := [(G.2.1 0, .int), (G.2.1 1, .byte), (G.2.1 2, .boolean), (G.2.1 3, .long), (G.2.1 4, .object "java/lang/Object"), (G.2.1 5, .object "SoftWheels$Way"), (G.2.1 6, .object "SoftWheels$Doubt"), (G.2.1 7, .int)]
theorem uTy_lt {G : uG} {t : Nat} (h : t < 7) : (uTys G)[t]? = (uTy7 G)[t]? := by
  match t, h with
  | 0, _ => rfl
  | 1, _ => rfl
  | 2, _ => rfl
  | 3, _ => rfl
  | 4, _ => rfl
  | 5, _ => rfl
  | 6, _ => rfl
theorem uTy_obj {G : uG} {t : Nat} {cA : ClassId} {C : String} (h : (uTys G)[t]? = some (cA, .object C)) : (uTy7 G)[t]? = some (cA, .object C) := by
  match t, h with
  | 0, h => cases h
  | 1, h => cases h
  | 2, h => cases h
  | 3, h => cases h
  | 4, h => exact h
  | 5, h => exact h
  | 6, h => exact h
  | 7, h => cases h
  | n + 8, h => cases h
abbrev ub (G : uG) : Nat := G.2.2.1
abbrev ug (G : uG) : uEnv := G.2.2.2
abbrev uA (G : uG) : Nat → Prop := fun q => ub G ≤ q
def gSt : List (String × String × String) := [("SoftWheels$Sort", "BAD", "LSoftWheels$Sort;"), ("SoftWheels$Sort", "END", "LSoftWheels$Sort;"), ("SoftWheels$Sort", "WORD", "LSoftWheels$Sort;"), ("SoftWheels$Sort", "WHOLE", "LSoftWheels$Sort;"), ("SoftWheels$Sort", "SIGN", "LSoftWheels$Sort;"), ("SoftWheels$Way", "RIGHT", "LSoftWheels$Way;"), ("SoftWheels$Way", "LEFT", "LSoftWheels$Way;"), ("SoftWheels$Way", "UP", "LSoftWheels$Way;"), ("SoftWheels$Way", "DOWN", "LSoftWheels$Way;"), ("SoftWheels$Way", "$VALUES", "[LSoftWheels$Way;"), ("java/util/ArrayList", "DEFAULTCAPACITY_EMPTY_ELEMENTDATA", "[Ljava/lang/Object;"), ("java/lang/Integer$IntegerCache", "cache", "[Ljava/lang/Integer;"), ("jdk/internal/util/Preconditions", "SIOOBE_FORMATTER", "Ljava/util/function/BiFunction;"), ("java/lang/Throwable", "UNASSIGNED_STACK", "[Ljava/lang/StackTraceElement;"), ("java/lang/Throwable", "SUPPRESSED_SENTINEL", "Ljava/util/List;")]
def gLit : List (String × Nat × String) := [("SoftWheels$Reader", 57, ";,-()"), ("SoftWheels$Book", 59, "ground"), ("SoftWheels$Reader", 129, "ground"), ("SoftWheels$Reader", 131, "rover"), ("SoftWheels$Reader", 133, "try"), ("SoftWheels$Reader", 135, "if"), ("SoftWheels$Reader", 137, "is"), ("SoftWheels$Reader", 138, "else"), ("SoftWheels$Way", 48, "right"), ("SoftWheels$Way", 54, "left"), ("SoftWheels$Way", 56, "up"), ("SoftWheels$Way", 58, "down"), ("SoftWheels$Book", 104, "sinks"), ("SoftWheels$Line", 50, ","), ("SoftWheels$Book", 118, "grips"), ("SoftWheels$Book", 71, "rover"), ("SoftWheels$Book", 129, "wheels"), ("SoftWheels$Book", 134, "weight"), ("SoftWheels$Book", 135, "clear"), ("SoftWheels$Book", 136, "tip"), ("SoftWheels$Book", 137, "drag"), ("SoftWheels$Book", 79, "try"), ("SoftWheels$Book", 144, "each"), ("SoftWheels$Reader", 154, "-"), ("SoftWheels$Book", 150, "one"), ("SoftWheels$Book", 152, "cost"), ("SoftWheels$Book", 88, ";"), ("SoftWheels$Planner", 70, "if"), ("SoftWheels$Planner", 110, "is"), ("SoftWheels$Planner", 141, ")"), ("SoftWheels$Planner", 130, "else"), ("SoftWheels$Planner", 45, ";"), ("SoftWheelsModel", 200, "ground"), ("SoftWheelsModel", 202, "rover"), ("SoftWheelsModel", 204, "try"), ("SoftWheelsModel", 206, "if"), ("SoftWheelsModel", 208, "is"), ("SoftWheelsModel", 210, "else"), ("SoftWheelsModel", 212, "right"), ("SoftWheelsModel", 214, "left"), ("SoftWheelsModel", 216, "up"), ("SoftWheelsModel", 218, "down"), ("SoftWheelsModel", 316, "sinks"), ("SoftWheelsModel", 321, "grips"), ("SoftWheelsModel", 293, "wheels"), ("SoftWheelsModel", 301, "weight"), ("SoftWheelsModel", 302, "clear"), ("SoftWheelsModel", 303, "tip"), ("SoftWheelsModel", 304, "drag"), ("SoftWheelsModel", 322, "each"), ("SoftWheelsModel", 326, "one"), ("SoftWheelsModel", 327, "cost")]
def uWx (i : Nat) : Int32 := match i with | 0 => 1 | 1 => -1 | _ => 0
def uWy (i : Nat) : Int32 := match i with | 2 => -1 | 3 => 1 | _ => 0
/-- a constant of the ways -/
def uWc (G : uG) (i a : Nat) (U : State) (H : Heap) : Prop := va_O "SoftWheels$Way" a (uA G) U H ∧ va_OF "java/lang/Enum" "ordinal" "I" (.int (nI i)) a (uA G) U H ∧ va_OF "SoftWheels$Way" "x" "I" (.int (uWx i)) a (uA G) U H ∧ va_OF "SoftWheels$Way" "y" "I" (.int (uWy i)) a (uA G) U H
/-- a static field's place, as laysStatic has it -/
def va_LS (C n d : String) (A : Nat → Prop) (U : State) (H : Heap) : Prop := ∃ (c : ClassId) (k : Class) (i : Nat) (f : Field) (a : Nat) (cell : Cell), U.vm.findClass C = some c ∧ U.fieldFound? C n d = some (c, k, i, f) ∧ f.isStatic = true ∧ k.statics = some a ∧ H[a]? = some cell ∧ cell.vm.isStatics = true ∧ cell.cls = c ∧ f.slot < cell.slots.size ∧ k.staticTypes[f.slot]? = some f.type ∧ ¬ A a
theorem va_LS.moved {C n d : String} {A : Nat → Prop} {u U : State} {H : Heap} (hvm : u.vm.Alike U.vm) (h : va_LS C n d A u H) : va_LS C n d A U H := by
  obtain ⟨c, k, i, f, a, cell, h1, h2, h3, h4, h5, h6, h7, h8, h9, h10⟩ := h
  obtain ⟨k', hi', he⟩ := State.fieldFound?_setVm hvm h2
  exact ⟨c, k', i, f, a, cell, by rw [hvm.findClass]; exact h1, hi', h3, by rw [he]; exact h4, h5, h6, h7, h8, by rw [he]; exact h9, h10⟩
theorem va_LS.kept {C n d : String} {A : Nat → Prop} {U : State} {H H1 : Heap} (h : va_LS C n d A U H) (hq : ∀ a : Nat, a < H.size → ¬ A a → H1[a]? = H[a]?) : va_LS C n d A U H1 := by
  obtain ⟨c, k, i, f, a, cell, h1, h2, h3, h4, h5, h6, h7, h8, h9, h10⟩ := h
  exact ⟨c, k, i, f, a, cell, h1, h2, h3, h4, (hq a (Array.getElem?_eq_some_iff.mp h5).1 h10).trans h5, h6, h7, h8, h9, h10⟩
theorem va_LS.narrow {C n d : String} {A B : Nat → Prop} {U : State} {H : Heap} (h : va_LS C n d A U H) (hAB : ∀ q, B q → A q) : va_LS C n d B U H := by
  obtain ⟨c, k, i, f, a, cell, h1, h2, h3, h4, h5, h6, h7, h8, h9, h10⟩ := h
  exact ⟨c, k, i, f, a, cell, h1, h2, h3, h4, h5, h6, h7, h8, h9, fun z => h10 (hAB a z)⟩
theorem va_LS.before {C n d : String} {A : Nat → Prop} {U : State} {args : Array Value} (h : va_LS C n d A U U.heap) : (Cond.laysStatic C n d).before args U = true := by
  obtain ⟨c, k, i, f, a, cell, h1, h2, h3, h4, h5, h6, h7, h8, h9, h10⟩ := h
  simp [Cond.before, Cond.holds, Cond.value, h1, h2, h3, h4, h5, h6, h7, h8, h9]
/-- what stands outside of our cells: statics, constants of the ways, small Integers, literals -/
def uZ (G : uG) (U : State) (H : Heap) : Prop :=
  (∀ (k : Nat) (q : String × String × String), gSt[k]? = some q → va_Z q.1 q.2.1 q.2.2 (va_rf ((ug G).1 k)) (uA G) U H) ∧
  va_Z "java/lang/String" "COMPACT_STRINGS" "Z" (.int 1) (uA G) U H ∧ va_Z "java/lang/Integer$IntegerCache" "high" "I" (.int 127) (uA G) U H ∧
  (∀ i : Nat, i < 4 → ∃ a : Nat, (ug G).1 (5 + i) = some a ∧ uWc G i a U H) ∧ vb_C (ug G).2.2 (uA G) U H ∧
  (∀ (j : Nat) (q : String × Nat × String), gLit[j]? = some q → vk_R q.1 q.2.1 q.2.2 ((ug G).2.1 j) U) ∧
  (∃ mi : Nat, (ug G).1 20 = some mi ∧ va_Mi "[Ljava/lang/Object;" mi U) ∧
  (va_LS "java/lang/Throwable" "UNASSIGNED_STACK" "[Ljava/lang/StackTraceElement;" (uA G) U H ∧ va_LS "java/lang/Throwable" "SUPPRESSED_SENTINEL" "Ljava/util/List;" (uA G) U H) ∧
  (∃ t : Nat, (ug G).1 11 = some t ∧ va_T (.object "java/lang/Integer") t 256 (fun k => .ref ((ug G).2.2 k)) (uA G) U H) ∧
  ∃ (a : Nat) (cell : Cell), (ug G).1 9 = some a ∧ ¬ uA G a ∧ H[a]? = some cell ∧ cell.slots.size = 4 ∧ ArrOfT U (G.2.1 7) .int
theorem uZ.warm {G : uG} {s U : State} {H H1 : Heap} (hW : s.WarmedH U.vm) (hq : ∀ a : Nat, a < H.size → ¬ uA G a → H1[a]? = H[a]?) (h : uZ G s H) : uZ G U H1 := by
  obtain ⟨h1, h2, h3, h4, h5, h6, ⟨mi, m1, m2⟩, ⟨ls1, ls2⟩, ⟨ct, ct1, ct2⟩, va, vc, v1, v2, v3, v4, v5⟩ := h
  refine ⟨fun k q hk => ((h1 k q hk).moved hW.alike).kept hq, (h2.moved hW.alike).kept hq, (h3.moved hW.alike).kept hq, fun i hi => ?_, (h5.moved hW.alike).kept hq, fun j q hj => (h6 j q hj).warm hW, ⟨mi, m1, m2.moved hW.alike⟩, ⟨(ls1.moved hW.alike).kept hq, (ls2.moved hW.alike).kept hq⟩, ⟨ct, ct1, (ct2.moved hW.alike).kept hq⟩, va, vc, v1, v2, (hq va (Array.getElem?_eq_some_iff.mp v3).1 v2).trans v3, v4, fun n z => State.isArrayOf_alike hW.alike (v5 n z)⟩
  obtain ⟨a, e, a1, a2, a3, a4⟩ := h4 i hi
  exact ⟨a, e, (a1.moved hW.alike).kept hq, (a2.moved hW.alike).kept hq, (a3.moved hW.alike).kept hq, (a4.moved hW.alike).kept hq⟩
theorem uZ.narrow {G G' : uG} {U : State} {H : Heap} (hg : ug G' = ug G) (hs7 : G'.2.1 7 = G.2.1 7) (hb : ∀ q, uA G' q → uA G q) (h : uZ G U H) : uZ G' U H := by
  obtain ⟨h1, h2, h3, h4, h5, h6, h7, ⟨ls1, ls2⟩, ⟨ct, ct1, ct2⟩, va, vc, v1, v2, v3, v4, v5⟩ := h
  unfold uZ
  rw [hg, hs7]
  refine ⟨fun k q hk => (h1 k q hk).narrow hb, h2.narrow hb, h3.narrow hb, fun i hi => ?_, h5.narrow hb, h6, h7, ⟨ls1.narrow hb, ls2.narrow hb⟩, ⟨ct, ct1, ct2.narrow hb⟩, va, vc, v1, fun z => v2 (hb va z), v3, v4, v5⟩
  obtain ⟨a, e, a1, a2, a3, a4⟩ := h4 i hi
  exact ⟨a, e, a1.narrow hb, a2.narrow hb, a3.narrow hb, a4.narrow hb⟩
theorem uZ.same {G : uG} {u U : State} {H : Heap} (hv : U.vm = u.vm) (h : uZ G u H) : uZ G U H := by
  have ha : u.vm.Alike U.vm := hv ▸ Vm.Alike.refl u.vm
  obtain ⟨h1, h2, h3, h4, h5, h6, ⟨mi, m1, m2⟩, ⟨ls1, ls2⟩, ⟨ct, ct1, ct2⟩, va, vc, v1, v2, v3, v4, v5⟩ := h
  refine ⟨fun k q hk => (h1 k q hk).moved ha, h2.moved ha, h3.moved ha, fun i hi => ?_, h5.moved ha, fun j q hj => (h6 j q hj).same hv, ⟨mi, m1, m2.moved ha⟩, ⟨ls1.moved ha, ls2.moved ha⟩, ⟨ct, ct1, ct2.moved ha⟩, va, vc, v1, v2, v3, v4, fun n z => State.isArrayOf_alike ha (v5 n z)⟩
  obtain ⟨a, e, a1, a2, a3, a4⟩ := h4 i hi
  exact ⟨a, e, a1.moved ha, a2.moved ha, a3.moved ha, a4.moved ha⟩
def uV (x : (Nat → Int32) ⊕ (Nat → Int64) ⊕ (Nat → UInt32) ⊕ (Nat → UInt64) ⊕ (Nat → Option Nat)) (j : Nat) : Value := match x with
  | .inl f => .int (f j)
  | .inr (.inl f) => .long (f j)
  | .inr (.inr (.inl f)) => .float (f j)
  | .inr (.inr (.inr (.inl f))) => .double (f j)
  | .inr (.inr (.inr (.inr f))) => va_rf (f j)
/-- what is said of a cell's own data: known, no cell of statics; none at all if it is ours -/
def uVm (G : uG) (a : Nat) (cell : Cell) : Prop := cell.vm ≠ .unknown ∧ cell.vm.isStatics = false ∧ (ub G ≤ a → cell.vm = .none)
def uAt (G : uG) (a : Nat) (e : uE) (H : Heap) : Prop := match e with
  | .inl x => ∃ (q : ClassId × FieldType) (cell : Cell), (uTys G)[x.1]? = some q ∧ H[a]? = some cell ∧ cell.cls = q.1 ∧ uVm G a cell ∧ (x.2.1 ≤ cell.slots.size ∧ cell.slots.size.toInt32 = Int32.ofNat x.2.1) ∧ ∀ j : Nat, j < x.2.1 → cell.slots[j]? = some (uV x.2.2 j)
  | .inr o => ∃ (r : vw_C) (cell : Cell), gCl[o.1]? = some r ∧ H[a]? = some cell ∧ cell.cls = G.1.1 o.1 ∧ uVm G a cell ∧ o.2.length = r.2.2 ∧ ∀ k : Nat, k < r.2.2 → cell.slots[G.1.2 o.1 k]? = some (vp_V o.2 k)
def uP (G : uG) (u : UH) (H : Heap) : Prop := H.size = u.1 ∧ ∀ (a : Nat) (e : uE), u.2.2 a = some e → uAt G a e H
/-- the tables' words that don't ride in the lists -/
def uNest (w : Cond) : Bool := match w with
  | .fieldLinkNest _ _ _ _ _ _ => true
  | .methodLinkNest _ _ _ _ => true
  | .declares _ => true
  | .castable _ _ => true
  | _ => false
def uT (U : State) : Prop := ∀ w ∈ lw_tbl, uNest w = true → va_Nw w U
theorem uT.warm {s U : State} (hW : s.WarmedH U.vm) (h : uT s) : uT U := by
  intro w hw hn
  have h1 := h w hw hn
  cases w <;> first | exact va_Nw.warmF hW h1 | exact va_Nw.warmM hW h1 | exact va_Nw.warmD hW h1 | exact va_Nw.warmC hW h1 | cases hn
theorem uNest_on {w : Cond} (h : uNest w = true) : w.onTables = true := by
  cases w <;> first | rfl | cases h
theorem uT.same {u U : State} (hv : u.vm = U.vm) (h : uT u) : uT U := fun w hw hn => va_Nw.same (uNest_on hn) hv (h w hw hn)
theorem uT.use {s : State} {A : Array Value} (h : uT s) {w : Cond} (hw : w ∈ lw_tbl) (hn : uNest w = true) : w.before A s = true := va_Nw.use (uNest_on hn) (h w hw hn)
/-- the interfaces' calls: the receiver's class, the interface's method, the class's -/
def gFw : List (String × MethodName × MethodName) := [(RJ2, ⟨"java/util/List", "add", "(Ljava/lang/Object;)Z"⟩, yJ2_add), (RJ2, ⟨"java/util/List", "size", "()I"⟩, yJ2_size), (RJ2, ⟨"java/util/List", "get", "(I)Ljava/lang/Object;"⟩, yJ2_get), (RX12, ⟨"SoftWheels$Doing", "by", "(LSoftWheels$Walk;)V"⟩, yX12_by), (RX13, ⟨"SoftWheels$Doing", "by", "(LSoftWheels$Walk;)V"⟩, yX13_by), (RX16, ⟨"SoftWheels$Judge", "join", "(JJI)J"⟩, yX16_join), (RX17, ⟨"SoftWheels$Judge", "join", "(JJI)J"⟩, yX17_join), (RX16, ⟨"SoftWheels$Judge", "parts", "(JJ)J"⟩, yX16_parts), (RX17, ⟨"SoftWheels$Judge", "parts", "(JJ)J"⟩, yX17_parts)]
/-- private methods of a superclass, asked of a StringBuilder -/
def gSB : List MethodName := [yJ4_ensureCapacityInternal, yJ4_newCapacity]
def uSB (U : State) : Prop := ∀ y ∈ gSB, va_Nw (.selects "java/lang/StringBuilder" y y) U
theorem uSB.warm {s U : State} (hW : s.WarmedH U.vm) (h : uSB s) : uSB U := fun y hy => word_at hW (Or.inl (by simp [Cond.onTables, Cond.keeps, Cond.steady])) (h y hy)
theorem uSB.same {u U : State} (hv : u.vm = U.vm) (h : uSB u) : uSB U := fun y hy => va_Nw.same rfl hv (h y hy)
def uI (U : State) : Prop := (∀ q ∈ gFw, va_Fw q.1 q.2.1 q.2.2 U) ∧ va_AO "java/lang/Object" U ∧ va_AO "SoftWheels$Doubt" U ∧ uSB U
theorem gFw_ok : ∀ q ∈ gFw, q.2.1.cls ≠ "java/lang/invoke/MethodHandle" ∧ q.2.1.cls ≠ "java/lang/invoke/VarHandle" := by decide +kernel
theorem uI.moved {u U : State} (hvm : u.vm.Alike U.vm) (hb : uSB U) (h : uI u) : uI U := ⟨fun q hq => (h.1 q hq).moved (gFw_ok q hq) hvm, h.2.1.moved hvm, h.2.2.1.moved hvm, hb⟩
def uK (G : uG) (U : State) : Prop := va_K G.1 gCl (uTy7 G) U ∧ uT U ∧ uI U
theorem uK.warm {G : uG} {s U : State} (hW : s.WarmedH U.vm) (h : uK G s) : uK G U := ⟨va_K.moved hW.alike h.1, h.2.1.warm hW, h.2.2.moved hW.alike (h.2.2.2.2.2.warm hW)⟩
theorem uK.same {G : uG} {u U : State} (hv : u.vm = U.vm) (h : uK G u) : uK G U := ⟨va_K.moved (hv ▸ Vm.Alike.refl u.vm) h.1, h.2.1.same hv, h.2.2.moved (hv ▸ Vm.Alike.refl u.vm) (h.2.2.2.2.2.same hv)⟩
def uSet (u : UH) (a : Nat) (e : uE) : UH := (u.1, u.2.1, fun b => if b = a then some e else u.2.2 b)
def uNew (u : UH) (n : Nat) (e : uE) : UH := (u.1 + 1, u.2.1 + n, fun b => if b = u.1 then some e else u.2.2 b)
theorem uAt.kept {G : uG} {a : Nat} {e : uE} {H H1 : Heap} (h : uAt G a e H) (hq : H1[a]? = H[a]?) : uAt G a e H1 := by
  cases e with
  | inl x =>
    obtain ⟨q, cell, h0, h1, h2⟩ := h
    exact ⟨q, cell, h0, hq.trans h1, h2⟩
  | inr o =>
    obtain ⟨r, cell, h0, h1, h2⟩ := h
    exact ⟨r, cell, h0, hq.trans h1, h2⟩
theorem uAt.lt {G : uG} {a : Nat} {e : uE} {H : Heap} (h : uAt G a e H) : a < H.size := by
  cases e with
  | inl x =>
    obtain ⟨q, cell, -, h1, -⟩ := h
    exact (Array.getElem?_eq_some_iff.mp h1).1
  | inr o =>
    obtain ⟨r, cell, -, h1, -⟩ := h
    exact (Array.getElem?_eq_some_iff.mp h1).1
theorem uP.set {G : uG} {u : UH} {a : Nat} {e : uE} {H H1 : Heap} (h : uP G u H) (hz : H1.size = H.size) (he : uAt G a e H1) (oq : ∀ q : Nat, q ≠ a → H1[q]? = H[q]?) : uP G (uSet u a e) H1 := by
  refine ⟨by rw [hz]; exact h.1, fun b x hx => ?_⟩
  by_cases hb : b = a
  · subst hb
    have : some e = some x := by simpa [uSet] using hx
    cases this
    exact he
  · have hx : u.2.2 b = some x := by simpa [uSet, hb] using hx
    exact (h.2 b x hx).kept (oq b hb)
theorem uP.new {G : uG} {u : UH} {n : Nat} {e : uE} {H H1 : Heap} (h : uP G u H) (hz : H1.size = H.size + 1) (he : uAt G u.1 e H1) (oq : ∀ q : Nat, q < H.size → H1[q]? = H[q]?) : uP G (uNew u n e) H1 := by
  refine ⟨by rw [hz, h.1]; rfl, fun b x hx => ?_⟩
  by_cases hb : b = u.1
  · subst hb
    have : some e = some x := by simpa [uNew] using hx
    cases this
    exact he
  · have hx : u.2.2 b = some x := by simpa [uNew, hb] using hx
    exact (h.2 b x hx).kept (oq b (h.2 b x hx).lt)
/-- reading in pure words -/
def uGet (u : UH) (a ci k : Nat) : Option Value := match u.2.2 a with
  | some (.inr (c, fs)) => if c = ci then fs[k]? else none
  | _ => none
def uGI (u : UH) (a ci k : Nat) : Option Int32 := match uGet u a ci k with
  | some (.int x) => some x
  | _ => none
def uGL (u : UH) (a ci k : Nat) : Option Int64 := match uGet u a ci k with
  | some (.long x) => some x
  | _ => none
def uGR (u : UH) (a ci k : Nat) : Option (Option Nat) := match uGet u a ci k with
  | some (.ref x) => some (some x)
  | some .null => some none
  | _ => none
theorem uGet_n {u : UH} {a ci k : Nat} {v : Value} (h : uGet u a ci k = some v) : ∃ fs, u.2.2 a = some (.inr (ci, fs)) ∧ fs[k]? = some v := by
  unfold uGet at h
  split at h
  · rename_i c fs he
    by_cases hc : c = ci
    · subst hc
      rw [if_pos rfl] at h
      exact ⟨fs, he, h⟩
    · rw [if_neg hc] at h; cases h
  · cases h
theorem uGI_n {u : UH} {a ci k : Nat} {x : Int32} (h : uGI u a ci k = some x) : uGet u a ci k = some (.int x) := by
  unfold uGI at h
  split at h
  · rename_i y he
    cases h
    exact he
  · cases h
theorem uGL_n {u : UH} {a ci k : Nat} {x : Int64} (h : uGL u a ci k = some x) : uGet u a ci k = some (.long x) := by
  unfold uGL at h
  split at h
  · rename_i y he
    cases h
    exact he
  · cases h
theorem uGR_n {u : UH} {a ci k : Nat} {x : Option Nat} (h : uGR u a ci k = some x) : uGet u a ci k = some (va_rf x) := by
  unfold uGR at h
  split at h
  · rename_i y he
    cases h
    exact he
  · rename_i he
    cases h
    exact he
  · cases h
/-- writing a field -/
def uPut (b : Nat) (u : UH) (a ci k : Nat) (v : Value) : Option UH := match u.2.2 a with
  | some (.inr (c, fs)) => if c = ci ∧ b ≤ a ∧ k < fs.length then some (uSet u a (.inr (c, fs.set k v))) else none
  | _ => none
theorem uPut_n {b : Nat} {u u' : UH} {a ci k : Nat} {v : Value} (h : uPut b u a ci k v = some u') : ∃ fs, u.2.2 a = some (.inr (ci, fs)) ∧ b ≤ a ∧ k < fs.length ∧ u' = uSet u a (.inr (ci, fs.set k v)) := by
  unfold uPut at h
  split at h
  · rename_i c fs he
    by_cases hc : c = ci ∧ b ≤ a ∧ k < fs.length
    · obtain ⟨rfl, h1, h2⟩ := hc
      rw [if_pos ⟨rfl, h1, h2⟩] at h
      cases h
      exact ⟨fs, he, h1, h2, rfl⟩
    · rw [if_neg hc] at h; cases h
  · cases h
section UROWS
variable {p : Program} {l : Launch} {e : Env} {R : Room} {s : State} {m : MethodId} {args : Array Value} {below : List Frame} {meth : Method} {c : Code} {H : Heap} {locs : List Loc} {cells slots : Nat} {Q : State → Prop}
variable {cc : ByteArray} {pc nL : Nat} {ls : Array Slot} {rest st : List Value} {G : uG} {u u' : UH} {ret : Option FieldType} {own : String} {a : Nat}
def uC (p : Program) (s : State) (m : MethodId) (args : Array Value) (meth : Method) (c : Code) (G : uG) (own : String) (cc : ByteArray) (nL : Nat) (ret : Option FieldType) : Prop :=
  CallFix p m c cc nL s args lw_all own ∧ uK G s ∧ (ub G ≤ s.heap.size ∧ uZ G s s.heap) ∧ meth.sig.returnType = ret ∧ meth.locks = false
theorem uC.arr (hC : uC p s m args meth c G own cc nL ret) {t : Nat} {q : ClassId × FieldType} (ht : (uTys G)[t]? = some q) : ArrOfT s q.1 q.2 := by
  by_cases h : t < 7
  · exact (hC.2.1.1.2 t q (by rw [← uTy_lt h]; exact ht)).1
  · match t, h, ht with
    | 0, h, _ => exact absurd (by decide) h
    | 1, h, _ => exact absurd (by decide) h
    | 2, h, _ => exact absurd (by decide) h
    | 3, h, _ => exact absurd (by decide) h
    | 4, h, _ => exact absurd (by decide) h
    | 5, h, _ => exact absurd (by decide) h
    | 6, h, _ => exact absurd (by decide) h
    | 7, _, ht =>
      obtain ⟨va, vc, v1, v2, v3, v4, v5⟩ := hC.2.2.1.2.2.2.2.2.2.2.2.2.2
      cases ht
      exact v5
    | n + 8, _, ht => cases ht
theorem uC.ra (hC : uC p s m args meth c G own cc nL ret) {t : Nat} {cA : ClassId} {C : String} (ht : (uTys G)[t]? = some (cA, .object C)) : va_RA s cA (.object C) := (hC.2.1.1.2 t _ (uTy_obj ht)).2
theorem u_get (hC : uC p s m args meth c G own cc nL ret) (hP : uP G u H) {C ref : String} {T : u_T} {N ci index k : Nat} {v : Value} (hv : uGet u a ci k = some v) (hc : gCl[ci]? = some (C, T, N)) (hin : ∀ w ∈ u_ws C T N, w ∈ lw_all) (hk : k < N) (hlink : (Cond.fieldLink own index ref (T k).2.1 (T k).2.2.1) ∈ lw_all) (hsame : ∀ x, s.fieldFound? (T k).1 (T k).2.1 (T k).2.2.1 = some x → s.fieldFound? ref (T k).2.1 (T k).2.2.1 = some x) (hdg : decode cc pc = .ok (.getfield index, 3))
    (kk : W p l e R s m args below meth c H locs cells slots Q (F0 m (pc + 3) ls (v :: rest))) : W p l e R s m args below meth c H locs cells slots Q (F0 m pc ls (.ref a :: rest)) := by
  obtain ⟨⟨hx, hb, hml, hown, hts⟩, hK, -⟩ := hC
  obtain ⟨fs, he, hf⟩ := uGet_n hv
  obtain ⟨r, cell, h1, q1, q2, q3, q5, q4⟩ := hP.2 a _ he
  have hr : r = (C, T, N) := Option.some.inj (h1.symm.trans hc)
  subst hr
  obtain ⟨hS, hfc, kC, hkC, hkind⟩ := hK.1.1 ci _ hc
  obtain ⟨cf, kf, fi, f, hi, hsl⟩ := hS k hk
  refine W.getf hx hb hown (hts _ hlink) (hsame _ hi) (u_facts hfc hkC (u_lays hts hin hk) hi).1 q1 q3.1 (v := v) ?_ rfl rfl hdg kk
  rw [hsl, q4 k hk]
  simp [vp_V, hf]
theorem u_getN (hC : uC p s m args meth c G own cc nL ret) (hP : uP G u H) {C ref host : String} {T : u_T} {N ci index k : Nat} {v : Value} (hv : uGet u a ci k = some v) (hc : gCl[ci]? = some (C, T, N)) (hin : ∀ w ∈ u_ws C T N, w ∈ lw_all) (hk : k < N) (hlink : (Cond.fieldLinkNest own index ref (T k).2.1 (T k).2.2.1 host) ∈ lw_tbl) (hsame : ∀ x, s.fieldFound? (T k).1 (T k).2.1 (T k).2.2.1 = some x → s.fieldFound? ref (T k).2.1 (T k).2.2.1 = some x) (hdg : decode cc pc = .ok (.getfield index, 3))
    (kk : W p l e R s m args below meth c H locs cells slots Q (F0 m (pc + 3) ls (v :: rest))) : W p l e R s m args below meth c H locs cells slots Q (F0 m pc ls (.ref a :: rest)) := by
  obtain ⟨⟨hx, hb, hml, hown, hts⟩, hK, -⟩ := hC
  obtain ⟨fs, he, hf⟩ := uGet_n hv
  obtain ⟨r, cell, h1, q1, q2, q3, q5, q4⟩ := hP.2 a _ he
  have hr : r = (C, T, N) := Option.some.inj (h1.symm.trans hc)
  subst hr
  obtain ⟨hS, hfc, kC, hkC, hkind⟩ := hK.1.1 ci _ hc
  obtain ⟨cf, kf, fi, f, hi, hsl⟩ := hS k hk
  refine va_Wgetf hx hb hown (hK.2.1.use hlink rfl) (hsame _ hi) (u_facts hfc hkC (u_lays hts hin hk) hi).1 q1 q3.1 (v := v) ?_ rfl rfl hdg kk
  rw [hsl, q4 k hk]
  simp [vp_V, hf]
/-- a field written: the new cell -/
theorem uAt_set {C : String} {T : u_T} {N ci k : Nat} {fs : List Value} {v : Value} {cell : Cell} {H1 : Heap} (ha : ub G ≤ a) (hc : gCl[ci]? = some (C, T, N)) (hap : ∀ x y, x < N → y < N → x ≠ y → (G.1.2 ci) x ≠ (G.1.2 ci) y) (hk : k < N) (hl : fs.length = N) (e1 : H1[a]? = some (cell.setSlot (G.1.2 ci k) v)) (q2 : cell.cls = G.1.1 ci) (q3 : uVm G a cell) (q4 : ∀ k : Nat, k < N → cell.slots[G.1.2 ci k]? = some (vp_V fs k)) : uAt G a (.inr (ci, fs.set k v)) H1 := by
  refine ⟨(C, T, N), _, hc, e1, q2, q3, by rw [List.length_set]; exact hl, fun j hj => ?_⟩
  have h := t_set q4 hap hk v j hj
  rw [vp_updV_set (by omega) v j] at h
  exact h
theorem u_put (hC : uC p s m args meth c G own cc nL ret) (hP : uP G u H) (hS : va_S (uA G) s.heap H locs) {C ref : String} {T : u_T} {N ci index k : Nat} {v : Value} (hu : uPut (ub G) u a ci k v = some u') (hc : gCl[ci]? = some (C, T, N)) (hin : ∀ w ∈ u_ws C T N, w ∈ lw_all) (ty0 : Nat → FieldType) (hty : ∀ k, k < N → parseFieldDescriptor (T k).2.2.1 = some (ty0 k)) (hnm : ∀ a, a < N → ∀ b, b < N → a ≠ b → (T a).2.1 ≠ (T b).2.1) (hk : k < N) (hlink : (Cond.fieldLink own index ref (T k).2.1 (T k).2.2.1) ∈ lw_all) (hsame : ∀ x, s.fieldFound? (T k).1 (T k).2.1 (T k).2.2.1 = some x → s.fieldFound? ref (T k).2.1 (T k).2.2.1 = some x) (hfin : (T k).2.2.2 = false) {ty : FieldType} (hd : parseFieldDescriptor (T k).2.2.1 = some ty) (hn : narrow ty v = v) (hfit : fits ty v = true) (hdg : decode cc pc = .ok (.putfield index, 3))
    (kk : ∀ (H1 : Heap) (locs1 : List Loc), uP G u' H1 → va_S (uA G) s.heap H1 locs1 → W p l e R s m args below meth c H1 locs1 cells slots Q (F0 m (pc + 3) ls rest)) : W p l e R s m args below meth c H locs cells slots Q (F0 m pc ls (v :: .ref a :: rest)) := by
  obtain ⟨⟨hx, hb, hml, hown, hts⟩, hK, -⟩ := hC
  obtain ⟨fs, he, hba, hlt, rfl⟩ := uPut_n hu
  have hap := va_apart (own := own) hts hin ty0 hty hnm hK.1 hc
  obtain ⟨r, cell, h1, q1, q2, q3, q5, q4⟩ := hP.2 a _ he
  have hr : r = (C, T, N) := Option.some.inj (h1.symm.trans hc)
  subst hr
  obtain ⟨hS', hfc, kC, hkC, hkind⟩ := hK.1.1 ci _ hc
  obtain ⟨cf, kf, fi, f, hi, hsl⟩ := hS' k hk
  have hlay := hts _ (hin _ (u_in_lay hk))
  unfold u_lay at hlay
  rw [if_neg (by rw [hfin]; decide)] at hlay
  have hst := (u_facts hfc hkC (u_lays hts hin hk) hi).1
  have h6 := u_store hfc hkC hkind hlay hi hd hn hfit
  refine W.putK hx hb (f := f) ⟨hown, hts _ hlink, ⟨_, _, _, hsame _ hi⟩, hst⟩ (by rw [q2]; exact h6) q1 (q3.2.2 hba) (by rw [hsl]; exact k2_hasslot (q4 k hk)) rfl rfl hdg fun H' e1 e2 e3 => ?_
  rw [hsl] at e1 ⊢
  exact kk H' _ (hP.set e2 (uAt_set hba hc hap hk q5 e1 q2 q3 q4) e3) (hS.put e2 e3 hba)
theorem u_putN (hC : uC p s m args meth c G own cc nL ret) (hP : uP G u H) (hS : va_S (uA G) s.heap H locs) {C ref host : String} {T : u_T} {N ci index k : Nat} {v : Value} (hu : uPut (ub G) u a ci k v = some u') (hc : gCl[ci]? = some (C, T, N)) (hin : ∀ w ∈ u_ws C T N, w ∈ lw_all) (ty0 : Nat → FieldType) (hty : ∀ k, k < N → parseFieldDescriptor (T k).2.2.1 = some (ty0 k)) (hnm : ∀ a, a < N → ∀ b, b < N → a ≠ b → (T a).2.1 ≠ (T b).2.1) (hk : k < N) (hlink : (Cond.fieldLinkNest own index ref (T k).2.1 (T k).2.2.1 host) ∈ lw_tbl) (hsame : ∀ x, s.fieldFound? (T k).1 (T k).2.1 (T k).2.2.1 = some x → s.fieldFound? ref (T k).2.1 (T k).2.2.1 = some x) (hfin : (T k).2.2.2 = false) {ty : FieldType} (hd : parseFieldDescriptor (T k).2.2.1 = some ty) (hn : narrow ty v = v) (hfit : fits ty v = true) (hdg : decode cc pc = .ok (.putfield index, 3))
    (kk : ∀ (H1 : Heap) (locs1 : List Loc), uP G u' H1 → va_S (uA G) s.heap H1 locs1 → W p l e R s m args below meth c H1 locs1 cells slots Q (F0 m (pc + 3) ls rest)) : W p l e R s m args below meth c H locs cells slots Q (F0 m pc ls (v :: .ref a :: rest)) := by
  obtain ⟨⟨hx, hb, hml, hown, hts⟩, hK, -⟩ := hC
  obtain ⟨fs, he, hba, hlt, rfl⟩ := uPut_n hu
  have hap := va_apart (own := own) hts hin ty0 hty hnm hK.1 hc
  obtain ⟨r, cell, h1, q1, q2, q3, q5, q4⟩ := hP.2 a _ he
  have hr : r = (C, T, N) := Option.some.inj (h1.symm.trans hc)
  subst hr
  obtain ⟨hS', hfc, kC, hkC, hkind⟩ := hK.1.1 ci _ hc
  obtain ⟨cf, kf, fi, f, hi, hsl⟩ := hS' k hk
  have hlay := hts _ (hin _ (u_in_lay hk))
  unfold u_lay at hlay
  rw [if_neg (by rw [hfin]; decide)] at hlay
  have hst := (u_facts hfc hkC (u_lays hts hin hk) hi).1
  have h6 := u_store hfc hkC hkind hlay hi hd hn hfit
  refine va_WputK hx hb (f := f) hown (hK.2.1.use hlink rfl) (hsame _ hi) hst (by rw [q2]; exact h6) q1 (q3.2.2 hba) (by rw [hsl]; exact k2_hasslot (q4 k hk)) rfl rfl hdg fun H' e1 e2 e3 => ?_
  rw [hsl] at e1 ⊢
  exact kk H' _ (hP.set e2 (uAt_set hba hc hap hk q5 e1 q2 q3 q4) e3) (hS.put e2 e3 hba)
theorem u_putF (hC : uC p s m args meth c G own cc nL ret) (hinit : meth.name = "<init>") (hP : uP G u H) (hS : va_S (uA G) s.heap H locs) {C ref : String} {T : u_T} {N ci index k : Nat} {v : Value} (hu : uPut (ub G) u a ci k v = some u') (hc : gCl[ci]? = some (C, T, N)) (hin : ∀ w ∈ u_ws C T N, w ∈ lw_all) (ty0 : Nat → FieldType) (hty : ∀ k, k < N → parseFieldDescriptor (T k).2.2.1 = some (ty0 k)) (hnm : ∀ a, a < N → ∀ b, b < N → a ≠ b → (T a).2.1 ≠ (T b).2.1) (hk : k < N) (hlink : (Cond.fieldLink own index ref (T k).2.1 (T k).2.2.1) ∈ lw_all) (hsame : ∀ x, s.fieldFound? (T k).1 (T k).2.1 (T k).2.2.1 = some x → s.fieldFound? ref (T k).2.1 (T k).2.2.1 = some x) (hfin : (T k).2.2.2 = true) (hdecl : (T k).1 = own) {ty : FieldType} (hd : parseFieldDescriptor (T k).2.2.1 = some ty) (hn : narrow ty v = v) (hfit : fits ty v = true) (hdg : decode cc pc = .ok (.putfield index, 3))
    (kk : ∀ (H1 : Heap) (locs1 : List Loc), uP G u' H1 → va_S (uA G) s.heap H1 locs1 → W p l e R s m args below meth c H1 locs1 cells slots Q (F0 m (pc + 3) ls rest)) : W p l e R s m args below meth c H locs cells slots Q (F0 m pc ls (v :: .ref a :: rest)) := by
  obtain ⟨⟨hx, hb, hml, hown, hts⟩, hK, -⟩ := hC
  obtain ⟨fs, he, hba, hlt, rfl⟩ := uPut_n hu
  have hap := va_apart (own := own) hts hin ty0 hty hnm hK.1 hc
  obtain ⟨r, cell, h1, q1, q2, q3, q5, q4⟩ := hP.2 a _ he
  have hr : r = (C, T, N) := Option.some.inj (h1.symm.trans hc)
  subst hr
  obtain ⟨hS', hfc, kC, hkC, hkind⟩ := hK.1.1 ci _ hc
  obtain ⟨cf, kf, fi, f, hi, hsl⟩ := hS' k hk
  have hlay := hts _ (hin _ (u_in_lay hk))
  unfold u_lay at hlay
  rw [if_pos hfin] at hlay
  have hst := (u_facts hfc hkC (u_lays hts hin hk) hi).1
  have hcf : m.cls = cf := by
    obtain ⟨_, _, c', _, _, _, -, -, hf', -, -, -, hown2, -⟩ := Cond.laysFinal_spec hlay
    have e1 : c' = cf := by have := hi.symm.trans hf'; simp at this; exact this.1.symm
    rw [hdecl] at hown2
    rw [← e1]; exact Option.some.inj (hown.symm.trans hown2)
  have h6 := u_fits hfc hkC hkind (Or.inr hlay) hi hd hn hfit
  refine W.putFinK hx hb hown (hts _ hlink) (hsame _ hi) hst hcf hinit (by rw [q2]; exact h6) q1 (q3.2.2 hba) (by rw [hsl]; exact k2_hasslot (q4 k hk)) rfl rfl hdg fun H' e1 e2 e3 => ?_
  rw [hsl] at e1 ⊢
  exact kk H' _ (hP.set e2 (uAt_set hba hc hap hk q5 e1 q2 q3 q4) e3) (hS.put e2 e3 hba)
end UROWS

/-! THE HEAP's KIT, 4: references on the stack and in locals, statics, literals, the ways, casts, interfaces' calls -/
def ucase {β : Type} (r : Option Nat) (x : β) (f : Nat → β) : β := match r with
  | none => x
  | some a => f a
theorem ucase_n {β : Type} {x : β} {f : Nat → β} {z : β} (h : ucase none x f = z) : x = z := h
theorem ucase_s {β : Type} {a : Nat} {x : β} {f : Nat → β} {z : β} (h : ucase (some a) x f = z) : f a = z := h
theorem uNarR (n : String) (r : Option Nat) : narrow (.object n) (va_rf r) = va_rf r ∧ fits (.object n) (va_rf r) = true := by cases r <;> exact ⟨rfl, rfl⟩
theorem uNarA (t : FieldType) (r : Option Nat) : narrow (.array t) (va_rf r) = va_rf r ∧ fits (.array t) (va_rf r) = true := by cases r <;> exact ⟨rfl, rfl⟩
section UROWS4
variable {p : Program} {l : Launch} {e : Env} {R : Room} {s : State} {m : MethodId} {args : Array Value} {below : List Frame} {meth : Method} {c : Code} {H : Heap} {locs : List Loc} {cells slots : Nat} {Q : State → Prop}
variable {cc : ByteArray} {pc nL : Nat} {ls : Array Slot} {rest st : List Value} {G : uG} {u u' : UH} {ret : Option FieldType} {own : String} {a t : Nat} {cA : ClassId}
theorem u_aload_n (hx : p.tables.exec = Jvm.exec) (hb : c.code = cc) {k : Fin 4} {i : Nat} {r : Option Nat} (hdg : decode cc pc = .ok (.aload_n k, 1)) (hi : (k : Nat) = i) (hl : ls[i]? = some (.val (va_rf r)))
    (kk : W p l e R s m args below meth c H locs cells slots Q (F0 m (pc + 1) ls (va_rf r :: rest))) : W p l e R s m args below meth c H locs cells slots Q (F0 m pc ls rest) := by
  cases r with
  | none => exact lv_aload_nN hx hb hdg hi hl kk
  | some a => exact lv_aload_n hx hb hdg hi hl kk
theorem u_aload (hx : p.tables.exec = Jvm.exec) (hb : c.code = cc) {i : Nat} {r : Option Nat} (hdg : decode cc pc = .ok (.aload i, 2)) (hl : ls[i]? = some (.val (va_rf r)))
    (kk : W p l e R s m args below meth c H locs cells slots Q (F0 m (pc + 2) ls (va_rf r :: rest))) : W p l e R s m args below meth c H locs cells slots Q (F0 m pc ls rest) := by
  cases r with
  | none => exact lv_aloadN hx hb hdg hl kk
  | some a => exact lv_aload hx hb hdg hl kk
theorem u_astore_n (hx : p.tables.exec = Jvm.exec) (hb : c.code = cc) {k : Fin 4} {i nL : Nat} {r : Option Nat} {lv lv' : List (Nat × Value)} (hdg : decode cc pc = .ok (.astore_n k, 1)) (hi : (k : Nat) = i) (h : lv_has ls nL lv) (hn : i < nL) (hl : (i, va_rf r) :: lv.filter (fun q => !(q.1 == i) && !(q.1 + 1 == i && q.2.category == 2)) = lv')
    (kk : ∀ ls' : Array Slot, lv_has ls' nL lv' → W p l e R s m args below meth c H locs cells slots Q (F0 m (pc + 1) ls' rest)) : W p l e R s m args below meth c H locs cells slots Q (F0 m pc ls (va_rf r :: rest)) := by
  cases r with
  | none => exact lv_astore_nN hx hb hdg hi h hn hl kk
  | some a => exact lv_astore_n hx hb hdg hi h hn hl kk
theorem u_astore (hx : p.tables.exec = Jvm.exec) (hb : c.code = cc) {i nL : Nat} {r : Option Nat} {lv lv' : List (Nat × Value)} (hdg : decode cc pc = .ok (.astore i, 2)) (h : lv_has ls nL lv) (hn : i < nL) (hl : (i, va_rf r) :: lv.filter (fun q => !(q.1 == i) && !(q.1 + 1 == i && q.2.category == 2)) = lv')
    (kk : ∀ ls' : Array Slot, lv_has ls' nL lv' → W p l e R s m args below meth c H locs cells slots Q (F0 m (pc + 2) ls' rest)) : W p l e R s m args below meth c H locs cells slots Q (F0 m pc ls (va_rf r :: rest)) := by
  cases r with
  | none => exact lv_astoreN hx hb hdg h hn hl kk
  | some a => exact lv_astore hx hb hdg h hn hl kk
theorem u_cat (r : Option Nat) : (va_rf r).category = 1 := by cases r <;> rfl
/-- statics -/
theorem u_gets (hC : uC p s m args meth c G own cc nL ret) (hS : va_S (uA G) s.heap H locs) {C n d ref : String} {index : Nat} (k : Nat) (hq : gSt[k]? = some (C, n, d)) (hlink : (Cond.fieldLink own index ref n d) ∈ lw_all) (hsame : ∀ x, s.fieldFound? C n d = some x → s.fieldFound? ref n d = some x) (hdg : decode cc pc = .ok (.getstatic index, 3))
    (kk : W p l e R s m args below meth c H locs cells slots Q (F0 m (pc + 3) ls (va_rf ((ug G).1 k) :: rest))) : W p l e R s m args below meth c H locs cells slots Q (F0 m pc ls rest) :=
  va_gets hC.1.1 hC.1.2.1 (hC.2.2.1.2.1 k _ hq) hS hC.1.2.2.2.1 (hC.1.2.2.2.2 _ hlink) hsame hdg kk
theorem u_getsC (hC : uC p s m args meth c G own cc nL ret) (hS : va_S (uA G) s.heap H locs) {ref : String} {index : Nat} (hlink : (Cond.fieldLink own index ref "COMPACT_STRINGS" "Z") ∈ lw_all) (hsame : ∀ x, s.fieldFound? "java/lang/String" "COMPACT_STRINGS" "Z" = some x → s.fieldFound? ref "COMPACT_STRINGS" "Z" = some x) (hdg : decode cc pc = .ok (.getstatic index, 3))
    (kk : W p l e R s m args below meth c H locs cells slots Q (F0 m (pc + 3) ls (.int 1 :: rest))) : W p l e R s m args below meth c H locs cells slots Q (F0 m pc ls rest) :=
  va_gets hC.1.1 hC.1.2.1 hC.2.2.1.2.2.1 hS hC.1.2.2.2.1 (hC.1.2.2.2.2 _ hlink) hsame hdg kk
theorem u_getsH (hC : uC p s m args meth c G own cc nL ret) (hS : va_S (uA G) s.heap H locs) {ref : String} {index : Nat} (hlink : (Cond.fieldLink own index ref "high" "I") ∈ lw_all) (hsame : ∀ x, s.fieldFound? "java/lang/Integer$IntegerCache" "high" "I" = some x → s.fieldFound? ref "high" "I" = some x) (hdg : decode cc pc = .ok (.getstatic index, 3))
    (kk : W p l e R s m args below meth c H locs cells slots Q (F0 m (pc + 3) ls (.int 127 :: rest))) : W p l e R s m args below meth c H locs cells slots Q (F0 m pc ls rest) :=
  va_gets hC.1.1 hC.1.2.1 hC.2.2.1.2.2.2.1 hS hC.1.2.2.2.1 (hC.1.2.2.2.2 _ hlink) hsame hdg kk
/-- a literal -/
theorem u_ldcS (hC : uC p s m args meth c G own cc nL ret) {index : Nat} {tx : String} (j : Nat) (hq : gLit[j]? = some (own, index, tx)) (hdg : decode cc pc = .ok (.ldc index, 2))
    (kk : W p l e R s m args below meth c H locs cells slots Q (F0 m (pc + 2) ls (.ref ((ug G).2.1 j) :: rest))) : W p l e R s m args below meth c H locs cells slots Q (F0 m pc ls rest) := by
  obtain ⟨-, -, -, -, -, h6, -⟩ := hC.2.2.1.2
  have h7 := h6 j _ hq
  exact va_ldcS hC.1.1 hC.1.2.1 hC.1.2.2.2.1 h7 hdg kk
/-- which way a constant is -/
def uWay (g : uEnv) (a : Nat) : Option Nat := if g.1 5 = some a then some 0 else if g.1 6 = some a then some 1 else if g.1 7 = some a then some 2 else if g.1 8 = some a then some 3 else none
theorem uWay_n {g : uEnv} {i : Nat} (h : uWay g a = some i) : i < 4 ∧ g.1 (5 + i) = some a := by
  unfold uWay at h
  split at h
  · cases h; exact ⟨by omega, by assumption⟩
  · split at h
    · cases h; exact ⟨by omega, by assumption⟩
    · split at h
      · cases h; exact ⟨by omega, by assumption⟩
      · obtain ⟨h1, h2⟩ := mif_n h
        cases h2; exact ⟨by omega, h1⟩
theorem u_way (hC : uC p s m args meth c G own cc nL ret) {i : Nat} (h : uWay (ug G) a = some i) : uWc G i a s s.heap := by
  obtain ⟨hi, e1⟩ := uWay_n h
  obtain ⟨b, e2, h2⟩ := hC.2.2.1.2.2.2.2.1 i hi
  cases e1.symm.trans e2
  exact h2
theorem u_getWx (hC : uC p s m args meth c G own cc nL ret) (hS : va_S (uA G) s.heap H locs) {host : String} {index i : Nat} (h : uWay (ug G) a = some i) (hlink : (Cond.fieldLinkNest own index "SoftWheels$Way" "x" "I" host) ∈ lw_tbl) (hdg : decode cc pc = .ok (.getfield index, 3))
    (kk : W p l e R s m args below meth c H locs cells slots Q (F0 m (pc + 3) ls (.int (uWx i) :: rest))) : W p l e R s m args below meth c H locs cells slots Q (F0 m pc ls (.ref a :: rest)) := by
  obtain ⟨cf, k, fi, f, cell, h1, h2, h3, h4, h5, h6⟩ := (u_way hC h).2.2.1.kept hS.2.1
  exact va_Wgetf hC.1.1 hC.1.2.1 hC.1.2.2.2.1 (hC.2.1.2.1.use hlink rfl) h1 h2 h3 h4 h5 rfl rfl hdg kk
theorem u_getWy (hC : uC p s m args meth c G own cc nL ret) (hS : va_S (uA G) s.heap H locs) {host : String} {index i : Nat} (h : uWay (ug G) a = some i) (hlink : (Cond.fieldLinkNest own index "SoftWheels$Way" "y" "I" host) ∈ lw_tbl) (hdg : decode cc pc = .ok (.getfield index, 3))
    (kk : W p l e R s m args below meth c H locs cells slots Q (F0 m (pc + 3) ls (.int (uWy i) :: rest))) : W p l e R s m args below meth c H locs cells slots Q (F0 m pc ls (.ref a :: rest)) := by
  obtain ⟨cf, k, fi, f, cell, h1, h2, h3, h4, h5, h6⟩ := (u_way hC h).2.2.2.kept hS.2.1
  exact va_Wgetf hC.1.1 hC.1.2.1 hC.1.2.2.2.1 (hC.2.1.2.1.use hlink rfl) h1 h2 h3 h4 h5 rfl rfl hdg kk
/-- casts -/
theorem u_castS (hC : uC p s m args meth c G own cc nL ret) (hP : uP G u H) {C : String} {T : u_T} {N ci index : Nat} (hi : uIs u a ci = true) (hc : gCl[ci]? = some (C, T, N)) (hlink : (Cond.classLink own index C) ∈ lw_all) (hdg : decode cc pc = .ok (.checkcast index, 3))
    (kk : W p l e R s m args below meth c H locs cells slots Q (F0 m (pc + 3) ls (.ref a :: rest))) : W p l e R s m args below meth c H locs cells slots Q (F0 m pc ls (.ref a :: rest)) :=
  va_castS hC.1.1 hC.1.2.1 hC.1.2.2.2.1 (hC.1.2.2.2.2 _ hlink) (hC.2.1.1.1 ci _ hc).2 (u_rcv hC hP hi hc) hdg kk
theorem u_castY (hC : uC p s m args meth c G own cc nL ret) (hP : uP G u H) {C nm : String} {T : u_T} {N ci index : Nat} (hi : uIs u a ci = true) (hc : gCl[ci]? = some (C, T, N)) (hcs : (Cond.castable C nm) ∈ lw_tbl) (hlink : (Cond.classLink own index nm) ∈ lw_all) (hdg : decode cc pc = .ok (.checkcast index, 3))
    (kk : W p l e R s m args below meth c H locs cells slots Q (F0 m (pc + 3) ls (.ref a :: rest))) : W p l e R s m args below meth c H locs cells slots Q (F0 m pc ls (.ref a :: rest)) :=
  va_castY hC.1.1 hC.1.2.1 hC.1.2.2.2.1 (hC.1.2.2.2.2 _ hlink) (hC.2.1.2.1 _ hcs rfl) (u_rcv hC hP hi hc) hdg kk
theorem u_any (hC : uC p s m args meth c G own cc nL ret) (hP : uP G u H) {C nm : String} {T : u_T} {N ci : Nat} (hi : uIs u a ci = true) (hc : gCl[ci]? = some (C, T, N)) (hcs : (Cond.castable C nm) ∈ lw_tbl) : va_Any nm s H a := by
  obtain ⟨cell, h1, h2, h3⟩ := u_rcv hC hP hi hc
  obtain ⟨kC, hkC, -⟩ := Vm.findClass_spec h3
  refine ⟨cell, h1, h2, ⟨kC, hkC⟩, fun comp h => ?_⟩
  obtain ⟨c1, t1, e1, e2, e3⟩ := Cond.castable_spec (hC.2.1.2.1 _ hcs rfl)
  cases h3.symm.trans e1
  cases h.symm.trans e2
  exact e3
variable {mc ms : Nat} {aa : Array Value}
theorem u_callFi {r : Int32} (hr : va_Run5 p l e R s m args below meth c H locs cells slots mc ms (F0 m pc ls st) rest (uQi G r u' aa) (uA G)) (hS : va_S (uA G) s.heap H locs)
    (kk : ∀ (H1 : Heap) (locs1 : List Loc), uP G u' H1 → va_S (uA G) s.heap H1 locs1 → W p l e R s m args below meth c H1 locs1 (cells + mc) (slots + ms) Q (F0 m (pc + 5) ls (.int r :: rest))) : W p l e R s m args below meth c H locs cells slots Q (F0 m pc ls st) :=
  va_callFi hr hS (fun _ _ h => h) (fun _ h => h) (fun r' x t H1 locs1 ht hvm hw hB hz hk hS1 => by obtain ⟨rfl, rfl⟩ := hw; exact kk H1 locs1 (by rw [← ht]; exact hB) hS1)
theorem u_callFl {r : Int64} (hr : va_Run5 p l e R s m args below meth c H locs cells slots mc ms (F0 m pc ls st) rest (uQl G r u' aa) (uA G)) (hS : va_S (uA G) s.heap H locs)
    (kk : ∀ (H1 : Heap) (locs1 : List Loc), uP G u' H1 → va_S (uA G) s.heap H1 locs1 → W p l e R s m args below meth c H1 locs1 (cells + mc) (slots + ms) Q (F0 m (pc + 5) ls (.long r :: rest))) : W p l e R s m args below meth c H locs cells slots Q (F0 m pc ls st) :=
  va_callFl hr hS (fun _ _ h => h) (fun _ h => h) (fun r' x t H1 locs1 ht hvm hw hB hz hk hS1 => by obtain ⟨rfl, rfl⟩ := hw; exact kk H1 locs1 (by rw [← ht]; exact hB) hS1)
theorem u_callFv (hr : va_Run5 p l e R s m args below meth c H locs cells slots mc ms (F0 m pc ls st) rest (uQv G u' aa) (uA G)) (hS : va_S (uA G) s.heap H locs)
    (kk : ∀ (H1 : Heap) (locs1 : List Loc), uP G u' H1 → va_S (uA G) s.heap H1 locs1 → W p l e R s m args below meth c H1 locs1 (cells + mc) (slots + ms) Q (F0 m (pc + 5) ls rest)) : W p l e R s m args below meth c H locs cells slots Q (F0 m pc ls st) :=
  va_callFv hr hS (fun _ _ h => h) (fun _ h => h) (fun x t H1 locs1 ht hvm hw hB hz hk hS1 => by cases hw; exact kk H1 locs1 (by rw [← ht]; exact hB) hS1)
theorem u_callFr {r : Option Nat} (hr : va_Run5 p l e R s m args below meth c H locs cells slots mc ms (F0 m pc ls st) rest (uQr G r u' aa) (uA G)) (hS : va_S (uA G) s.heap H locs)
    (kk : ∀ (H1 : Heap) (locs1 : List Loc), uP G u' H1 → va_S (uA G) s.heap H1 locs1 → W p l e R s m args below meth c H1 locs1 (cells + mc) (slots + ms) Q (F0 m (pc + 5) ls (va_rf r :: rest))) : W p l e R s m args below meth c H locs cells slots Q (F0 m pc ls st) :=
  va_callFq hr hS (fun _ _ h => h) (fun _ h => h) (fun r' x t H1 locs1 ht hvm hw hB hz hk hS1 => by obtain ⟨rfl, rfl⟩ := hw; exact kk H1 locs1 (by rw [← ht]; exact hB) hS1)
end UROWS4
